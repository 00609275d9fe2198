/-! Jn_at -/
set_option maxHeartbeats 4000000 in
set_option maxRecDepth 100000 in
theorem cb_Jn_at {E : cj_E} {σ : cj_S} {x0 : Nat} {x1 : Int32} {x2 : Int32} {P : Int32 → cj_S → Prop} (h : (cj_T σ x0 = 3 ∧ (∃ a2, (cj_R σ 300 x0) = some a2 ∧ (cj_T σ a2 = 21 ∧ (vp_in (((4 : Int32) * x1) + x2) (cj_N σ a2) ∧ P (cj_A σ a2 (((4 : Int32) * x1) + x2).toNatClampNeg) σ))))) : cs_Jn_at E σ x0 x1 x2 P :=
  cj_enter (k := 0) (lv := [(0, .ref x0), (1, .int x1), (2, .int x2)]) (by decide) (Nat.le_of_ble_eq_true rfl) rfl (by
    intro d hd p e s m args below meth c hcx H locs ls hW hS hl
    have hx := hcx.1
    have hb := hcx.2.1
    have hown := hcx.2.2.2.2.2.1
    have hts := hcx.2.2.2.2.2.2.1
    refine lv_aload_n (pc := 0) hx hb dX3_at_0 rfl (lv_at hl 0 rfl) ?_
    obtain ⟨g1, h⟩ := h
    refine cj_fld (pc := 1) hcx hW 2 g1 (by decide) rfl in_X3 0 (by decide) (by decide) q227 dX3_at_1 (v := va_rf (cj_R σ 300 x0)) rfl ?_
    refine lv_iconst (pc := 4) (v := (4 : Int32)) hx hb dX3_at_4 (by decide) ?_
    refine lv_iload_n (pc := 5) hx hb dX3_at_5 rfl (lv_at hl 1 rfl) ?_
    refine lv_imul (pc := 6) hx hb dX3_at_6 ?_
    refine lv_iload_n (pc := 7) hx hb dX3_at_7 rfl (lv_at hl 2 rfl) ?_
    refine lv_iadd (pc := 8) hx hb dX3_at_8 ?_
    obtain ⟨a2, e3, h⟩ := h
    refine cj_stk (st' := [.int (((4 : Int32) * x1) + x2), .ref a2]) (by rw [e3]; rfl) ?_
    obtain ⟨g4, h⟩ := h
    obtain ⟨g5, h⟩ := h
    refine cj_iald (pc := 9) hcx hW g4 g5 dX3_at_9 ?_
    exact cj_reti (pc := 10) hcx hW hS rfl h (Nat.le_refl _) (Nat.le_refl _) dX3_at_10)
/-! Jn_keyOf -/
set_option maxHeartbeats 4000000 in
set_option maxRecDepth 100000 in
theorem cb_Jn_keyOf {E : cj_E} {σ : cj_S} {x0 : Nat} {x1 : Int32} {x2 : Int32} {P : Int32 → cj_S → Prop} (h : (cj_T σ x0 = 3 ∧ (∃ a2, (cj_R σ 304 x0) = some a2 ∧ (cj_T σ a2 = 24 ∧ (vp_in x1 (cj_N σ a2) ∧ (∃ a6, (cj_B σ a2 x1.toNatClampNeg) = some a6 ∧ (cj_T σ a6 = 23 ∧ (vp_in x2 (cj_N σ a6) ∧ (∃ a10, (cj_R σ 306 x0) = some a10 ∧ (cj_T σ a10 = 23 ∧ (vp_in x1 (cj_N σ a10) ∧ (∃ a14, (cj_B σ a10 x1.toNatClampNeg) = some a14 ∧ (cj_T σ a14 = 21 ∧ (vp_in x2 (cj_N σ a14) ∧ (∃ a18, (cj_B σ a6 x2.toNatClampNeg) = some a18 ∧ (cj_T σ a18 = 21 ∧ (vp_in (cj_A σ a14 x2.toNatClampNeg) (cj_N σ a18) ∧ P (cj_A σ a18 (cj_A σ a14 x2.toNatClampNeg).toNatClampNeg) σ))))))))))))))))) : cs_Jn_keyOf E σ x0 x1 x2 P :=
  cj_enter (k := 0) (lv := [(0, .ref x0), (1, .int x1), (2, .int x2)]) (by decide) (Nat.le_of_ble_eq_true rfl) rfl (by
    intro d hd p e s m args below meth c hcx H locs ls hW hS hl
    have hx := hcx.1
    have hb := hcx.2.1
    have hown := hcx.2.2.2.2.2.1
    have hts := hcx.2.2.2.2.2.2.1
    refine lv_aload_n (pc := 0) hx hb dX3_keyOf_0 rfl (lv_at hl 0 rfl) ?_
    obtain ⟨g1, h⟩ := h
    refine cj_fld (pc := 1) hcx hW 2 g1 (by decide) rfl in_X3 4 (by decide) (by decide) q232 dX3_keyOf_1 (v := va_rf (cj_R σ 304 x0)) rfl ?_
    refine lv_iload_n (pc := 4) hx hb dX3_keyOf_4 rfl (lv_at hl 1 rfl) ?_
    obtain ⟨a2, e3, h⟩ := h
    refine cj_stk (st' := [.int x1, .ref a2]) (by rw [e3]; rfl) ?_
    obtain ⟨g4, h⟩ := h
    obtain ⟨g5, h⟩ := h
    refine cj_aald (pc := 5) hcx hW g4 (by unfold cj_rt; decide) g5 dX3_keyOf_5 ?_
    refine lv_iload_n (pc := 6) hx hb dX3_keyOf_6 rfl (lv_at hl 2 rfl) ?_
    obtain ⟨a6, e7, h⟩ := h
    refine cj_stk (st' := [.int x2, .ref a6]) (by rw [e7]; rfl) ?_
    obtain ⟨g8, h⟩ := h
    obtain ⟨g9, h⟩ := h
    refine cj_aald (pc := 7) hcx hW g8 (by unfold cj_rt; decide) g9 dX3_keyOf_7 ?_
    refine lv_aload_n (pc := 8) hx hb dX3_keyOf_8 rfl (lv_at hl 0 rfl) ?_
    refine cj_fld (pc := 9) hcx hW 2 g1 (by decide) rfl in_X3 6 (by decide) (by decide) q234 dX3_keyOf_9 (v := va_rf (cj_R σ 306 x0)) rfl ?_
    refine lv_iload_n (pc := 12) hx hb dX3_keyOf_12 rfl (lv_at hl 1 rfl) ?_
    obtain ⟨a10, e11, h⟩ := h
    refine cj_stk (st' := [.int x1, .ref a10, va_rf (cj_B σ a6 x2.toNatClampNeg)]) (by rw [e11]; rfl) ?_
    obtain ⟨g12, h⟩ := h
    obtain ⟨g13, h⟩ := h
    refine cj_aald (pc := 13) hcx hW g12 (by unfold cj_rt; decide) g13 dX3_keyOf_13 ?_
    refine lv_iload_n (pc := 14) hx hb dX3_keyOf_14 rfl (lv_at hl 2 rfl) ?_
    obtain ⟨a14, e15, h⟩ := h
    refine cj_stk (st' := [.int x2, .ref a14, va_rf (cj_B σ a6 x2.toNatClampNeg)]) (by rw [e15]; rfl) ?_
    obtain ⟨g16, h⟩ := h
    obtain ⟨g17, h⟩ := h
    refine cj_iald (pc := 15) hcx hW g16 g17 dX3_keyOf_15 ?_
    obtain ⟨a18, e19, h⟩ := h
    refine cj_stk (st' := [.int (cj_A σ a14 x2.toNatClampNeg), .ref a18]) (by rw [e19]; rfl) ?_
    obtain ⟨g20, h⟩ := h
    obtain ⟨g21, h⟩ := h
    refine cj_iald (pc := 16) hcx hW g20 g21 dX3_keyOf_16 ?_
    exact cj_reti (pc := 17) hcx hW hS rfl h (Nat.le_refl _) (Nat.le_refl _) dX3_keyOf_17)
/-! Jn_row -/
set_option maxHeartbeats 4000000 in
set_option maxRecDepth 100000 in
theorem cb_Jn_row {E : cj_E} {σ : cj_S} {x0 : Nat} {x1 : Int32} {P : Option Nat → cj_S → Prop} (h : (cj_T σ x0 = 3 ∧ (∃ a2, (cj_R σ 300 x0) = some a2 ∧ (∃ a4, (cj_R σ 301 x0) = some a4 ∧ (¬ ((4 : Int32) * x1) < 0 ∧ (cj_T σ a2 = 21 ∧ (cj_T σ a4 = 21 ∧ (((4 : Int32) * x1).toNatClampNeg + (4 : Int32).toNatClampNeg ≤ cj_N σ a2 ∧ ((0 : Int32).toNatClampNeg + (4 : Int32).toNatClampNeg ≤ cj_N σ a4 ∧ P (cj_R σ 301 x0) (cj_mA σ a4 (va_cpy (cj_A σ a2) (cj_A σ a4) ((4 : Int32) * x1).toNatClampNeg (0 : Int32).toNatClampNeg (4 : Int32).toNatClampNeg))))))))))) : cs_Jn_row E σ x0 x1 P :=
  cj_enter (k := 0) (lv := [(0, .ref x0), (1, .int x1)]) (by decide) (Nat.le_of_ble_eq_true rfl) rfl (by
    intro d hd p e s m args below meth c hcx H locs ls hW hS hl
    have hx := hcx.1
    have hb := hcx.2.1
    have hown := hcx.2.2.2.2.2.1
    have hts := hcx.2.2.2.2.2.2.1
    refine lv_aload_n (pc := 0) hx hb dX3_row_0 rfl (lv_at hl 0 rfl) ?_
    obtain ⟨g1, h⟩ := h
    refine cj_fld (pc := 1) hcx hW 2 g1 (by decide) rfl in_X3 0 (by decide) (by decide) q227 dX3_row_1 (v := va_rf (cj_R σ 300 x0)) rfl ?_
    refine lv_iconst (pc := 4) (v := (4 : Int32)) hx hb dX3_row_4 (by decide) ?_
    refine lv_iload_n (pc := 5) hx hb dX3_row_5 rfl (lv_at hl 1 rfl) ?_
    refine lv_imul (pc := 6) hx hb dX3_row_6 ?_
    refine lv_aload_n (pc := 7) hx hb dX3_row_7 rfl (lv_at hl 0 rfl) ?_
    refine cj_fld (pc := 8) hcx hW 2 g1 (by decide) rfl in_X3 1 (by decide) (by decide) q228 dX3_row_8 (v := va_rf (cj_R σ 301 x0)) rfl ?_
    refine lv_iconst (pc := 11) (v := (0 : Int32)) hx hb dX3_row_11 (by decide) ?_
    refine lv_iconst (pc := 12) (v := (4 : Int32)) hx hb dX3_row_12 (by decide) ?_
    obtain ⟨a2, e3, h⟩ := h
    refine cj_stk (st' := [.int (4 : Int32), .int (0 : Int32), va_rf (cj_R σ 301 x0), .int ((4 : Int32) * x1), .ref a2]) (by rw [e3]; rfl) ?_
    obtain ⟨a4, e5, h⟩ := h
    refine cj_stk (st' := [.int (4 : Int32), .int (0 : Int32), .ref a4, .int ((4 : Int32) * x1), .ref a2]) (by rw [e5]; rfl) ?_
    obtain ⟨g6, h⟩ := h
    obtain ⟨g7, h⟩ := h
    obtain ⟨g8, h⟩ := h
    obtain ⟨g9, h⟩ := h
    obtain ⟨g10, h⟩ := h
    refine cj_copyi (pc := 13) hcx hW hS hl.1 g7 g8 q1030 g6 (by decide) (by decide) g9 g10 (Nat.le_add_left 1 _) (cj_lr (Nat.le_of_ble_eq_true rfl)) dX3_row_13 (fun H locs hW hS => ?_)
    refine lv_aload_n (pc := 16) hx hb dX3_row_16 rfl (lv_at hl 0 rfl) ?_
    refine cj_fld (pc := 17) hcx hW 2 g1 (by decide) rfl in_X3 1 (by decide) (by decide) q228 dX3_row_17 (v := va_rf (cj_R σ 301 x0)) rfl ?_
    exact cj_retq (pc := 20) (r := (cj_R σ 301 x0)) hcx hW hS (Or.inr ⟨_, rfl⟩) h (Nat.le_refl _) (Nat.le_refl _) dX3_row_20)
/-! L_bring -/
set_option maxHeartbeats 4000000 in
set_option maxRecDepth 100000 in
theorem cb_L_bring_3 {E : cj_E} {σ : cj_S} {x0 : Nat} {x1 : Int32} {x2 : Int32} {P : cj_S → Prop} (h : ((x2 < 0 → P σ) ∧ (¬ x2 < 0 → ((((x1 >>> (x2 &&& 31)) &&& (255 : Int32)) = 0 → cg_L_bring_3 E σ x0 x1 (x2 + (-8 : Int32)) P) ∧ (¬ ((x1 >>> (x2 &&& 31)) &&& (255 : Int32)) = 0 → (cj_T σ x0 = 1 ∧ (∃ a4, (cj_R σ 100 x0) = some a4 ∧ (cj_T σ a4 = 20 ∧ (vp_in (cj_F σ 101 x0) (cj_N σ a4) ∧ cg_L_bring_3 E (cj_sF (cj_sA σ a4 (cj_F σ 101 x0).toNatClampNeg (x1 >>> (x2 &&& 31)).toInt8.toInt32) 101 x0 ((cj_F σ 101 x0) + (1 : Int32))) x0 x1 (x2 + (-8 : Int32)) P))))))))) : cg_L_bring_3 E σ x0 x1 x2 P := by
  intro d hd p e s m args below meth c hcx H locs ls hW hS hl
  have hx := hcx.1
  have hb := hcx.2.1
  have hown := hcx.2.2.2.2.2.1
  have hts := hcx.2.2.2.2.2.2.1
  refine lv_iload_n (pc := 3) hx hb dX1_bring_3 rfl (lv_at hl 2 rfl) ?_
  refine lv_if_lt (pc := 4) (tgt := 49) hx hb dX1_bring_4 (by decide) (fun c1 => ?_) (fun c1 => ?_)
  · have h := h.1 c1
    exact cj_retv (pc := 49) hcx hW hS h (Nat.le_refl _) (Nat.le_refl _) dX1_bring_49
  · have h := h.2 c1
    refine lv_iload_n (pc := 7) hx hb dX1_bring_7 rfl (lv_at hl 1 rfl) ?_
    refine lv_iload_n (pc := 8) hx hb dX1_bring_8 rfl (lv_at hl 2 rfl) ?_
    refine lv_ishr (pc := 9) hx hb dX1_bring_9 ?_
    refine lv_sipush (pc := 10) (v := (255 : Int32)) hx hb dX1_bring_10 (by decide) ?_
    refine lv_iand (pc := 13) hx hb dX1_bring_13 ?_
    refine lv_if_ne (pc := 14) (tgt := 20) hx hb dX1_bring_14 (by decide) (fun c2 => ?_) (fun c2 => ?_)
    · have h := h.2 c2
      refine lv_aload_n (pc := 20) hx hb dX1_bring_20 rfl (lv_at hl 0 rfl) ?_
      obtain ⟨g3, h⟩ := h
      refine cj_fld (pc := 21) hcx hW 0 g3 (by decide) rfl in_X1 0 (by decide) (by decide) q273 dX1_bring_21 (v := va_rf (cj_R σ 100 x0)) rfl ?_
      refine lv_aload_n (pc := 24) hx hb dX1_bring_24 rfl (lv_at hl 0 rfl) ?_
      refine cj_fld (pc := 25) hcx hW 0 g3 (by decide) rfl in_X1 1 (by decide) (by decide) q275 dX1_bring_25 (v := .int (cj_F σ 101 x0)) rfl ?_
      refine lv_iload_n (pc := 28) hx hb dX1_bring_28 rfl (lv_at hl 1 rfl) ?_
      refine lv_iload_n (pc := 29) hx hb dX1_bring_29 rfl (lv_at hl 2 rfl) ?_
      refine lv_ishr (pc := 30) hx hb dX1_bring_30 ?_
      refine lv_i2b (pc := 31) hx hb dX1_bring_31 rfl ?_
      obtain ⟨a4, e5, h⟩ := h
      refine cj_stk (st' := [.int (x1 >>> (x2 &&& 31)).toInt8.toInt32, .int (cj_F σ 101 x0), .ref a4]) (by rw [e5]; rfl) ?_
      obtain ⟨g6, h⟩ := h
      obtain ⟨g7, h⟩ := h
      refine cj_bast (pc := 32) hcx hW hS g6 g7 (pk_vb _) dX1_bring_32 (fun H locs hW hS => ?_)
      refine lv_aload_n (pc := 33) hx hb dX1_bring_33 rfl (lv_at hl 0 rfl) ?_
      refine lv_dup (pc := 34) hx hb dX1_bring_34 rfl ?_
      refine cj_fld (pc := 35) hcx hW 0 g3 (by decide) rfl in_X1 1 (by decide) (by decide) q275 dX1_bring_35 (v := .int (cj_F σ 101 x0)) rfl ?_
      refine lv_iconst (pc := 38) (v := (1 : Int32)) hx hb dX1_bring_38 (by decide) ?_
      refine lv_iadd (pc := 39) hx hb dX1_bring_39 ?_
      refine cj_put (pc := 40) (σ1 := (cj_sF (cj_sA σ a4 (cj_F σ 101 x0).toNatClampNeg (x1 >>> (x2 &&& 31)).toInt8.toInt32) 101 x0 ((cj_F σ 101 x0) + (1 : Int32)))) hcx hW hS 0 g3 (by decide) rfl in_X1 tyX1_ok nmX1 1 (by decide) (by decide) rfl rfl rfl (cj_pI rfl) q275 dX1_bring_40 (fun H locs hW hS => ?_)
      refine lv_iinc (pc := 43) (v := (x2 + (-8 : Int32))) (lv' := [(2, .int (x2 + (-8 : Int32))), (0, .ref x0), (1, .int x1)]) hx hb dX1_bring_43 hl (k := 2) rfl rfl (by decide) rfl (fun ls hl => ?_)
      refine lv_goto (pc := 46) (tgt := 3) hx hb dX1_bring_46 (by decide) ?_
      exact h d hd p e s m args below meth c hcx H locs _ hW hS (lv_sub hl [1, 2, 0] rfl)
    · have h := h.1 c2
      refine lv_goto (pc := 17) (tgt := 43) hx hb dX1_bring_17 (by decide) ?_
      refine lv_iinc (pc := 43) (v := (x2 + (-8 : Int32))) (lv' := [(2, .int (x2 + (-8 : Int32))), (0, .ref x0), (1, .int x1)]) hx hb dX1_bring_43 hl (k := 2) rfl rfl (by decide) rfl (fun ls hl => ?_)
      refine lv_goto (pc := 46) (tgt := 3) hx hb dX1_bring_46 (by decide) ?_
      exact h d hd p e s m args below meth c hcx H locs _ hW hS (lv_sub hl [1, 2, 0] rfl)
set_option maxHeartbeats 4000000 in
set_option maxRecDepth 100000 in
theorem cb_L_bring {E : cj_E} {σ : cj_S} {x0 : Nat} {x1 : Int32} {P : cj_S → Prop} (h : cg_L_bring_3 E σ x0 x1 (24 : Int32) P) : cs_L_bring E σ x0 x1 P :=
  cj_enter (k := 0) (lv := [(0, .ref x0), (1, .int x1)]) (by decide) (Nat.le_of_ble_eq_true rfl) rfl (by
    intro d hd p e s m args below meth c hcx H locs ls hW hS hl
    have hx := hcx.1
    have hb := hcx.2.1
    have hown := hcx.2.2.2.2.2.1
    have hts := hcx.2.2.2.2.2.2.1
    refine lv_bipush (pc := 0) (v := (24 : Int32)) hx hb dX1_bring_0 (by decide) ?_
    refine lv_istore_n (pc := 2) (lv' := [(2, .int (24 : Int32)), (0, .ref x0), (1, .int x1)]) hx hb dX1_bring_2 rfl hl (by decide) rfl (fun ls hl => ?_)
    exact h d hd p e s m args below meth c hcx H locs _ hW hS (lv_sub hl [1, 2, 0] rfl))
/-! L_bytes -/
set_option maxHeartbeats 4000000 in
set_option maxRecDepth 100000 in
theorem cb_L_bytes_5 {E : cj_E} {σ : cj_S} {x0 : Int32} {x1 : Int32} {x2 : Int32} {P : Int32 → cj_S → Prop} (h : ((x2 < 0 → P x1 σ) ∧ (¬ x2 < 0 → ((((x0 >>> (x2 &&& 31)) &&& (255 : Int32)) = 0 → cg_L_bytes_5 E σ x0 (x1 + (0 : Int32)) (x2 + (-8 : Int32)) P) ∧ (¬ ((x0 >>> (x2 &&& 31)) &&& (255 : Int32)) = 0 → cg_L_bytes_5 E σ x0 (x1 + (1 : Int32)) (x2 + (-8 : Int32)) P))))) : cg_L_bytes_5 E σ x0 x1 x2 P := by
  intro d hd p e s m args below meth c hcx H locs ls hW hS hl
  have hx := hcx.1
  have hb := hcx.2.1
  have hown := hcx.2.2.2.2.2.1
  have hts := hcx.2.2.2.2.2.2.1
  refine lv_iload_n (pc := 5) hx hb dX1_bytes_5 rfl (lv_at hl 2 rfl) ?_
  refine lv_if_lt (pc := 6) (tgt := 33) hx hb dX1_bytes_6 (by decide) (fun c1 => ?_) (fun c1 => ?_)
  · have h := h.1 c1
    refine lv_iload_n (pc := 33) hx hb dX1_bytes_33 rfl (lv_at hl 1 rfl) ?_
    exact cj_reti (pc := 34) hcx hW hS rfl h (Nat.le_refl _) (Nat.le_refl _) dX1_bytes_34
  · have h := h.2 c1
    refine lv_iload_n (pc := 9) hx hb dX1_bytes_9 rfl (lv_at hl 1 rfl) ?_
    refine lv_iload_n (pc := 10) hx hb dX1_bytes_10 rfl (lv_at hl 0 rfl) ?_
    refine lv_iload_n (pc := 11) hx hb dX1_bytes_11 rfl (lv_at hl 2 rfl) ?_
    refine lv_ishr (pc := 12) hx hb dX1_bytes_12 ?_
    refine lv_sipush (pc := 13) (v := (255 : Int32)) hx hb dX1_bytes_13 (by decide) ?_
    refine lv_iand (pc := 16) hx hb dX1_bytes_16 ?_
    refine lv_if_eq (pc := 17) (tgt := 24) hx hb dX1_bytes_17 (by decide) (fun c2 => ?_) (fun c2 => ?_)
    · have h := h.1 c2
      refine lv_iconst (pc := 24) (v := (0 : Int32)) hx hb dX1_bytes_24 (by decide) ?_
      refine lv_iadd (pc := 25) hx hb dX1_bytes_25 ?_
      refine lv_istore_n (pc := 26) (lv' := [(1, .int (x1 + (0 : Int32))), (0, .int x0), (2, .int x2)]) hx hb dX1_bytes_26 rfl hl (by decide) rfl (fun ls hl => ?_)
      refine lv_iinc (pc := 27) (v := (x2 + (-8 : Int32))) (lv' := [(2, .int (x2 + (-8 : Int32))), (1, .int (x1 + (0 : Int32))), (0, .int x0)]) hx hb dX1_bytes_27 hl (k := 2) rfl rfl (by decide) rfl (fun ls hl => ?_)
      refine lv_goto (pc := 30) (tgt := 5) hx hb dX1_bytes_30 (by decide) ?_
      exact h d hd p e s m args below meth c hcx H locs _ hW hS (lv_sub hl [2, 1, 0] rfl)
    · have h := h.2 c2
      refine lv_iconst (pc := 20) (v := (1 : Int32)) hx hb dX1_bytes_20 (by decide) ?_
      refine lv_goto (pc := 21) (tgt := 25) hx hb dX1_bytes_21 (by decide) ?_
      refine lv_iadd (pc := 25) hx hb dX1_bytes_25 ?_
      refine lv_istore_n (pc := 26) (lv' := [(1, .int (x1 + (1 : Int32))), (0, .int x0), (2, .int x2)]) hx hb dX1_bytes_26 rfl hl (by decide) rfl (fun ls hl => ?_)
      refine lv_iinc (pc := 27) (v := (x2 + (-8 : Int32))) (lv' := [(2, .int (x2 + (-8 : Int32))), (1, .int (x1 + (1 : Int32))), (0, .int x0)]) hx hb dX1_bytes_27 hl (k := 2) rfl rfl (by decide) rfl (fun ls hl => ?_)
      refine lv_goto (pc := 30) (tgt := 5) hx hb dX1_bytes_30 (by decide) ?_
      exact h d hd p e s m args below meth c hcx H locs _ hW hS (lv_sub hl [2, 1, 0] rfl)
set_option maxHeartbeats 4000000 in
set_option maxRecDepth 100000 in
theorem cb_L_bytes {E : cj_E} {σ : cj_S} {x0 : Int32} {P : Int32 → cj_S → Prop} (h : cg_L_bytes_5 E σ x0 (0 : Int32) (24 : Int32) P) : cs_L_bytes E σ x0 P :=
  cj_enter (k := 0) (lv := [(0, .int x0)]) (by decide) (Nat.le_of_ble_eq_true rfl) rfl (by
    intro d hd p e s m args below meth c hcx H locs ls hW hS hl
    have hx := hcx.1
    have hb := hcx.2.1
    have hown := hcx.2.2.2.2.2.1
    have hts := hcx.2.2.2.2.2.2.1
    refine lv_iconst (pc := 0) (v := (0 : Int32)) hx hb dX1_bytes_0 (by decide) ?_
    refine lv_istore_n (pc := 1) (lv' := [(1, .int (0 : Int32)), (0, .int x0)]) hx hb dX1_bytes_1 rfl hl (by decide) rfl (fun ls hl => ?_)
    refine lv_bipush (pc := 2) (v := (24 : Int32)) hx hb dX1_bytes_2 (by decide) ?_
    refine lv_istore_n (pc := 4) (lv' := [(2, .int (24 : Int32)), (1, .int (0 : Int32)), (0, .int x0)]) hx hb dX1_bytes_4 rfl hl (by decide) rfl (fun ls hl => ?_)
    exact h d hd p e s m args below meth c hcx H locs _ hW hS (lv_sub hl [2, 1, 0] rfl))
/-! L_count -/
set_option maxHeartbeats 4000000 in
set_option maxRecDepth 100000 in
theorem cb_L_count {E : cj_E} {σ : cj_S} {x0 : Nat} {x1 : Int32} {P : Int32 → cj_S → Prop} (h : ((x1 = (0 : Int32) → (cj_T σ x0 = 1 ∧ P (cj_F σ 107 x0) σ)) ∧ (¬ x1 = (0 : Int32) → ((x1 = (1 : Int32) → (cj_T σ x0 = 1 ∧ P (cj_F σ 105 x0) σ)) ∧ (¬ x1 = (1 : Int32) → ((x1 = (2 : Int32) → (cj_T σ x0 = 1 ∧ P (cj_F σ 101 x0) σ)) ∧ (¬ x1 = (2 : Int32) → ((x1 = (3 : Int32) → (cj_T σ x0 = 1 ∧ (((cj_F σ 107 x0) = 0 → P (0 : Int32) σ) ∧ (¬ (cj_F σ 107 x0) = 0 → (∃ a10, (cj_R σ 109 x0) = some a10 ∧ (cj_T σ a10 = 2 ∧ P (cj_F σ 204 a10) σ)))))) ∧ (¬ x1 = (3 : Int32) → ((x1 = (4 : Int32) → (cj_T σ x0 = 1 ∧ P (cj_F σ 115 x0) σ)) ∧ (¬ x1 = (4 : Int32) → P (-1000000 : Int32) σ))))))))))) : cs_L_count E σ x0 x1 P :=
  cj_enter (k := 0) (lv := [(0, .ref x0), (1, .int x1)]) (by decide) (Nat.le_of_ble_eq_true rfl) rfl (by
    intro d hd p e s m args below meth c hcx H locs ls hW hS hl
    have hx := hcx.1
    have hb := hcx.2.1
    have hown := hcx.2.2.2.2.2.1
    have hts := hcx.2.2.2.2.2.2.1
    refine lv_iload_n (pc := 0) hx hb dX1_count_0 rfl (lv_at hl 1 rfl) ?_
    by_cases c1 : x1 = (0 : Int32)
    · have h := h.1 c1
      refine lv_tableIn (pc := 1) (off := 35) (tgt := 36) hx hb dX1_count_1 (by rw [c1]; decide) (by rw [c1]; decide) (by rw [c1]; rfl) (by decide) ?_
      refine lv_aload_n (pc := 36) hx hb dX1_count_36 rfl (lv_at hl 0 rfl) ?_
      obtain ⟨g2, h⟩ := h
      refine cj_fld (pc := 37) hcx hW 0 g2 (by decide) rfl in_X1 7 (by decide) (by decide) q284 dX1_count_37 (v := .int (cj_F σ 107 x0)) rfl ?_
      exact cj_reti (pc := 40) hcx hW hS rfl h (Nat.le_refl _) (Nat.le_refl _) dX1_count_40
    · have h := h.2 c1
      by_cases c3 : x1 = (1 : Int32)
      · have h := h.1 c3
        refine lv_tableIn (pc := 1) (off := 40) (tgt := 41) hx hb dX1_count_1 (by rw [c3]; decide) (by rw [c3]; decide) (by rw [c3]; rfl) (by decide) ?_
        refine lv_aload_n (pc := 41) hx hb dX1_count_41 rfl (lv_at hl 0 rfl) ?_
        obtain ⟨g4, h⟩ := h
        refine cj_fld (pc := 42) hcx hW 0 g4 (by decide) rfl in_X1 5 (by decide) (by decide) q280 dX1_count_42 (v := .int (cj_F σ 105 x0)) rfl ?_
        exact cj_reti (pc := 45) hcx hW hS rfl h (Nat.le_refl _) (Nat.le_refl _) dX1_count_45
      · have h := h.2 c3
        by_cases c5 : x1 = (2 : Int32)
        · have h := h.1 c5
          refine lv_tableIn (pc := 1) (off := 45) (tgt := 46) hx hb dX1_count_1 (by rw [c5]; decide) (by rw [c5]; decide) (by rw [c5]; rfl) (by decide) ?_
          refine lv_aload_n (pc := 46) hx hb dX1_count_46 rfl (lv_at hl 0 rfl) ?_
          obtain ⟨g6, h⟩ := h
          refine cj_fld (pc := 47) hcx hW 0 g6 (by decide) rfl in_X1 1 (by decide) (by decide) q275 dX1_count_47 (v := .int (cj_F σ 101 x0)) rfl ?_
          exact cj_reti (pc := 50) hcx hW hS rfl h (Nat.le_refl _) (Nat.le_refl _) dX1_count_50
        · have h := h.2 c5
          by_cases c7 : x1 = (3 : Int32)
          · have h := h.1 c7
            refine lv_tableIn (pc := 1) (off := 50) (tgt := 51) hx hb dX1_count_1 (by rw [c7]; decide) (by rw [c7]; decide) (by rw [c7]; rfl) (by decide) ?_
            refine lv_aload_n (pc := 51) hx hb dX1_count_51 rfl (lv_at hl 0 rfl) ?_
            obtain ⟨g8, h⟩ := h
            refine cj_fld (pc := 52) hcx hW 0 g8 (by decide) rfl in_X1 7 (by decide) (by decide) q284 dX1_count_52 (v := .int (cj_F σ 107 x0)) rfl ?_
            refine lv_if_ne (pc := 55) (tgt := 62) hx hb dX1_count_55 (by decide) (fun c9 => ?_) (fun c9 => ?_)
            · have h := h.2 c9
              refine lv_aload_n (pc := 62) hx hb dX1_count_62 rfl (lv_at hl 0 rfl) ?_
              refine cj_fld (pc := 63) hcx hW 0 g8 (by decide) rfl in_X1 9 (by decide) (by decide) q286 dX1_count_63 (v := va_rf (cj_R σ 109 x0)) rfl ?_
              obtain ⟨a10, e11, h⟩ := h
              refine cj_stk (st' := [.ref a10]) (by rw [e11]; rfl) ?_
              obtain ⟨g12, h⟩ := h
              refine cj_fldN (pc := 66) hcx hW 1 g12 (by decide) rfl in_X2 4 (by decide) (by decide) (List.mem_of_getElem? (i := 4) rfl) dX1_count_66 (v := .int (cj_F σ 204 a10)) rfl ?_
              exact cj_reti (pc := 69) hcx hW hS rfl h (Nat.le_refl _) (Nat.le_refl _) dX1_count_69
            · have h := h.1 c9
              refine lv_iconst (pc := 58) (v := (0 : Int32)) hx hb dX1_count_58 (by decide) ?_
              refine lv_goto (pc := 59) (tgt := 69) hx hb dX1_count_59 (by decide) ?_
              exact cj_reti (pc := 69) hcx hW hS rfl h (Nat.le_refl _) (Nat.le_refl _) dX1_count_69
          · have h := h.2 c7
            by_cases c13 : x1 = (4 : Int32)
            · have h := h.1 c13
              refine lv_tableIn (pc := 1) (off := 69) (tgt := 70) hx hb dX1_count_1 (by rw [c13]; decide) (by rw [c13]; decide) (by rw [c13]; rfl) (by decide) ?_
              refine lv_aload_n (pc := 70) hx hb dX1_count_70 rfl (lv_at hl 0 rfl) ?_
              obtain ⟨g14, h⟩ := h
              refine cj_fld (pc := 71) hcx hW 0 g14 (by decide) rfl in_X1 15 (by decide) (by decide) q292 dX1_count_71 (v := .int (cj_F σ 115 x0)) rfl ?_
              exact cj_reti (pc := 74) hcx hW hS rfl h (Nat.le_refl _) (Nat.le_refl _) dX1_count_74
            · have h := h.2 c13
              refine lv_tableOut (pc := 1) (tgt := 75) hx hb dX1_count_1 (cj_sw5 c1 c3 c5 c7 c13) (by decide) ?_
              refine lv_ldc (pc := 75) (v := (-1000000 : Int32)) hx hb hown (hts _ q946) dX1_count_75 ?_
              exact cj_reti (pc := 77) hcx hW hS rfl h (Nat.le_refl _) (Nat.le_refl _) dX1_count_77)
/-! L_draw -/
set_option maxHeartbeats 4000000 in
set_option maxRecDepth 100000 in
theorem cb_L_draw {E : cj_E} {σ : cj_S} {x0 : Nat} {x1 : Int32} {P : Int32 → cj_S → Prop} (h : (cj_T σ x0 = 1 ∧ (¬ (x1).toInt64 = 0 ∧ P ((((cj_J (cj_sJ σ x0 (((cj_J σ x0) * (6364136223846793005 : Int64)) + (1442695040888963407 : Int64))) x0).toUInt64 >>> ((33 : Int32).toInt64.toUInt64 &&& Int64.toUInt64 63)).toInt64) - (((cj_J (cj_sJ σ x0 (((cj_J σ x0) * (6364136223846793005 : Int64)) + (1442695040888963407 : Int64))) x0).toUInt64 >>> ((33 : Int32).toInt64.toUInt64 &&& Int64.toUInt64 63)).toInt64) / (x1).toInt64 * (x1).toInt64).toInt32 (cj_sJ σ x0 (((cj_J σ x0) * (6364136223846793005 : Int64)) + (1442695040888963407 : Int64)))))) : cs_L_draw E σ x0 x1 P :=
  cj_enter (k := 0) (lv := [(0, .ref x0), (1, .int x1)]) (by decide) (Nat.le_of_ble_eq_true rfl) rfl (by
    intro d hd p e s m args below meth c hcx H locs ls hW hS hl
    have hx := hcx.1
    have hb := hcx.2.1
    have hown := hcx.2.2.2.2.2.1
    have hts := hcx.2.2.2.2.2.2.1
    refine lv_aload_n (pc := 0) hx hb dX1_draw_0 rfl (lv_at hl 0 rfl) ?_
    refine lv_aload_n (pc := 1) hx hb dX1_draw_1 rfl (lv_at hl 0 rfl) ?_
    obtain ⟨g1, h⟩ := h
    refine cj_fld (pc := 2) hcx hW 0 g1 (by decide) rfl in_X1 17 (by decide) (by decide) q294 dX1_draw_2 (v := .long (cj_J σ x0)) rfl ?_
    refine lv_ldc2 (pc := 5) (v := (6364136223846793005 : Int64)) hx hb hown (hts _ q960) dX1_draw_5 ?_
    refine lv_lmul (pc := 8) hx hb dX1_draw_8 ?_
    refine lv_ldc2 (pc := 9) (v := (1442695040888963407 : Int64)) hx hb hown (hts _ q961) dX1_draw_9 ?_
    refine lv_ladd (pc := 12) hx hb dX1_draw_12 ?_
    refine cj_put (pc := 13) (σ1 := (cj_sJ σ x0 (((cj_J σ x0) * (6364136223846793005 : Int64)) + (1442695040888963407 : Int64)))) hcx hW hS 0 g1 (by decide) rfl in_X1 tyX1_ok nmX1 17 (by decide) (by decide) rfl rfl rfl (cj_pJ rfl (by decide)) q294 dX1_draw_13 (fun H locs hW hS => ?_)
    refine lv_aload_n (pc := 16) hx hb dX1_draw_16 rfl (lv_at hl 0 rfl) ?_
    refine cj_fld (pc := 17) hcx hW 0 g1 (by decide) rfl in_X1 17 (by decide) (by decide) q294 dX1_draw_17 (v := .long (cj_J (cj_sJ σ x0 (((cj_J σ x0) * (6364136223846793005 : Int64)) + (1442695040888963407 : Int64))) x0)) rfl ?_
    refine lv_bipush (pc := 20) (v := (33 : Int32)) hx hb dX1_draw_20 (by decide) ?_
    refine lv_lushr (pc := 22) hx hb dX1_draw_22 rfl ?_
    refine lv_iload_n (pc := 23) hx hb dX1_draw_23 rfl (lv_at hl 1 rfl) ?_
    refine lv_i2l (pc := 24) hx hb dX1_draw_24 rfl ?_
    obtain ⟨g2, h⟩ := h
    refine lv_lrem (pc := 25) hx hb dX1_draw_25 g2 ?_
    refine lv_l2i (pc := 26) hx hb dX1_draw_26 rfl ?_
    exact cj_reti (pc := 27) hcx hW hS rfl h (Nat.le_refl _) (Nat.le_refl _) dX1_draw_27)
/-! L_end -/
set_option maxHeartbeats 4000000 in
set_option maxRecDepth 100000 in
theorem cb_L_end {E : cj_E} {σ : cj_S} {x0 : Nat} {x1 : Int32} {P : Int32 → cj_S → Prop} (h : ((x1 < 0 → P (0 : Int32) σ) ∧ (¬ x1 < 0 → (cj_T σ x0 = 1 ∧ ((x1 ≤ (cj_F σ 101 x0) → P (1 : Int32) (cj_sF σ 101 x0 x1)) ∧ (¬ x1 ≤ (cj_F σ 101 x0) → P (0 : Int32) σ)))))) : cs_L_end E σ x0 x1 P :=
  cj_enter (k := 0) (lv := [(0, .ref x0), (1, .int x1)]) (by decide) (Nat.le_of_ble_eq_true rfl) rfl (by
    intro d hd p e s m args below meth c hcx H locs ls hW hS hl
    have hx := hcx.1
    have hb := hcx.2.1
    have hown := hcx.2.2.2.2.2.1
    have hts := hcx.2.2.2.2.2.2.1
    refine lv_iload_n (pc := 0) hx hb dX1_end_0 rfl (lv_at hl 1 rfl) ?_
    refine lv_if_lt (pc := 1) (tgt := 12) hx hb dX1_end_1 (by decide) (fun c1 => ?_) (fun c1 => ?_)
    · have h := h.1 c1
      refine lv_iconst (pc := 12) (v := (0 : Int32)) hx hb dX1_end_12 (by decide) ?_
      exact cj_reti (pc := 13) hcx hW hS rfl h (Nat.le_refl _) (Nat.le_refl _) dX1_end_13
    · have h := h.2 c1
      refine lv_iload_n (pc := 4) hx hb dX1_end_4 rfl (lv_at hl 1 rfl) ?_
      refine lv_aload_n (pc := 5) hx hb dX1_end_5 rfl (lv_at hl 0 rfl) ?_
      obtain ⟨g2, h⟩ := h
      refine cj_fld (pc := 6) hcx hW 0 g2 (by decide) rfl in_X1 1 (by decide) (by decide) q275 dX1_end_6 (v := .int (cj_F σ 101 x0)) rfl ?_
      refine lv_icmp_le (pc := 9) (tgt := 14) hx hb dX1_end_9 (by decide) (fun c3 => ?_) (fun c3 => ?_)
      · have h := h.1 c3
        refine lv_aload_n (pc := 14) hx hb dX1_end_14 rfl (lv_at hl 0 rfl) ?_
        refine lv_iload_n (pc := 15) hx hb dX1_end_15 rfl (lv_at hl 1 rfl) ?_
        refine cj_put (pc := 16) (σ1 := (cj_sF σ 101 x0 x1)) hcx hW hS 0 g2 (by decide) rfl in_X1 tyX1_ok nmX1 1 (by decide) (by decide) rfl rfl rfl (cj_pI rfl) q275 dX1_end_16 (fun H locs hW hS => ?_)
        refine lv_iconst (pc := 19) (v := (1 : Int32)) hx hb dX1_end_19 (by decide) ?_
        exact cj_reti (pc := 20) hcx hW hS rfl h (Nat.le_refl _) (Nat.le_refl _) dX1_end_20
      · have h := h.2 c3
        refine lv_iconst (pc := 12) (v := (0 : Int32)) hx hb dX1_end_12 (by decide) ?_
        exact cj_reti (pc := 13) hcx hW hS rfl h (Nat.le_refl _) (Nat.le_refl _) dX1_end_13)
/-! L_has -/
set_option maxHeartbeats 4000000 in
set_option maxRecDepth 100000 in
theorem cb_L_has {E : cj_E} {σ : cj_S} {x0 : Int32} {x1 : Int32} {P : Int32 → cj_S → Prop} (h : ((((x0 >>> (x1 &&& 31)) &&& (1 : Int32)) = (1 : Int32) → P (1 : Int32) σ) ∧ (¬ ((x0 >>> (x1 &&& 31)) &&& (1 : Int32)) = (1 : Int32) → P (0 : Int32) σ))) : cs_L_has E σ x0 x1 P :=
  cj_enter (k := 0) (lv := [(0, .int x0), (1, .int x1)]) (by decide) (Nat.le_of_ble_eq_true rfl) rfl (by
    intro d hd p e s m args below meth c hcx H locs ls hW hS hl
    have hx := hcx.1
    have hb := hcx.2.1
    have hown := hcx.2.2.2.2.2.1
    have hts := hcx.2.2.2.2.2.2.1
    refine lv_iload_n (pc := 0) hx hb dX1_has_0 rfl (lv_at hl 0 rfl) ?_
    refine lv_iload_n (pc := 1) hx hb dX1_has_1 rfl (lv_at hl 1 rfl) ?_
    refine lv_ishr (pc := 2) hx hb dX1_has_2 ?_
    refine lv_iconst (pc := 3) (v := (1 : Int32)) hx hb dX1_has_3 (by decide) ?_
    refine lv_iand (pc := 4) hx hb dX1_has_4 ?_
    refine lv_iconst (pc := 5) (v := (1 : Int32)) hx hb dX1_has_5 (by decide) ?_
    refine lv_icmp_ne (pc := 6) (tgt := 13) hx hb dX1_has_6 (by decide) (fun c1 => ?_) (fun c1 => ?_)
    · have h := h.2 c1
      refine lv_iconst (pc := 13) (v := (0 : Int32)) hx hb dX1_has_13 (by decide) ?_
      exact cj_reti (pc := 14) hcx hW hS rfl h (Nat.le_refl _) (Nat.le_refl _) dX1_has_14
    · have h := h.1 c1
      refine lv_iconst (pc := 9) (v := (1 : Int32)) hx hb dX1_has_9 (by decide) ?_
      refine lv_goto (pc := 10) (tgt := 14) hx hb dX1_has_10 (by decide) ?_
      exact cj_reti (pc := 14) hcx hW hS rfl h (Nat.le_refl _) (Nat.le_refl _) dX1_has_14)
/-! L_isIn -/
set_option maxHeartbeats 4000000 in
set_option maxRecDepth 100000 in
theorem cb_L_isIn {E : cj_E} {σ : cj_S} {x0 : Int64} {x2 : Int64} {x4 : Int64} {P : Int32 → cj_S → Prop} (h : (((lg_cmp x0 x2) < 0 → P (0 : Int32) σ) ∧ (¬ (lg_cmp x0 x2) < 0 → ((0 < (lg_cmp x0 x4) → P (0 : Int32) σ) ∧ (¬ 0 < (lg_cmp x0 x4) → P (1 : Int32) σ))))) : cs_L_isIn E σ x0 x2 x4 P :=
  cj_enter (k := 0) (lv := [(0, .long x0), (2, .long x2), (4, .long x4)]) (by decide) (Nat.le_of_ble_eq_true rfl) rfl (by
    intro d hd p e s m args below meth c hcx H locs ls hW hS hl
    have hx := hcx.1
    have hb := hcx.2.1
    have hown := hcx.2.2.2.2.2.1
    have hts := hcx.2.2.2.2.2.2.1
    refine lv_lload_n (pc := 0) hx hb dX1_isIn_0 rfl (lv_at hl 0 rfl) ?_
    refine lv_lload_n (pc := 1) hx hb dX1_isIn_1 rfl (lv_at hl 1 rfl) ?_
    refine W.lcmp (pc := 2) hx hb dX1_isIn_2 ?_
    refine lv_if_lt (pc := 3) (tgt := 17) hx hb dX1_isIn_3 (by decide) (fun c1 => ?_) (fun c1 => ?_)
    · have h := h.1 c1
      refine lv_iconst (pc := 17) (v := (0 : Int32)) hx hb dX1_isIn_17 (by decide) ?_
      exact cj_reti (pc := 18) hcx hW hS rfl h (Nat.le_refl _) (Nat.le_refl _) dX1_isIn_18
    · have h := h.2 c1
      refine lv_lload_n (pc := 6) hx hb dX1_isIn_6 rfl (lv_at hl 0 rfl) ?_
      refine lv_lload (pc := 7) hx hb dX1_isIn_7 (lv_at hl 2 rfl) ?_
      refine W.lcmp (pc := 9) hx hb dX1_isIn_9 ?_
      refine lv_if_gt (pc := 10) (tgt := 17) hx hb dX1_isIn_10 (by decide) (fun c2 => ?_) (fun c2 => ?_)
      · have h := h.1 c2
        refine lv_iconst (pc := 17) (v := (0 : Int32)) hx hb dX1_isIn_17 (by decide) ?_
        exact cj_reti (pc := 18) hcx hW hS rfl h (Nat.le_refl _) (Nat.le_refl _) dX1_isIn_18
      · have h := h.2 c2
        refine lv_iconst (pc := 13) (v := (1 : Int32)) hx hb dX1_isIn_13 (by decide) ?_
        refine lv_goto (pc := 14) (tgt := 18) hx hb dX1_isIn_14 (by decide) ?_
        exact cj_reti (pc := 18) hcx hW hS rfl h (Nat.le_refl _) (Nat.le_refl _) dX1_isIn_18)
/-! L_ofCounts -/
set_option maxHeartbeats 4000000 in
set_option maxRecDepth 100000 in
theorem cb_L_ofCounts_13 {E : cj_E} {σ : cj_S} {x0 : Option Nat} {x1 : Int32} {x2 : Int32} {x3 : Int32} {x4 : Int32} {x5 : Int32} {x6 : Int32} {P : Int32 → cj_S → Prop} (h : (((100 : Int32) ≤ x6 → ((x1 = 0 → P x2 σ) ∧ (¬ x1 = 0 → ((x1 = (1 : Int32) → P x3 σ) ∧ (¬ x1 = (1 : Int32) → ((x1 = (2 : Int32) → P x4 σ) ∧ (¬ x1 = (2 : Int32) → P x5 σ))))))) ∧ (¬ (100 : Int32) ≤ x6 → (∃ a5, x0 = some a5 ∧ (cj_T σ a5 = 21 ∧ (vp_in x6 (cj_N σ a5) ∧ (((cj_A σ a5 x6.toNatClampNeg) = 0 → cg_L_ofCounts_13 E σ x0 x1 x2 x3 x4 x5 (x6 + (1 : Int32)) P) ∧ (¬ (cj_A σ a5 x6.toNatClampNeg) = 0 → ((x3 = (-1 : Int32) → cg_L_ofCounts_48 E σ x0 x1 (x2 + (1 : Int32)) x6 x5 x6 x6 P) ∧ (¬ x3 = (-1 : Int32) → cg_L_ofCounts_48 E σ x0 x1 (x2 + (1 : Int32)) x6 x5 x6 x3 P)))))))))) : cg_L_ofCounts_13 E σ x0 x1 x2 x3 x4 x5 x6 P := by
  intro d hd p e s m args below meth c hcx H locs ls hW hS hl
  have hx := hcx.1
  have hb := hcx.2.1
  have hown := hcx.2.2.2.2.2.1
  have hts := hcx.2.2.2.2.2.2.1
  refine lv_iload (pc := 13) hx hb dX1_ofCounts_13 (lv_at hl 6 rfl) ?_
  refine lv_bipush (pc := 15) (v := (100 : Int32)) hx hb dX1_ofCounts_15 (by decide) ?_
  refine lv_icmp_ge (pc := 17) (tgt := 75) hx hb dX1_ofCounts_17 (by decide) (fun c1 => ?_) (fun c1 => ?_)
  · have h := h.1 c1
    refine lv_iload_n (pc := 75) hx hb dX1_ofCounts_75 rfl (lv_at hl 1 rfl) ?_
    refine lv_if_ne (pc := 76) (tgt := 83) hx hb dX1_ofCounts_76 (by decide) (fun c2 => ?_) (fun c2 => ?_)
    · have h := h.2 c2
      refine lv_iload_n (pc := 83) hx hb dX1_ofCounts_83 rfl (lv_at hl 1 rfl) ?_
      refine lv_iconst (pc := 84) (v := (1 : Int32)) hx hb dX1_ofCounts_84 (by decide) ?_
      refine lv_icmp_ne (pc := 85) (tgt := 92) hx hb dX1_ofCounts_85 (by decide) (fun c3 => ?_) (fun c3 => ?_)
      · have h := h.2 c3
        refine lv_iload_n (pc := 92) hx hb dX1_ofCounts_92 rfl (lv_at hl 1 rfl) ?_
        refine lv_iconst (pc := 93) (v := (2 : Int32)) hx hb dX1_ofCounts_93 (by decide) ?_
        refine lv_icmp_ne (pc := 94) (tgt := 102) hx hb dX1_ofCounts_94 (by decide) (fun c4 => ?_) (fun c4 => ?_)
        · have h := h.2 c4
          refine lv_iload (pc := 102) hx hb dX1_ofCounts_102 (lv_at hl 5 rfl) ?_
          exact cj_reti (pc := 104) hcx hW hS rfl h (Nat.le_refl _) (Nat.le_refl _) dX1_ofCounts_104
        · have h := h.1 c4
          refine lv_iload (pc := 97) hx hb dX1_ofCounts_97 (lv_at hl 4 rfl) ?_
          refine lv_goto (pc := 99) (tgt := 104) hx hb dX1_ofCounts_99 (by decide) ?_
          exact cj_reti (pc := 104) hcx hW hS rfl h (Nat.le_refl _) (Nat.le_refl _) dX1_ofCounts_104
      · have h := h.1 c3
        refine lv_iload_n (pc := 88) hx hb dX1_ofCounts_88 rfl (lv_at hl 3 rfl) ?_
        refine lv_goto (pc := 89) (tgt := 104) hx hb dX1_ofCounts_89 (by decide) ?_
        exact cj_reti (pc := 104) hcx hW hS rfl h (Nat.le_refl _) (Nat.le_refl _) dX1_ofCounts_104
    · have h := h.1 c2
      refine lv_iload_n (pc := 79) hx hb dX1_ofCounts_79 rfl (lv_at hl 2 rfl) ?_
      refine lv_goto (pc := 80) (tgt := 104) hx hb dX1_ofCounts_80 (by decide) ?_
      exact cj_reti (pc := 104) hcx hW hS rfl h (Nat.le_refl _) (Nat.le_refl _) dX1_ofCounts_104
  · have h := h.2 c1
    refine cj_aload_n (pc := 20) hx hb dX1_ofCounts_20 rfl (lv_at hl 0 rfl) ?_
    refine lv_iload (pc := 21) hx hb dX1_ofCounts_21 (lv_at hl 6 rfl) ?_
    obtain ⟨a5, e6, h⟩ := h
    refine cj_stk (st' := [.int x6, .ref a5]) (by rw [e6]; rfl) ?_
    obtain ⟨g7, h⟩ := h
    obtain ⟨g8, h⟩ := h
    refine cj_iald (pc := 23) hcx hW g7 g8 dX1_ofCounts_23 ?_
    refine lv_if_ne (pc := 24) (tgt := 30) hx hb dX1_ofCounts_24 (by decide) (fun c9 => ?_) (fun c9 => ?_)
    · have h := h.2 c9
      refine lv_iinc (pc := 30) (v := (x2 + (1 : Int32))) (lv' := [(2, .int (x2 + (1 : Int32))), (0, va_rf x0), (1, .int x1), (3, .int x3), (4, .int x4), (5, .int x5), (6, .int x6)]) hx hb dX1_ofCounts_30 hl (k := 2) rfl rfl (by decide) rfl (fun ls hl => ?_)
      refine lv_iload (pc := 33) hx hb dX1_ofCounts_33 (lv_at hl 6 rfl) ?_
      refine lv_istore (pc := 35) (lv' := [(4, .int x6), (2, .int (x2 + (1 : Int32))), (0, va_rf x0), (1, .int x1), (3, .int x3), (5, .int x5), (6, .int x6)]) hx hb dX1_ofCounts_35 hl (by decide) rfl (fun ls hl => ?_)
      refine lv_iload_n (pc := 37) hx hb dX1_ofCounts_37 rfl (lv_at hl 4 rfl) ?_
      refine lv_iconst (pc := 38) (v := (-1 : Int32)) hx hb dX1_ofCounts_38 (by decide) ?_
      refine lv_icmp_ne (pc := 39) (tgt := 47) hx hb dX1_ofCounts_39 (by decide) (fun c10 => ?_) (fun c10 => ?_)
      · have h := h.2 c10
        refine lv_iload_n (pc := 47) hx hb dX1_ofCounts_47 rfl (lv_at hl 4 rfl) ?_
        exact h d hd p e s m args below meth c hcx H locs _ hW hS (lv_sub hl [2, 3, 1, 0, 5, 6] rfl)
      · have h := h.1 c10
        refine lv_iload (pc := 42) hx hb dX1_ofCounts_42 (lv_at hl 6 rfl) ?_
        refine lv_goto (pc := 44) (tgt := 48) hx hb dX1_ofCounts_44 (by decide) ?_
        exact h d hd p e s m args below meth c hcx H locs _ hW hS (lv_sub hl [2, 3, 1, 0, 5, 6] rfl)
    · have h := h.1 c9
      refine lv_goto (pc := 27) (tgt := 69) hx hb dX1_ofCounts_27 (by decide) ?_
      refine lv_iinc (pc := 69) (v := (x6 + (1 : Int32))) (lv' := [(6, .int (x6 + (1 : Int32))), (0, va_rf x0), (1, .int x1), (2, .int x2), (3, .int x3), (4, .int x4), (5, .int x5)]) hx hb dX1_ofCounts_69 hl (k := 6) rfl rfl (by decide) rfl (fun ls hl => ?_)
      refine lv_goto (pc := 72) (tgt := 13) hx hb dX1_ofCounts_72 (by decide) ?_
      exact h d hd p e s m args below meth c hcx H locs _ hW hS (lv_sub hl [1, 2, 3, 4, 5, 6, 0] rfl)
set_option maxHeartbeats 4000000 in
set_option maxRecDepth 100000 in
theorem cb_L_ofCounts_48 {E : cj_E} {σ : cj_S} {x0 : Option Nat} {x1 : Int32} {x2 : Int32} {x4 : Int32} {x5 : Int32} {x6 : Int32} {t0 : Int32} {P : Int32 → cj_S → Prop} (h : (∃ a1, x0 = some a1 ∧ (cj_T σ a1 = 21 ∧ (vp_in x6 (cj_N σ a1) ∧ (vp_in x5 (cj_N σ a1) ∧ (((cj_A σ a1 x6.toNatClampNeg) ≤ (cj_A σ a1 x5.toNatClampNeg) → cg_L_ofCounts_13 E σ x0 x1 x2 t0 x4 x5 (x6 + (1 : Int32)) P) ∧ (¬ (cj_A σ a1 x6.toNatClampNeg) ≤ (cj_A σ a1 x5.toNatClampNeg) → cg_L_ofCounts_13 E σ x0 x1 x2 t0 x4 x6 (x6 + (1 : Int32)) P))))))) : cg_L_ofCounts_48 E σ x0 x1 x2 x4 x5 x6 t0 P := by
  intro d hd p e s m args below meth c hcx H locs ls hW hS hl
  have hx := hcx.1
  have hb := hcx.2.1
  have hown := hcx.2.2.2.2.2.1
  have hts := hcx.2.2.2.2.2.2.1
  refine lv_istore_n (pc := 48) (lv' := [(3, .int t0), (0, va_rf x0), (1, .int x1), (2, .int x2), (4, .int x4), (5, .int x5), (6, .int x6)]) hx hb dX1_ofCounts_48 rfl hl (by decide) rfl (fun ls hl => ?_)
  refine cj_aload_n (pc := 49) hx hb dX1_ofCounts_49 rfl (lv_at hl 1 rfl) ?_
  refine lv_iload (pc := 50) hx hb dX1_ofCounts_50 (lv_at hl 6 rfl) ?_
  obtain ⟨a1, e2, h⟩ := h
  refine cj_stk (st' := [.int x6, .ref a1]) (by rw [e2]; rfl) ?_
  obtain ⟨g3, h⟩ := h
  obtain ⟨g4, h⟩ := h
  refine cj_iald (pc := 52) hcx hW g3 g4 dX1_ofCounts_52 ?_
  refine cj_aload_n (pc := 53) hx hb dX1_ofCounts_53 rfl (lv_at hl 1 rfl) ?_
  refine lv_iload (pc := 54) hx hb dX1_ofCounts_54 (lv_at hl 5 rfl) ?_
  refine cj_stk (st' := [.int x5, .ref a1, .int (cj_A σ a1 x6.toNatClampNeg)]) (by rw [e2]; rfl) ?_
  obtain ⟨g5, h⟩ := h
  refine cj_iald (pc := 56) hcx hW g3 g5 dX1_ofCounts_56 ?_
  refine lv_icmp_le (pc := 57) (tgt := 65) hx hb dX1_ofCounts_57 (by decide) (fun c6 => ?_) (fun c6 => ?_)
  · have h := h.1 c6
    refine lv_iload (pc := 65) hx hb dX1_ofCounts_65 (lv_at hl 5 rfl) ?_
    refine lv_istore (pc := 67) (lv' := [(5, .int x5), (3, .int t0), (0, va_rf x0), (1, .int x1), (2, .int x2), (4, .int x4), (6, .int x6)]) hx hb dX1_ofCounts_67 hl (by decide) rfl (fun ls hl => ?_)
    refine lv_iinc (pc := 69) (v := (x6 + (1 : Int32))) (lv' := [(6, .int (x6 + (1 : Int32))), (5, .int x5), (3, .int t0), (0, va_rf x0), (1, .int x1), (2, .int x2), (4, .int x4)]) hx hb dX1_ofCounts_69 hl (k := 6) rfl rfl (by decide) rfl (fun ls hl => ?_)
    refine lv_goto (pc := 72) (tgt := 13) hx hb dX1_ofCounts_72 (by decide) ?_
    exact h d hd p e s m args below meth c hcx H locs _ hW hS (lv_sub hl [3, 4, 5, 2, 6, 1, 0] rfl)
  · have h := h.2 c6
    refine lv_iload (pc := 60) hx hb dX1_ofCounts_60 (lv_at hl 6 rfl) ?_
    refine lv_goto (pc := 62) (tgt := 67) hx hb dX1_ofCounts_62 (by decide) ?_
    refine lv_istore (pc := 67) (lv' := [(5, .int x6), (3, .int t0), (0, va_rf x0), (1, .int x1), (2, .int x2), (4, .int x4), (6, .int x6)]) hx hb dX1_ofCounts_67 hl (by decide) rfl (fun ls hl => ?_)
    refine lv_iinc (pc := 69) (v := (x6 + (1 : Int32))) (lv' := [(6, .int (x6 + (1 : Int32))), (5, .int x6), (3, .int t0), (0, va_rf x0), (1, .int x1), (2, .int x2), (4, .int x4)]) hx hb dX1_ofCounts_69 hl (k := 6) rfl rfl (by decide) rfl (fun ls hl => ?_)
    refine lv_goto (pc := 72) (tgt := 13) hx hb dX1_ofCounts_72 (by decide) ?_
    exact h d hd p e s m args below meth c hcx H locs _ hW hS (lv_sub hl [3, 4, 5, 2, 6, 1, 0] rfl)
set_option maxHeartbeats 4000000 in
set_option maxRecDepth 100000 in
theorem cb_L_ofCounts {E : cj_E} {σ : cj_S} {x0 : Option Nat} {x1 : Int32} {P : Int32 → cj_S → Prop} (h : cg_L_ofCounts_13 E σ x0 x1 (0 : Int32) (-1 : Int32) (-1 : Int32) (0 : Int32) (0 : Int32) P) : cs_L_ofCounts E σ x0 x1 P :=
  cj_enter (k := 0) (lv := [(0, va_rf x0), (1, .int x1)]) (by decide) (by cases x0 <;> exact Nat.le_of_ble_eq_true rfl) (by cases x0 <;> rfl) (by
    intro d hd p e s m args below meth c hcx H locs ls hW hS hl
    have hx := hcx.1
    have hb := hcx.2.1
    have hown := hcx.2.2.2.2.2.1
    have hts := hcx.2.2.2.2.2.2.1
    refine lv_iconst (pc := 0) (v := (0 : Int32)) hx hb dX1_ofCounts_0 (by decide) ?_
    refine lv_istore_n (pc := 1) (lv' := [(2, .int (0 : Int32)), (0, va_rf x0), (1, .int x1)]) hx hb dX1_ofCounts_1 rfl hl (by decide) rfl (fun ls hl => ?_)
    refine lv_iconst (pc := 2) (v := (-1 : Int32)) hx hb dX1_ofCounts_2 (by decide) ?_
    refine lv_istore_n (pc := 3) (lv' := [(3, .int (-1 : Int32)), (2, .int (0 : Int32)), (0, va_rf x0), (1, .int x1)]) hx hb dX1_ofCounts_3 rfl hl (by decide) rfl (fun ls hl => ?_)
    refine lv_iconst (pc := 4) (v := (-1 : Int32)) hx hb dX1_ofCounts_4 (by decide) ?_
    refine lv_istore (pc := 5) (lv' := [(4, .int (-1 : Int32)), (3, .int (-1 : Int32)), (2, .int (0 : Int32)), (0, va_rf x0), (1, .int x1)]) hx hb dX1_ofCounts_5 hl (by decide) rfl (fun ls hl => ?_)
    refine lv_iconst (pc := 7) (v := (0 : Int32)) hx hb dX1_ofCounts_7 (by decide) ?_
    refine lv_istore (pc := 8) (lv' := [(5, .int (0 : Int32)), (4, .int (-1 : Int32)), (3, .int (-1 : Int32)), (2, .int (0 : Int32)), (0, va_rf x0), (1, .int x1)]) hx hb dX1_ofCounts_8 hl (by decide) rfl (fun ls hl => ?_)
    refine lv_iconst (pc := 10) (v := (0 : Int32)) hx hb dX1_ofCounts_10 (by decide) ?_
    refine lv_istore (pc := 11) (lv' := [(6, .int (0 : Int32)), (5, .int (0 : Int32)), (4, .int (-1 : Int32)), (3, .int (-1 : Int32)), (2, .int (0 : Int32)), (0, va_rf x0), (1, .int x1)]) hx hb dX1_ofCounts_11 hl (by decide) rfl (fun ls hl => ?_)
    exact h d hd p e s m args below meth c hcx H locs _ hW hS (lv_sub hl [5, 6, 4, 3, 2, 1, 0] rfl))
/-! L_unlike -/
set_option maxHeartbeats 4000000 in
set_option maxRecDepth 100000 in
theorem cb_L_unlike_4 {E : cj_E} {σ : cj_S} {x0 : Nat} {x1 : Int32} {x2 : Int32} {P : Int32 → cj_S → Prop} (h : ((x2 ≤ 0 → cg_L_unlike_97 E σ x0 x1 (0 : Int32) (0 : Int32) P) ∧ (¬ x2 ≤ 0 → cg_L_unlike_10 E σ x0 x1 x2 x2 P))) : cg_L_unlike_4 E σ x0 x1 x2 P := by
  intro d hd p e s m args below meth c hcx H locs ls hW hS hl
  have hx := hcx.1
  have hb := hcx.2.1
  have hown := hcx.2.2.2.2.2.1
  have hts := hcx.2.2.2.2.2.2.1
  refine lv_iload_n (pc := 4) hx hb dX1_unlike_4 rfl (lv_at hl 2 rfl) ?_
  refine lv_if_le (pc := 5) (tgt := 93) hx hb dX1_unlike_5 (by decide) (fun c1 => ?_) (fun c1 => ?_)
  · have h := h.1 c1
    refine lv_iconst (pc := 93) (v := (0 : Int32)) hx hb dX1_unlike_93 (by decide) ?_
    refine lv_istore_n (pc := 94) (lv' := [(2, .int (0 : Int32)), (0, .ref x0), (1, .int x1)]) hx hb dX1_unlike_94 rfl hl (by decide) rfl (fun ls hl => ?_)
    refine lv_iconst (pc := 95) (v := (0 : Int32)) hx hb dX1_unlike_95 (by decide) ?_
    refine lv_istore_n (pc := 96) (lv' := [(3, .int (0 : Int32)), (2, .int (0 : Int32)), (0, .ref x0), (1, .int x1)]) hx hb dX1_unlike_96 rfl hl (by decide) rfl (fun ls hl => ?_)
    exact h d hd p e s m args below meth c hcx H locs _ hW hS (lv_sub hl [2, 3, 1, 0] rfl)
  · have h := h.2 c1
    refine lv_iload_n (pc := 8) hx hb dX1_unlike_8 rfl (lv_at hl 2 rfl) ?_
    refine lv_istore_n (pc := 9) (lv' := [(3, .int x2), (0, .ref x0), (1, .int x1), (2, .int x2)]) hx hb dX1_unlike_9 rfl hl (by decide) rfl (fun ls hl => ?_)
    exact h d hd p e s m args below meth c hcx H locs _ hW hS (lv_sub hl [1, 2, 3, 0] rfl)
set_option maxHeartbeats 4000000 in
set_option maxRecDepth 100000 in
theorem cb_L_unlike_97 {E : cj_E} {σ : cj_S} {x0 : Nat} {x1 : Int32} {x2 : Int32} {x3 : Int32} {P : Int32 → cj_S → Prop} (h : ((x1 ≤ x3 → P x2 σ) ∧ (¬ x1 ≤ x3 → ((x3 = 0 → cg_L_unlike_97 E σ x0 x1 (x2 + (1 : Int32)) (x3 + (1 : Int32)) P) ∧ (¬ x3 = 0 → (cj_T σ x0 = 1 ∧ (∃ a4, (cj_R σ 118 x0) = some a4 ∧ (cj_T σ a4 = 21 ∧ (vp_in x3 (cj_N σ a4) ∧ (vp_in (x3 - (1 : Int32)) (cj_N σ a4) ∧ (((cj_A σ a4 x3.toNatClampNeg) = (cj_A σ a4 (x3 - (1 : Int32)).toNatClampNeg) → cg_L_unlike_97 E σ x0 x1 (x2 + (0 : Int32)) (x3 + (1 : Int32)) P) ∧ (¬ (cj_A σ a4 x3.toNatClampNeg) = (cj_A σ a4 (x3 - (1 : Int32)).toNatClampNeg) → cg_L_unlike_97 E σ x0 x1 (x2 + (1 : Int32)) (x3 + (1 : Int32)) P)))))))))))) : cg_L_unlike_97 E σ x0 x1 x2 x3 P := by
  intro d hd p e s m args below meth c hcx H locs ls hW hS hl
  have hx := hcx.1
  have hb := hcx.2.1
  have hown := hcx.2.2.2.2.2.1
  have hts := hcx.2.2.2.2.2.2.1
  refine lv_iload_n (pc := 97) hx hb dX1_unlike_97 rfl (lv_at hl 3 rfl) ?_
  refine lv_iload_n (pc := 98) hx hb dX1_unlike_98 rfl (lv_at hl 1 rfl) ?_
  refine lv_icmp_ge (pc := 99) (tgt := 137) hx hb dX1_unlike_99 (by decide) (fun c1 => ?_) (fun c1 => ?_)
  · have h := h.1 c1
    refine lv_iload_n (pc := 137) hx hb dX1_unlike_137 rfl (lv_at hl 2 rfl) ?_
    exact cj_reti (pc := 138) hcx hW hS rfl h (Nat.le_refl _) (Nat.le_refl _) dX1_unlike_138
  · have h := h.2 c1
    refine lv_iload_n (pc := 102) hx hb dX1_unlike_102 rfl (lv_at hl 2 rfl) ?_
    refine lv_iload_n (pc := 103) hx hb dX1_unlike_103 rfl (lv_at hl 3 rfl) ?_
    refine lv_if_eq (pc := 104) (tgt := 124) hx hb dX1_unlike_104 (by decide) (fun c2 => ?_) (fun c2 => ?_)
    · have h := h.1 c2
      refine lv_iconst (pc := 124) (v := (1 : Int32)) hx hb dX1_unlike_124 (by decide) ?_
      refine lv_goto (pc := 125) (tgt := 129) hx hb dX1_unlike_125 (by decide) ?_
      refine lv_iadd (pc := 129) hx hb dX1_unlike_129 ?_
      refine lv_istore_n (pc := 130) (lv' := [(2, .int (x2 + (1 : Int32))), (0, .ref x0), (1, .int x1), (3, .int x3)]) hx hb dX1_unlike_130 rfl hl (by decide) rfl (fun ls hl => ?_)
      refine lv_iinc (pc := 131) (v := (x3 + (1 : Int32))) (lv' := [(3, .int (x3 + (1 : Int32))), (2, .int (x2 + (1 : Int32))), (0, .ref x0), (1, .int x1)]) hx hb dX1_unlike_131 hl (k := 3) rfl rfl (by decide) rfl (fun ls hl => ?_)
      refine lv_goto (pc := 134) (tgt := 97) hx hb dX1_unlike_134 (by decide) ?_
      exact h d hd p e s m args below meth c hcx H locs _ hW hS (lv_sub hl [2, 3, 1, 0] rfl)
    · have h := h.2 c2
      refine lv_aload_n (pc := 107) hx hb dX1_unlike_107 rfl (lv_at hl 0 rfl) ?_
      obtain ⟨g3, h⟩ := h
      refine cj_fld (pc := 108) hcx hW 0 g3 (by decide) rfl in_X1 18 (by decide) (by decide) q295 dX1_unlike_108 (v := va_rf (cj_R σ 118 x0)) rfl ?_
      refine lv_iload_n (pc := 111) hx hb dX1_unlike_111 rfl (lv_at hl 3 rfl) ?_
      obtain ⟨a4, e5, h⟩ := h
      refine cj_stk (st' := [.int x3, .ref a4, .int x2]) (by rw [e5]; rfl) ?_
      obtain ⟨g6, h⟩ := h
      obtain ⟨g7, h⟩ := h
      refine cj_iald (pc := 112) hcx hW g6 g7 dX1_unlike_112 ?_
      refine lv_aload_n (pc := 113) hx hb dX1_unlike_113 rfl (lv_at hl 0 rfl) ?_
      refine cj_fld (pc := 114) hcx hW 0 g3 (by decide) rfl in_X1 18 (by decide) (by decide) q295 dX1_unlike_114 (v := va_rf (cj_R σ 118 x0)) rfl ?_
      refine lv_iload_n (pc := 117) hx hb dX1_unlike_117 rfl (lv_at hl 3 rfl) ?_
      refine lv_iconst (pc := 118) (v := (1 : Int32)) hx hb dX1_unlike_118 (by decide) ?_
      refine lv_isub (pc := 119) hx hb dX1_unlike_119 ?_
      refine cj_stk (st' := [.int (x3 - (1 : Int32)), .ref a4, .int (cj_A σ a4 x3.toNatClampNeg), .int x2]) (by rw [e5]; rfl) ?_
      obtain ⟨g8, h⟩ := h
      refine cj_iald (pc := 120) hcx hW g6 g8 dX1_unlike_120 ?_
      refine lv_icmp_eq (pc := 121) (tgt := 128) hx hb dX1_unlike_121 (by decide) (fun c9 => ?_) (fun c9 => ?_)
      · have h := h.1 c9
        refine lv_iconst (pc := 128) (v := (0 : Int32)) hx hb dX1_unlike_128 (by decide) ?_
        refine lv_iadd (pc := 129) hx hb dX1_unlike_129 ?_
        refine lv_istore_n (pc := 130) (lv' := [(2, .int (x2 + (0 : Int32))), (0, .ref x0), (1, .int x1), (3, .int x3)]) hx hb dX1_unlike_130 rfl hl (by decide) rfl (fun ls hl => ?_)
        refine lv_iinc (pc := 131) (v := (x3 + (1 : Int32))) (lv' := [(3, .int (x3 + (1 : Int32))), (2, .int (x2 + (0 : Int32))), (0, .ref x0), (1, .int x1)]) hx hb dX1_unlike_131 hl (k := 3) rfl rfl (by decide) rfl (fun ls hl => ?_)
        refine lv_goto (pc := 134) (tgt := 97) hx hb dX1_unlike_134 (by decide) ?_
        exact h d hd p e s m args below meth c hcx H locs _ hW hS (lv_sub hl [2, 3, 1, 0] rfl)
      · have h := h.2 c9
        refine lv_iconst (pc := 124) (v := (1 : Int32)) hx hb dX1_unlike_124 (by decide) ?_
        refine lv_goto (pc := 125) (tgt := 129) hx hb dX1_unlike_125 (by decide) ?_
        refine lv_iadd (pc := 129) hx hb dX1_unlike_129 ?_
        refine lv_istore_n (pc := 130) (lv' := [(2, .int (x2 + (1 : Int32))), (0, .ref x0), (1, .int x1), (3, .int x3)]) hx hb dX1_unlike_130 rfl hl (by decide) rfl (fun ls hl => ?_)
        refine lv_iinc (pc := 131) (v := (x3 + (1 : Int32))) (lv' := [(3, .int (x3 + (1 : Int32))), (2, .int (x2 + (1 : Int32))), (0, .ref x0), (1, .int x1)]) hx hb dX1_unlike_131 hl (k := 3) rfl rfl (by decide) rfl (fun ls hl => ?_)
        refine lv_goto (pc := 134) (tgt := 97) hx hb dX1_unlike_134 (by decide) ?_
        exact h d hd p e s m args below meth c hcx H locs _ hW hS (lv_sub hl [2, 3, 1, 0] rfl)
set_option maxHeartbeats 4000000 in
set_option maxRecDepth 100000 in
theorem cb_L_unlike_10 {E : cj_E} {σ : cj_S} {x0 : Nat} {x1 : Int32} {x2 : Int32} {x3 : Int32} {P : Int32 → cj_S → Prop} (h : ((x1 ≤ x3 → cg_L_unlike_4 E σ x0 x1 (x2 / (2 : Int32)) P) ∧ (¬ x1 ≤ x3 → (cj_T σ x0 = 1 ∧ (∃ a3, (cj_R σ 118 x0) = some a3 ∧ (cj_T σ a3 = 21 ∧ (vp_in x3 (cj_N σ a3) ∧ cg_L_unlike_26 E σ x0 x1 x2 x3 (cj_A σ a3 x3.toNatClampNeg) x3 P))))))) : cg_L_unlike_10 E σ x0 x1 x2 x3 P := by
  intro d hd p e s m args below meth c hcx H locs ls hW hS hl
  have hx := hcx.1
  have hb := hcx.2.1
  have hown := hcx.2.2.2.2.2.1
  have hts := hcx.2.2.2.2.2.2.1
  refine lv_iload_n (pc := 10) hx hb dX1_unlike_10 rfl (lv_at hl 3 rfl) ?_
  refine lv_iload_n (pc := 11) hx hb dX1_unlike_11 rfl (lv_at hl 1 rfl) ?_
  refine lv_icmp_ge (pc := 12) (tgt := 86) hx hb dX1_unlike_12 (by decide) (fun c1 => ?_) (fun c1 => ?_)
  · have h := h.1 c1
    refine lv_iload_n (pc := 86) hx hb dX1_unlike_86 rfl (lv_at hl 2 rfl) ?_
    refine lv_iconst (pc := 87) (v := (2 : Int32)) hx hb dX1_unlike_87 (by decide) ?_
    refine lv_idiv (pc := 88) hx hb dX1_unlike_88 (by decide) ?_
    refine lv_istore_n (pc := 89) (lv' := [(2, .int (x2 / (2 : Int32))), (0, .ref x0), (1, .int x1), (3, .int x3)]) hx hb dX1_unlike_89 rfl hl (by decide) rfl (fun ls hl => ?_)
    refine lv_goto (pc := 90) (tgt := 4) hx hb dX1_unlike_90 (by decide) ?_
    exact h d hd p e s m args below meth c hcx H locs _ hW hS (lv_sub hl [1, 2, 0] rfl)
  · have h := h.2 c1
    refine lv_aload_n (pc := 15) hx hb dX1_unlike_15 rfl (lv_at hl 0 rfl) ?_
    obtain ⟨g2, h⟩ := h
    refine cj_fld (pc := 16) hcx hW 0 g2 (by decide) rfl in_X1 18 (by decide) (by decide) q295 dX1_unlike_16 (v := va_rf (cj_R σ 118 x0)) rfl ?_
    refine lv_iload_n (pc := 19) hx hb dX1_unlike_19 rfl (lv_at hl 3 rfl) ?_
    obtain ⟨a3, e4, h⟩ := h
    refine cj_stk (st' := [.int x3, .ref a3]) (by rw [e4]; rfl) ?_
    obtain ⟨g5, h⟩ := h
    obtain ⟨g6, h⟩ := h
    refine cj_iald (pc := 20) hcx hW g5 g6 dX1_unlike_20 ?_
    refine lv_istore (pc := 21) (lv' := [(4, .int (cj_A σ a3 x3.toNatClampNeg)), (0, .ref x0), (1, .int x1), (2, .int x2), (3, .int x3)]) hx hb dX1_unlike_21 hl (by decide) rfl (fun ls hl => ?_)
    refine lv_iload_n (pc := 23) hx hb dX1_unlike_23 rfl (lv_at hl 4 rfl) ?_
    refine lv_istore (pc := 24) (lv' := [(5, .int x3), (4, .int (cj_A σ a3 x3.toNatClampNeg)), (0, .ref x0), (1, .int x1), (2, .int x2), (3, .int x3)]) hx hb dX1_unlike_24 hl (by decide) rfl (fun ls hl => ?_)
    exact h d hd p e s m args below meth c hcx H locs _ hW hS (lv_sub hl [2, 3, 4, 5, 1, 0] rfl)
set_option maxHeartbeats 4000000 in
set_option maxRecDepth 100000 in
theorem cb_L_unlike_26 {E : cj_E} {σ : cj_S} {x0 : Nat} {x1 : Int32} {x2 : Int32} {x3 : Int32} {x4 : Int32} {x5 : Int32} {P : Int32 → cj_S → Prop} (h : ((x5 < x2 → (cj_T σ x0 = 1 ∧ (∃ a3, (cj_R σ 118 x0) = some a3 ∧ (cj_T σ a3 = 21 ∧ (vp_in x5 (cj_N σ a3) ∧ cg_L_unlike_10 E (cj_sA σ a3 x5.toNatClampNeg x4) x0 x1 x2 (x3 + (1 : Int32)) P))))) ∧ (¬ x5 < x2 → (cj_T σ x0 = 1 ∧ (∃ a8, (cj_R σ 118 x0) = some a8 ∧ (cj_T σ a8 = 21 ∧ (vp_in (x5 - x2) (cj_N σ a8) ∧ (((cj_A σ a8 (x5 - x2).toNatClampNeg) ≤ x4 → (vp_in x5 (cj_N σ a8) ∧ cg_L_unlike_10 E (cj_sA σ a8 x5.toNatClampNeg x4) x0 x1 x2 (x3 + (1 : Int32)) P)) ∧ (¬ (cj_A σ a8 (x5 - x2).toNatClampNeg) ≤ x4 → (vp_in (x5 - x2) (cj_N σ a8) ∧ (vp_in x5 (cj_N σ a8) ∧ cg_L_unlike_26 E (cj_sA σ a8 x5.toNatClampNeg (cj_A σ a8 (x5 - x2).toNatClampNeg)) x0 x1 x2 x3 x4 (x5 - x2) P))))))))))) : cg_L_unlike_26 E σ x0 x1 x2 x3 x4 x5 P := by
  intro d hd p e s m args below meth c hcx H locs ls hW hS hl
  have hx := hcx.1
  have hb := hcx.2.1
  have hown := hcx.2.2.2.2.2.1
  have hts := hcx.2.2.2.2.2.2.1
  refine lv_iload (pc := 26) hx hb dX1_unlike_26 (lv_at hl 5 rfl) ?_
  refine lv_iload_n (pc := 28) hx hb dX1_unlike_28 rfl (lv_at hl 2 rfl) ?_
  refine lv_icmp_lt (pc := 29) (tgt := 71) hx hb dX1_unlike_29 (by decide) (fun c1 => ?_) (fun c1 => ?_)
  · have h := h.1 c1
    refine lv_aload_n (pc := 71) hx hb dX1_unlike_71 rfl (lv_at hl 0 rfl) ?_
    obtain ⟨g2, h⟩ := h
    refine cj_fld (pc := 72) hcx hW 0 g2 (by decide) rfl in_X1 18 (by decide) (by decide) q295 dX1_unlike_72 (v := va_rf (cj_R σ 118 x0)) rfl ?_
    refine lv_iload (pc := 75) hx hb dX1_unlike_75 (lv_at hl 5 rfl) ?_
    refine lv_iload (pc := 77) hx hb dX1_unlike_77 (lv_at hl 4 rfl) ?_
    obtain ⟨a3, e4, h⟩ := h
    refine cj_stk (st' := [.int x4, .int x5, .ref a3]) (by rw [e4]; rfl) ?_
    obtain ⟨g5, h⟩ := h
    obtain ⟨g6, h⟩ := h
    refine cj_iast (pc := 79) hcx hW hS g5 g6 dX1_unlike_79 (fun H locs hW hS => ?_)
    refine lv_iinc (pc := 80) (v := (x3 + (1 : Int32))) (lv' := [(3, .int (x3 + (1 : Int32))), (0, .ref x0), (1, .int x1), (2, .int x2), (4, .int x4), (5, .int x5)]) hx hb dX1_unlike_80 hl (k := 3) rfl rfl (by decide) rfl (fun ls hl => ?_)
    refine lv_goto (pc := 83) (tgt := 10) hx hb dX1_unlike_83 (by decide) ?_
    exact h d hd p e s m args below meth c hcx H locs _ hW hS (lv_sub hl [1, 2, 3, 0] rfl)
  · have h := h.2 c1
    refine lv_aload_n (pc := 32) hx hb dX1_unlike_32 rfl (lv_at hl 0 rfl) ?_
    obtain ⟨g7, h⟩ := h
    refine cj_fld (pc := 33) hcx hW 0 g7 (by decide) rfl in_X1 18 (by decide) (by decide) q295 dX1_unlike_33 (v := va_rf (cj_R σ 118 x0)) rfl ?_
    refine lv_iload (pc := 36) hx hb dX1_unlike_36 (lv_at hl 5 rfl) ?_
    refine lv_iload_n (pc := 38) hx hb dX1_unlike_38 rfl (lv_at hl 2 rfl) ?_
    refine lv_isub (pc := 39) hx hb dX1_unlike_39 ?_
    obtain ⟨a8, e9, h⟩ := h
    refine cj_stk (st' := [.int (x5 - x2), .ref a8]) (by rw [e9]; rfl) ?_
    obtain ⟨g10, h⟩ := h
    obtain ⟨g11, h⟩ := h
    refine cj_iald (pc := 40) hcx hW g10 g11 dX1_unlike_40 ?_
    refine lv_iload (pc := 41) hx hb dX1_unlike_41 (lv_at hl 4 rfl) ?_
    refine lv_icmp_le (pc := 43) (tgt := 71) hx hb dX1_unlike_43 (by decide) (fun c12 => ?_) (fun c12 => ?_)
    · have h := h.1 c12
      refine lv_aload_n (pc := 71) hx hb dX1_unlike_71 rfl (lv_at hl 0 rfl) ?_
      refine cj_fld (pc := 72) hcx hW 0 g7 (by decide) rfl in_X1 18 (by decide) (by decide) q295 dX1_unlike_72 (v := va_rf (cj_R σ 118 x0)) rfl ?_
      refine lv_iload (pc := 75) hx hb dX1_unlike_75 (lv_at hl 5 rfl) ?_
      refine lv_iload (pc := 77) hx hb dX1_unlike_77 (lv_at hl 4 rfl) ?_
      refine cj_stk (st' := [.int x4, .int x5, .ref a8]) (by rw [e9]; rfl) ?_
      obtain ⟨g13, h⟩ := h
      refine cj_iast (pc := 79) hcx hW hS g10 g13 dX1_unlike_79 (fun H locs hW hS => ?_)
      refine lv_iinc (pc := 80) (v := (x3 + (1 : Int32))) (lv' := [(3, .int (x3 + (1 : Int32))), (0, .ref x0), (1, .int x1), (2, .int x2), (4, .int x4), (5, .int x5)]) hx hb dX1_unlike_80 hl (k := 3) rfl rfl (by decide) rfl (fun ls hl => ?_)
      refine lv_goto (pc := 83) (tgt := 10) hx hb dX1_unlike_83 (by decide) ?_
      exact h d hd p e s m args below meth c hcx H locs _ hW hS (lv_sub hl [1, 2, 3, 0] rfl)
    · have h := h.2 c12
      refine lv_aload_n (pc := 46) hx hb dX1_unlike_46 rfl (lv_at hl 0 rfl) ?_
      refine cj_fld (pc := 47) hcx hW 0 g7 (by decide) rfl in_X1 18 (by decide) (by decide) q295 dX1_unlike_47 (v := va_rf (cj_R σ 118 x0)) rfl ?_
      refine lv_iload (pc := 50) hx hb dX1_unlike_50 (lv_at hl 5 rfl) ?_
      refine lv_aload_n (pc := 52) hx hb dX1_unlike_52 rfl (lv_at hl 0 rfl) ?_
      refine cj_fld (pc := 53) hcx hW 0 g7 (by decide) rfl in_X1 18 (by decide) (by decide) q295 dX1_unlike_53 (v := va_rf (cj_R σ 118 x0)) rfl ?_
      refine lv_iload (pc := 56) hx hb dX1_unlike_56 (lv_at hl 5 rfl) ?_
      refine lv_iload_n (pc := 58) hx hb dX1_unlike_58 rfl (lv_at hl 2 rfl) ?_
      refine lv_isub (pc := 59) hx hb dX1_unlike_59 ?_
      refine cj_stk (st' := [.int (x5 - x2), .ref a8, .int x5, .ref a8]) (by rw [e9]; rfl) ?_
      obtain ⟨g14, h⟩ := h
      refine cj_iald (pc := 60) hcx hW g10 g14 dX1_unlike_60 ?_
      obtain ⟨g15, h⟩ := h
      refine cj_iast (pc := 61) hcx hW hS g10 g15 dX1_unlike_61 (fun H locs hW hS => ?_)
      refine lv_iload (pc := 62) hx hb dX1_unlike_62 (lv_at hl 5 rfl) ?_
      refine lv_iload_n (pc := 64) hx hb dX1_unlike_64 rfl (lv_at hl 2 rfl) ?_
      refine lv_isub (pc := 65) hx hb dX1_unlike_65 ?_
      refine lv_istore (pc := 66) (lv' := [(5, .int (x5 - x2)), (0, .ref x0), (1, .int x1), (2, .int x2), (3, .int x3), (4, .int x4)]) hx hb dX1_unlike_66 hl (by decide) rfl (fun ls hl => ?_)
      refine lv_goto (pc := 68) (tgt := 26) hx hb dX1_unlike_68 (by decide) ?_
      exact h d hd p e s m args below meth c hcx H locs _ hW hS (lv_sub hl [1, 2, 3, 4, 5, 0] rfl)
set_option maxHeartbeats 4000000 in
set_option maxRecDepth 100000 in
theorem cb_L_unlike {E : cj_E} {σ : cj_S} {x0 : Nat} {x1 : Int32} {P : Int32 → cj_S → Prop} (h : cg_L_unlike_4 E σ x0 x1 (x1 / (2 : Int32)) P) : cs_L_unlike E σ x0 x1 P :=
  cj_enter (k := 0) (lv := [(0, .ref x0), (1, .int x1)]) (by decide) (Nat.le_of_ble_eq_true rfl) rfl (by
    intro d hd p e s m args below meth c hcx H locs ls hW hS hl
    have hx := hcx.1
    have hb := hcx.2.1
    have hown := hcx.2.2.2.2.2.1
    have hts := hcx.2.2.2.2.2.2.1
    refine lv_iload_n (pc := 0) hx hb dX1_unlike_0 rfl (lv_at hl 1 rfl) ?_
    refine lv_iconst (pc := 1) (v := (2 : Int32)) hx hb dX1_unlike_1 (by decide) ?_
    refine lv_idiv (pc := 2) hx hb dX1_unlike_2 (by decide) ?_
    refine lv_istore_n (pc := 3) (lv' := [(2, .int (x1 / (2 : Int32))), (0, .ref x0), (1, .int x1)]) hx hb dX1_unlike_3 rfl hl (by decide) rfl (fun ls hl => ?_)
    exact h d hd p e s m args below meth c hcx H locs _ hW hS (lv_sub hl [1, 2, 0] rfl))
/-! On_at -/
set_option maxHeartbeats 4000000 in
set_option maxRecDepth 100000 in
theorem cb_On_at {E : cj_E} {σ : cj_S} {x0 : Nat} {x1 : Int32} {P : Int32 → cj_S → Prop} (h : (cj_T σ x0 = 7 ∧ P (cj_F σ 700 x0) σ)) : cs_On_at E σ x0 x1 P :=
  cj_enter (k := 0) (lv := [(0, .ref x0), (1, .int x1)]) (by decide) (Nat.le_of_ble_eq_true rfl) rfl (by
    intro d hd p e s m args below meth c hcx H locs ls hW hS hl
    have hx := hcx.1
    have hb := hcx.2.1
    have hown := hcx.2.2.2.2.2.1
    have hts := hcx.2.2.2.2.2.2.1
    refine lv_aload_n (pc := 0) hx hb dX9_at_0 rfl (lv_at hl 0 rfl) ?_
    obtain ⟨g1, h⟩ := h
    refine cj_fld (pc := 1) hcx hW 6 g1 (by decide) rfl in_X9 0 (by decide) (by decide) q536 dX9_at_1 (v := .int (cj_F σ 700 x0)) rfl ?_
    exact cj_reti (pc := 4) hcx hW hS rfl h (Nat.le_refl _) (Nat.le_refl _) dX9_at_4)
/-! On_width -/
set_option maxHeartbeats 4000000 in
set_option maxRecDepth 100000 in
theorem cb_On_width {E : cj_E} {σ : cj_S} {x0 : Nat} {P : Int32 → cj_S → Prop} (h : P (1 : Int32) σ) : cs_On_width E σ x0 P :=
  cj_enter (k := 0) (lv := [(0, .ref x0)]) (by decide) (Nat.le_of_ble_eq_true rfl) rfl (by
    intro d hd p e s m args below meth c hcx H locs ls hW hS hl
    have hx := hcx.1
    have hb := hcx.2.1
    have hown := hcx.2.2.2.2.2.1
    have hts := hcx.2.2.2.2.2.2.1
    refine lv_iconst (pc := 0) (v := (1 : Int32)) hx hb dX9_width_0 (by decide) ?_
    exact cj_reti (pc := 1) hcx hW hS rfl h (Nat.le_refl _) (Nat.le_refl _) dX9_width_1)
/-! Rd_init -/
set_option maxHeartbeats 4000000 in
set_option maxRecDepth 100000 in
theorem cb_Rd_init {E : cj_E} {σ : cj_S} {x0 : Nat} {x1 : Option Nat} {P : cj_S → Prop} (h : (cj_T σ x0 = 4 ∧ (∀ q2, cj_T σ q2 = 0 → (cj_T (cj_newA (cj_sR σ 402 x0 x1) q2 21 3) x0 = 4 ∧ P (cj_sR (cj_newA (cj_sR σ 402 x0 x1) q2 21 3) 400 x0 (some q2)))))) : cs_Rd_init E σ x0 x1 P :=
  cj_enter (k := 0) (lv := [(0, .ref x0), (1, va_rf x1)]) (by decide) (by cases x1 <;> exact Nat.le_of_ble_eq_true rfl) (by cases x1 <;> rfl) (by
    intro d hd p e s m args below meth c hcx H locs ls hW hS hl
    have hx := hcx.1
    have hb := hcx.2.1
    have hown := hcx.2.2.2.2.2.1
    have hts := hcx.2.2.2.2.2.2.1
    refine lv_aload_n (pc := 0) hx hb dX5_init_0 rfl (lv_at hl 0 rfl) ?_
    refine cj_aload_n (pc := 1) hx hb dX5_init_1 rfl (lv_at hl 1 rfl) ?_
    obtain ⟨g1, h⟩ := h
    refine cj_putF (pc := 2) (σ1 := (cj_sR σ 402 x0 x1)) hcx hW hS 3 g1 (by decide) rfl in_X5 tyX5_ok nmX5 2 (by decide) (by decide) rfl rfl rfl (cj_nR _ x1) (cj_fR _ x1) (cj_pR (x := x1) rfl) q360 dX5_init_2 (fun H locs hW hS => ?_)
    refine lv_aload_n (pc := 5) hx hb dX5_init_5 rfl (lv_at hl 0 rfl) ?_
    refine cj_objInit (pc := 6) hcx hl.1 q357 q171 q172 dX5_init_6 (Nat.le_add_left 1 _) (cj_lr (Nat.le_of_ble_eq_true rfl)) ?_
    refine lv_aload_n (pc := 9) hx hb dX5_init_9 rfl (lv_at hl 0 rfl) ?_
    refine lv_iconst (pc := 10) (v := (3 : Int32)) hx hb dX5_init_10 (by decide) ?_
    refine cj_newi (pc := 11) hcx hW hS (N := 3) (by decide) (by decide) (by decide) (Nat.le_of_ble_eq_true rfl) (Nat.le_of_ble_eq_true rfl) dX5_init_11 (fun q2 H z3 hW hS => ?_)
    have h := h q2 z3
    obtain ⟨g4, h⟩ := h
    refine cj_putF (pc := 13) (σ1 := (cj_sR (cj_newA (cj_sR σ 402 x0 x1) q2 21 3) 400 x0 (some q2))) hcx hW hS 3 g4 (by decide) rfl in_X5 tyX5_ok nmX5 0 (by decide) (by decide) rfl rfl rfl (cj_nRa _ (some q2)) (cj_fRa _ (some q2)) (cj_pR (x := (some q2)) rfl) q358 dX5_init_13 (fun H locs hW hS => ?_)
    exact cj_retv (pc := 16) hcx hW hS h (Nat.le_of_ble_eq_true rfl) (Nat.le_of_ble_eq_true rfl) dX5_init_16)
/-! Rd_isDigit -/
set_option maxHeartbeats 4000000 in
set_option maxRecDepth 100000 in
theorem cb_Rd_isDigit {E : cj_E} {σ : cj_S} {x0 : Nat} {P : Int32 → cj_S → Prop} (h : (cj_T σ x0 = 4 ∧ (∃ a2, (cj_R σ 402 x0) = some a2 ∧ (cj_T σ a2 = 1 ∧ (((cj_F σ 101 a2) ≤ (cj_F σ 401 x0) → P (0 : Int32) σ) ∧ (¬ (cj_F σ 101 a2) ≤ (cj_F σ 401 x0) → (∃ a6, (cj_R σ 100 a2) = some a6 ∧ (cj_T σ a6 = 20 ∧ (vp_in (cj_F σ 401 x0) (cj_N σ a6) ∧ (((cj_A σ a6 (cj_F σ 401 x0).toNatClampNeg) < (48 : Int32) → P (0 : Int32) σ) ∧ (¬ (cj_A σ a6 (cj_F σ 401 x0).toNatClampNeg) < (48 : Int32) → (vp_in (cj_F σ 401 x0) (cj_N σ a6) ∧ (((57 : Int32) < (cj_A σ a6 (cj_F σ 401 x0).toNatClampNeg) → P (0 : Int32) σ) ∧ (¬ (57 : Int32) < (cj_A σ a6 (cj_F σ 401 x0).toNatClampNeg) → P (1 : Int32) σ)))))))))))))) : cs_Rd_isDigit E σ x0 P :=
  cj_enter (k := 0) (lv := [(0, .ref x0)]) (by decide) (Nat.le_of_ble_eq_true rfl) rfl (by
    intro d hd p e s m args below meth c hcx H locs ls hW hS hl
    have hx := hcx.1
    have hb := hcx.2.1
    have hown := hcx.2.2.2.2.2.1
    have hts := hcx.2.2.2.2.2.2.1
    refine lv_aload_n (pc := 0) hx hb dX5_isDigit_0 rfl (lv_at hl 0 rfl) ?_
    obtain ⟨g1, h⟩ := h
    refine cj_fld (pc := 1) hcx hW 3 g1 (by decide) rfl in_X5 1 (by decide) (by decide) q359 dX5_isDigit_1 (v := .int (cj_F σ 401 x0)) rfl ?_
    refine lv_aload_n (pc := 4) hx hb dX5_isDigit_4 rfl (lv_at hl 0 rfl) ?_
    refine cj_fld (pc := 5) hcx hW 3 g1 (by decide) rfl in_X5 2 (by decide) (by decide) q360 dX5_isDigit_5 (v := va_rf (cj_R σ 402 x0)) rfl ?_
    obtain ⟨a2, e3, h⟩ := h
    refine cj_stk (st' := [.ref a2, .int (cj_F σ 401 x0)]) (by rw [e3]; rfl) ?_
    obtain ⟨g4, h⟩ := h
    refine cj_fldN (pc := 8) hcx hW 0 g4 (by decide) rfl in_X1 1 (by decide) (by decide) (List.mem_of_getElem? (i := 23) rfl) dX5_isDigit_8 (v := .int (cj_F σ 101 a2)) rfl ?_
    refine lv_icmp_ge (pc := 11) (tgt := 52) hx hb dX5_isDigit_11 (by decide) (fun c5 => ?_) (fun c5 => ?_)
    · have h := h.1 c5
      refine lv_iconst (pc := 52) (v := (0 : Int32)) hx hb dX5_isDigit_52 (by decide) ?_
      exact cj_reti (pc := 53) hcx hW hS rfl h (Nat.le_refl _) (Nat.le_refl _) dX5_isDigit_53
    · have h := h.2 c5
      refine lv_aload_n (pc := 14) hx hb dX5_isDigit_14 rfl (lv_at hl 0 rfl) ?_
      refine cj_fld (pc := 15) hcx hW 3 g1 (by decide) rfl in_X5 2 (by decide) (by decide) q360 dX5_isDigit_15 (v := va_rf (cj_R σ 402 x0)) rfl ?_
      refine cj_stk (st' := [.ref a2]) (by rw [e3]; rfl) ?_
      refine cj_fldN (pc := 18) hcx hW 0 g4 (by decide) rfl in_X1 0 (by decide) (by decide) (List.mem_of_getElem? (i := 22) rfl) dX5_isDigit_18 (v := va_rf (cj_R σ 100 a2)) rfl ?_
      refine lv_aload_n (pc := 21) hx hb dX5_isDigit_21 rfl (lv_at hl 0 rfl) ?_
      refine cj_fld (pc := 22) hcx hW 3 g1 (by decide) rfl in_X5 1 (by decide) (by decide) q359 dX5_isDigit_22 (v := .int (cj_F σ 401 x0)) rfl ?_
      obtain ⟨a6, e7, h⟩ := h
      refine cj_stk (st' := [.int (cj_F σ 401 x0), .ref a6]) (by rw [e7]; rfl) ?_
      obtain ⟨g8, h⟩ := h
      obtain ⟨g9, h⟩ := h
      refine cj_bald (pc := 25) hcx hW g8 g9 dX5_isDigit_25 ?_
      refine lv_bipush (pc := 26) (v := (48 : Int32)) hx hb dX5_isDigit_26 (by decide) ?_
      refine lv_icmp_lt (pc := 28) (tgt := 52) hx hb dX5_isDigit_28 (by decide) (fun c10 => ?_) (fun c10 => ?_)
      · have h := h.1 c10
        refine lv_iconst (pc := 52) (v := (0 : Int32)) hx hb dX5_isDigit_52 (by decide) ?_
        exact cj_reti (pc := 53) hcx hW hS rfl h (Nat.le_refl _) (Nat.le_refl _) dX5_isDigit_53
      · have h := h.2 c10
        refine lv_aload_n (pc := 31) hx hb dX5_isDigit_31 rfl (lv_at hl 0 rfl) ?_
        refine cj_fld (pc := 32) hcx hW 3 g1 (by decide) rfl in_X5 2 (by decide) (by decide) q360 dX5_isDigit_32 (v := va_rf (cj_R σ 402 x0)) rfl ?_
        refine cj_stk (st' := [.ref a2]) (by rw [e3]; rfl) ?_
        refine cj_fldN (pc := 35) hcx hW 0 g4 (by decide) rfl in_X1 0 (by decide) (by decide) (List.mem_of_getElem? (i := 22) rfl) dX5_isDigit_35 (v := va_rf (cj_R σ 100 a2)) rfl ?_
        refine lv_aload_n (pc := 38) hx hb dX5_isDigit_38 rfl (lv_at hl 0 rfl) ?_
        refine cj_fld (pc := 39) hcx hW 3 g1 (by decide) rfl in_X5 1 (by decide) (by decide) q359 dX5_isDigit_39 (v := .int (cj_F σ 401 x0)) rfl ?_
        refine cj_stk (st' := [.int (cj_F σ 401 x0), .ref a6]) (by rw [e7]; rfl) ?_
        obtain ⟨g11, h⟩ := h
        refine cj_bald (pc := 42) hcx hW g8 g11 dX5_isDigit_42 ?_
        refine lv_bipush (pc := 43) (v := (57 : Int32)) hx hb dX5_isDigit_43 (by decide) ?_
        refine lv_icmp_gt (pc := 45) (tgt := 52) hx hb dX5_isDigit_45 (by decide) (fun c12 => ?_) (fun c12 => ?_)
        · have h := h.1 c12
          refine lv_iconst (pc := 52) (v := (0 : Int32)) hx hb dX5_isDigit_52 (by decide) ?_
          exact cj_reti (pc := 53) hcx hW hS rfl h (Nat.le_refl _) (Nat.le_refl _) dX5_isDigit_53
        · have h := h.2 c12
          refine lv_iconst (pc := 48) (v := (1 : Int32)) hx hb dX5_isDigit_48 (by decide) ?_
          refine lv_goto (pc := 49) (tgt := 53) hx hb dX5_isDigit_49 (by decide) ?_
          exact cj_reti (pc := 53) hcx hW hS rfl h (Nat.le_refl _) (Nat.le_refl _) dX5_isDigit_53)
/-! Rd_peek -/
set_option maxHeartbeats 4000000 in
set_option maxRecDepth 100000 in
theorem cb_Rd_peek_0 {E : cj_E} {σ : cj_S} {x0 : Nat} {P : Int32 → cj_S → Prop} (h : (cj_T σ x0 = 4 ∧ (∃ a2, (cj_R σ 402 x0) = some a2 ∧ (cj_T σ a2 = 1 ∧ (((cj_F σ 101 a2) ≤ (cj_F σ 401 x0) → cg_Rd_peek_44 E σ x0 P) ∧ (¬ (cj_F σ 101 a2) ≤ (cj_F σ 401 x0) → (∃ a6, (cj_R σ 100 a2) = some a6 ∧ (cj_T σ a6 = 20 ∧ (vp_in (cj_F σ 401 x0) (cj_N σ a6) ∧ (((cj_A σ a6 (cj_F σ 401 x0).toNatClampNeg) = (32 : Int32) → cg_Rd_peek_0 E (cj_sF σ 401 x0 ((cj_F σ 401 x0) + (1 : Int32))) x0 P) ∧ (¬ (cj_A σ a6 (cj_F σ 401 x0).toNatClampNeg) = (32 : Int32) → cg_Rd_peek_44 E σ x0 P))))))))))) : cg_Rd_peek_0 E σ x0 P := by
  intro d hd p e s m args below meth c hcx H locs ls hW hS hl
  have hx := hcx.1
  have hb := hcx.2.1
  have hown := hcx.2.2.2.2.2.1
  have hts := hcx.2.2.2.2.2.2.1
  refine lv_aload_n (pc := 0) hx hb dX5_peek_0 rfl (lv_at hl 0 rfl) ?_
  obtain ⟨g1, h⟩ := h
  refine cj_fld (pc := 1) hcx hW 3 g1 (by decide) rfl in_X5 1 (by decide) (by decide) q359 dX5_peek_1 (v := .int (cj_F σ 401 x0)) rfl ?_
  refine lv_aload_n (pc := 4) hx hb dX5_peek_4 rfl (lv_at hl 0 rfl) ?_
  refine cj_fld (pc := 5) hcx hW 3 g1 (by decide) rfl in_X5 2 (by decide) (by decide) q360 dX5_peek_5 (v := va_rf (cj_R σ 402 x0)) rfl ?_
  obtain ⟨a2, e3, h⟩ := h
  refine cj_stk (st' := [.ref a2, .int (cj_F σ 401 x0)]) (by rw [e3]; rfl) ?_
  obtain ⟨g4, h⟩ := h
  refine cj_fldN (pc := 8) hcx hW 0 g4 (by decide) rfl in_X1 1 (by decide) (by decide) (List.mem_of_getElem? (i := 23) rfl) dX5_peek_8 (v := .int (cj_F σ 101 a2)) rfl ?_
  refine lv_icmp_ge (pc := 11) (tgt := 44) hx hb dX5_peek_11 (by decide) (fun c5 => ?_) (fun c5 => ?_)
  · have h := h.1 c5
    exact h d hd p e s m args below meth c hcx H locs _ hW hS (lv_sub hl [0] rfl)
  · have h := h.2 c5
    refine lv_aload_n (pc := 14) hx hb dX5_peek_14 rfl (lv_at hl 0 rfl) ?_
    refine cj_fld (pc := 15) hcx hW 3 g1 (by decide) rfl in_X5 2 (by decide) (by decide) q360 dX5_peek_15 (v := va_rf (cj_R σ 402 x0)) rfl ?_
    refine cj_stk (st' := [.ref a2]) (by rw [e3]; rfl) ?_
    refine cj_fldN (pc := 18) hcx hW 0 g4 (by decide) rfl in_X1 0 (by decide) (by decide) (List.mem_of_getElem? (i := 22) rfl) dX5_peek_18 (v := va_rf (cj_R σ 100 a2)) rfl ?_
    refine lv_aload_n (pc := 21) hx hb dX5_peek_21 rfl (lv_at hl 0 rfl) ?_
    refine cj_fld (pc := 22) hcx hW 3 g1 (by decide) rfl in_X5 1 (by decide) (by decide) q359 dX5_peek_22 (v := .int (cj_F σ 401 x0)) rfl ?_
    obtain ⟨a6, e7, h⟩ := h
    refine cj_stk (st' := [.int (cj_F σ 401 x0), .ref a6]) (by rw [e7]; rfl) ?_
    obtain ⟨g8, h⟩ := h
    obtain ⟨g9, h⟩ := h
    refine cj_bald (pc := 25) hcx hW g8 g9 dX5_peek_25 ?_
    refine lv_bipush (pc := 26) (v := (32 : Int32)) hx hb dX5_peek_26 (by decide) ?_
    refine lv_icmp_ne (pc := 28) (tgt := 44) hx hb dX5_peek_28 (by decide) (fun c10 => ?_) (fun c10 => ?_)
    · have h := h.2 c10
      exact h d hd p e s m args below meth c hcx H locs _ hW hS (lv_sub hl [0] rfl)
    · have h := h.1 c10
      refine lv_aload_n (pc := 31) hx hb dX5_peek_31 rfl (lv_at hl 0 rfl) ?_
      refine lv_dup (pc := 32) hx hb dX5_peek_32 rfl ?_
      refine cj_fld (pc := 33) hcx hW 3 g1 (by decide) rfl in_X5 1 (by decide) (by decide) q359 dX5_peek_33 (v := .int (cj_F σ 401 x0)) rfl ?_
      refine lv_iconst (pc := 36) (v := (1 : Int32)) hx hb dX5_peek_36 (by decide) ?_
      refine lv_iadd (pc := 37) hx hb dX5_peek_37 ?_
      refine cj_put (pc := 38) (σ1 := (cj_sF σ 401 x0 ((cj_F σ 401 x0) + (1 : Int32)))) hcx hW hS 3 g1 (by decide) rfl in_X5 tyX5_ok nmX5 1 (by decide) (by decide) rfl rfl rfl (cj_pI rfl) q359 dX5_peek_38 (fun H locs hW hS => ?_)
      refine lv_goto (pc := 41) (tgt := 0) hx hb dX5_peek_41 (by decide) ?_
      exact h d hd p e s m args below meth c hcx H locs _ hW hS (lv_sub hl [0] rfl)
set_option maxHeartbeats 4000000 in
set_option maxRecDepth 100000 in
theorem cb_Rd_peek_44 {E : cj_E} {σ : cj_S} {x0 : Nat} {P : Int32 → cj_S → Prop} (h : (cj_T σ x0 = 4 ∧ (∃ a2, (cj_R σ 402 x0) = some a2 ∧ (cj_T σ a2 = 1 ∧ (((cj_F σ 101 a2) ≤ (cj_F σ 401 x0) → P (-1 : Int32) σ) ∧ (¬ (cj_F σ 101 a2) ≤ (cj_F σ 401 x0) → (∃ a6, (cj_R σ 100 a2) = some a6 ∧ (cj_T σ a6 = 20 ∧ (vp_in (cj_F σ 401 x0) (cj_N σ a6) ∧ P ((cj_A σ a6 (cj_F σ 401 x0).toNatClampNeg) &&& (255 : Int32)) σ))))))))) : cg_Rd_peek_44 E σ x0 P := by
  intro d hd p e s m args below meth c hcx H locs ls hW hS hl
  have hx := hcx.1
  have hb := hcx.2.1
  have hown := hcx.2.2.2.2.2.1
  have hts := hcx.2.2.2.2.2.2.1
  refine lv_aload_n (pc := 44) hx hb dX5_peek_44 rfl (lv_at hl 0 rfl) ?_
  obtain ⟨g1, h⟩ := h
  refine cj_fld (pc := 45) hcx hW 3 g1 (by decide) rfl in_X5 1 (by decide) (by decide) q359 dX5_peek_45 (v := .int (cj_F σ 401 x0)) rfl ?_
  refine lv_aload_n (pc := 48) hx hb dX5_peek_48 rfl (lv_at hl 0 rfl) ?_
  refine cj_fld (pc := 49) hcx hW 3 g1 (by decide) rfl in_X5 2 (by decide) (by decide) q360 dX5_peek_49 (v := va_rf (cj_R σ 402 x0)) rfl ?_
  obtain ⟨a2, e3, h⟩ := h
  refine cj_stk (st' := [.ref a2, .int (cj_F σ 401 x0)]) (by rw [e3]; rfl) ?_
  obtain ⟨g4, h⟩ := h
  refine cj_fldN (pc := 52) hcx hW 0 g4 (by decide) rfl in_X1 1 (by decide) (by decide) (List.mem_of_getElem? (i := 23) rfl) dX5_peek_52 (v := .int (cj_F σ 101 a2)) rfl ?_
  refine lv_icmp_ge (pc := 55) (tgt := 77) hx hb dX5_peek_55 (by decide) (fun c5 => ?_) (fun c5 => ?_)
  · have h := h.1 c5
    refine lv_iconst (pc := 77) (v := (-1 : Int32)) hx hb dX5_peek_77 (by decide) ?_
    exact cj_reti (pc := 78) hcx hW hS rfl h (Nat.le_refl _) (Nat.le_refl _) dX5_peek_78
  · have h := h.2 c5
    refine lv_aload_n (pc := 58) hx hb dX5_peek_58 rfl (lv_at hl 0 rfl) ?_
    refine cj_fld (pc := 59) hcx hW 3 g1 (by decide) rfl in_X5 2 (by decide) (by decide) q360 dX5_peek_59 (v := va_rf (cj_R σ 402 x0)) rfl ?_
    refine cj_stk (st' := [.ref a2]) (by rw [e3]; rfl) ?_
    refine cj_fldN (pc := 62) hcx hW 0 g4 (by decide) rfl in_X1 0 (by decide) (by decide) (List.mem_of_getElem? (i := 22) rfl) dX5_peek_62 (v := va_rf (cj_R σ 100 a2)) rfl ?_
    refine lv_aload_n (pc := 65) hx hb dX5_peek_65 rfl (lv_at hl 0 rfl) ?_
    refine cj_fld (pc := 66) hcx hW 3 g1 (by decide) rfl in_X5 1 (by decide) (by decide) q359 dX5_peek_66 (v := .int (cj_F σ 401 x0)) rfl ?_
    obtain ⟨a6, e7, h⟩ := h
    refine cj_stk (st' := [.int (cj_F σ 401 x0), .ref a6]) (by rw [e7]; rfl) ?_
    obtain ⟨g8, h⟩ := h
    obtain ⟨g9, h⟩ := h
    refine cj_bald (pc := 69) hcx hW g8 g9 dX5_peek_69 ?_
    refine lv_sipush (pc := 70) (v := (255 : Int32)) hx hb dX5_peek_70 (by decide) ?_
    refine lv_iand (pc := 73) hx hb dX5_peek_73 ?_
    refine lv_goto (pc := 74) (tgt := 78) hx hb dX5_peek_74 (by decide) ?_
    exact cj_reti (pc := 78) hcx hW hS rfl h (Nat.le_refl _) (Nat.le_refl _) dX5_peek_78
set_option maxHeartbeats 4000000 in
set_option maxRecDepth 100000 in
theorem cb_Rd_peek {E : cj_E} {σ : cj_S} {x0 : Nat} {P : Int32 → cj_S → Prop} (h : cg_Rd_peek_0 E σ x0 P) : cs_Rd_peek E σ x0 P :=
  cj_enter (k := 0) (lv := [(0, .ref x0)]) (by decide) (Nat.le_of_ble_eq_true rfl) rfl (by
    intro d hd p e s m args below meth c hcx H locs ls hW hS hl
    have hx := hcx.1
    have hb := hcx.2.1
    have hown := hcx.2.2.2.2.2.1
    have hts := hcx.2.2.2.2.2.2.1
    exact h d hd p e s m args below meth c hcx H locs _ hW hS (lv_sub hl [0] rfl))
/-! Rw_init -/
set_option maxHeartbeats 4000000 in
set_option maxRecDepth 100000 in
theorem cb_Rw_init {E : cj_E} {σ : cj_S} {x0 : Nat} {P : cj_S → Prop} (h : P σ) : cs_Rw_init E σ x0 P :=
  cj_enter (k := 0) (lv := [(0, .ref x0)]) (by decide) (Nat.le_of_ble_eq_true rfl) rfl (by
    intro d hd p e s m args below meth c hcx H locs ls hW hS hl
    have hx := hcx.1
    have hb := hcx.2.1
    have hown := hcx.2.2.2.2.2.1
    have hts := hcx.2.2.2.2.2.2.1
    refine lv_aload_n (pc := 0) hx hb dX8_init_0 rfl (lv_at hl 0 rfl) ?_
    refine cj_objInit (pc := 1) hcx hl.1 q535 q171 q172 dX8_init_1 (Nat.le_add_left 1 _) (cj_lr (Nat.le_of_ble_eq_true rfl)) ?_
    exact cj_retv (pc := 4) hcx hW hS h (Nat.le_refl _) (Nat.le_refl _) dX8_init_4)
/-! Rw_places -/
set_option maxHeartbeats 4000000 in
set_option maxRecDepth 100000 in
theorem cb_Rw_places {E : cj_E} {σ : cj_S} {x0 : Int32} {P : Option Nat → cj_S → Prop} (h : ((x0 = (1 : Int32) → (∀ q7, cj_T σ q7 = 0 → P (some q7) (cj_newA σ q7 27 12))) ∧ (¬ x0 = (1 : Int32) → ((x0 = (2 : Int32) → (∀ q5, cj_T σ q5 = 0 → P (some q5) (cj_newA σ q5 28 12))) ∧ (¬ x0 = (2 : Int32) → (∀ q3, cj_T σ q3 = 0 → P (some q3) (cj_newA σ q3 29 12))))))) : cs_Rw_places E σ x0 P :=
  cj_enter (k := 0) (lv := [(0, .int x0)]) (by decide) (Nat.le_of_ble_eq_true rfl) rfl (by
    intro d hd p e s m args below meth c hcx H locs ls hW hS hl
    have hx := hcx.1
    have hb := hcx.2.1
    have hown := hcx.2.2.2.2.2.1
    have hts := hcx.2.2.2.2.2.2.1
    refine lv_iload_n (pc := 0) hx hb dX8_places_0 rfl (lv_at hl 0 rfl) ?_
    refine lv_iconst (pc := 1) (v := (1 : Int32)) hx hb dX8_places_1 (by decide) ?_
    refine lv_icmp_ne (pc := 2) (tgt := 11) hx hb dX8_places_2 (by decide) (fun c1 => ?_) (fun c1 => ?_)
    · have h := h.2 c1
      refine lv_iload_n (pc := 11) hx hb dX8_places_11 rfl (lv_at hl 0 rfl) ?_
      refine lv_iconst (pc := 12) (v := (2 : Int32)) hx hb dX8_places_12 (by decide) ?_
      refine lv_icmp_ne (pc := 13) (tgt := 24) hx hb dX8_places_13 (by decide) (fun c2 => ?_) (fun c2 => ?_)
      · have h := h.2 c2
        refine lv_bipush (pc := 24) (v := (12 : Int32)) hx hb dX8_places_24 (by decide) ?_
        refine cj_newr (pc := 26) hcx hW hS 9 (by unfold cj_ok_; decide) rfl (List.mem_of_getElem? (i := 5) rfl) q474 (N := 12) (by decide) (by decide) (by decide) (Nat.le_of_ble_eq_true rfl) (Nat.le_of_ble_eq_true rfl) dX8_places_26 (fun q3 H z4 hW hS => ?_)
        have h := h q3 z4
        exact cj_retq (pc := 29) (r := (some q3)) hcx hW hS (Or.inr ⟨_, rfl⟩) h (Nat.le_of_ble_eq_true rfl) (Nat.le_of_ble_eq_true rfl) dX8_places_29
      · have h := h.1 c2
        refine lv_bipush (pc := 16) (v := (12 : Int32)) hx hb dX8_places_16 (by decide) ?_
        refine cj_newr (pc := 18) hcx hW hS 8 (by unfold cj_ok_; decide) rfl (List.mem_of_getElem? (i := 4) rfl) q472 (N := 12) (by decide) (by decide) (by decide) (Nat.le_of_ble_eq_true rfl) (Nat.le_of_ble_eq_true rfl) dX8_places_18 (fun q5 H z6 hW hS => ?_)
        have h := h q5 z6
        refine lv_goto (pc := 21) (tgt := 29) hx hb dX8_places_21 (by decide) ?_
        exact cj_retq (pc := 29) (r := (some q5)) hcx hW hS (Or.inr ⟨_, rfl⟩) h (Nat.le_of_ble_eq_true rfl) (Nat.le_of_ble_eq_true rfl) dX8_places_29
    · have h := h.1 c1
      refine lv_bipush (pc := 5) (v := (12 : Int32)) hx hb dX8_places_5 (by decide) ?_
      refine cj_newr (pc := 7) hcx hW hS 7 (by unfold cj_ok_; decide) rfl (List.mem_of_getElem? (i := 3) rfl) q470 (N := 12) (by decide) (by decide) (by decide) (Nat.le_of_ble_eq_true rfl) (Nat.le_of_ble_eq_true rfl) dX8_places_7 (fun q7 H z8 hW hS => ?_)
      have h := h q7 z8
      exact cj_retq (pc := 10) (r := (some q7)) hcx hW hS (Or.inr ⟨_, rfl⟩) h (Nat.le_of_ble_eq_true rfl) (Nat.le_of_ble_eq_true rfl) dX8_places_10)
/-! Sc_init -/
set_option maxHeartbeats 4000000 in
set_option maxRecDepth 100000 in
theorem cb_Sc_init {E : cj_E} {σ : cj_S} {x0 : Nat} {P : cj_S → Prop} (h : (∀ q1, cj_T σ q1 = 0 → (cj_T (cj_newA σ q1 21 12) x0 = 10 ∧ (∀ q4, cj_T (cj_newA σ q1 21 12) q4 = 0 → (cj_T (cj_newA (cj_sR (cj_newA σ q1 21 12) 1000 x0 (some q1)) q4 21 48) x0 = 10 ∧ P (cj_sR (cj_newA (cj_sR (cj_newA σ q1 21 12) 1000 x0 (some q1)) q4 21 48) 1001 x0 (some q4))))))) : cs_Sc_init E σ x0 P :=
  cj_enter (k := 0) (lv := [(0, .ref x0)]) (by decide) (Nat.le_of_ble_eq_true rfl) rfl (by
    intro d hd p e s m args below meth c hcx H locs ls hW hS hl
    have hx := hcx.1
    have hb := hcx.2.1
    have hown := hcx.2.2.2.2.2.1
    have hts := hcx.2.2.2.2.2.2.1
    refine lv_aload_n (pc := 0) hx hb dX12_init_0 rfl (lv_at hl 0 rfl) ?_
    refine cj_objInit (pc := 1) hcx hl.1 q618 q171 q172 dX12_init_1 (Nat.le_add_left 1 _) (cj_lr (Nat.le_of_ble_eq_true rfl)) ?_
    refine lv_aload_n (pc := 4) hx hb dX12_init_4 rfl (lv_at hl 0 rfl) ?_
    refine lv_bipush (pc := 5) (v := (12 : Int32)) hx hb dX12_init_5 (by decide) ?_
    refine cj_newi (pc := 7) hcx hW hS (N := 12) (by decide) (by decide) (by decide) (Nat.le_of_ble_eq_true rfl) (Nat.le_of_ble_eq_true rfl) dX12_init_7 (fun q1 H z2 hW hS => ?_)
    have h := h q1 z2
    obtain ⟨g3, h⟩ := h
    refine cj_putF (pc := 9) (σ1 := (cj_sR (cj_newA σ q1 21 12) 1000 x0 (some q1))) hcx hW hS 9 g3 (by decide) rfl in_X12 tyX12_ok nmX12 0 (by decide) (by decide) rfl rfl rfl (cj_nRa _ (some q1)) (cj_fRa _ (some q1)) (cj_pR (x := (some q1)) rfl) q619 dX12_init_9 (fun H locs hW hS => ?_)
    refine lv_aload_n (pc := 12) hx hb dX12_init_12 rfl (lv_at hl 0 rfl) ?_
    refine lv_bipush (pc := 13) (v := (48 : Int32)) hx hb dX12_init_13 (by decide) ?_
    refine cj_newi (pc := 15) hcx hW hS (N := 48) (by decide) (by decide) (by decide) (Nat.le_of_ble_eq_true rfl) (Nat.le_of_ble_eq_true rfl) dX12_init_15 (fun q4 H z5 hW hS => ?_)
    have h := h q4 z5
    obtain ⟨g6, h⟩ := h
    refine cj_putF (pc := 17) (σ1 := (cj_sR (cj_newA (cj_sR (cj_newA σ q1 21 12) 1000 x0 (some q1)) q4 21 48) 1001 x0 (some q4))) hcx hW hS 9 g6 (by decide) rfl in_X12 tyX12_ok nmX12 1 (by decide) (by decide) rfl rfl rfl (cj_nRa _ (some q4)) (cj_fRa _ (some q4)) (cj_pR (x := (some q4)) rfl) q622 dX12_init_17 (fun H locs hW hS => ?_)
    exact cj_retv (pc := 20) hcx hW hS h (Nat.le_of_ble_eq_true rfl) (Nat.le_of_ble_eq_true rfl) dX12_init_20)
/-! Sc_number -/
set_option maxHeartbeats 4000000 in
set_option maxRecDepth 100000 in
theorem cb_Sc_number {E : cj_E} {σ : cj_S} {x0 : Nat} {x1 : Int32} {x2 : Int32} {P : Int32 → cj_S → Prop} (h : (cj_T σ x0 = 10 ∧ (∃ a2, (cj_R σ 1001 x0) = some a2 ∧ (cj_T σ a2 = 21 ∧ (vp_in (((4 : Int32) * x1) + x2) (cj_N σ a2) ∧ P (cj_A σ a2 (((4 : Int32) * x1) + x2).toNatClampNeg) σ))))) : cs_Sc_number E σ x0 x1 x2 P :=
  cj_enter (k := 0) (lv := [(0, .ref x0), (1, .int x1), (2, .int x2)]) (by decide) (Nat.le_of_ble_eq_true rfl) rfl (by
    intro d hd p e s m args below meth c hcx H locs ls hW hS hl
    have hx := hcx.1
    have hb := hcx.2.1
    have hown := hcx.2.2.2.2.2.1
    have hts := hcx.2.2.2.2.2.2.1
    refine lv_aload_n (pc := 0) hx hb dX12_number_0 rfl (lv_at hl 0 rfl) ?_
    obtain ⟨g1, h⟩ := h
    refine cj_fld (pc := 1) hcx hW 9 g1 (by decide) rfl in_X12 1 (by decide) (by decide) q622 dX12_number_1 (v := va_rf (cj_R σ 1001 x0)) rfl ?_
    refine lv_iconst (pc := 4) (v := (4 : Int32)) hx hb dX12_number_4 (by decide) ?_
    refine lv_iload_n (pc := 5) hx hb dX12_number_5 rfl (lv_at hl 1 rfl) ?_
    refine lv_imul (pc := 6) hx hb dX12_number_6 ?_
    refine lv_iload_n (pc := 7) hx hb dX12_number_7 rfl (lv_at hl 2 rfl) ?_
    refine lv_iadd (pc := 8) hx hb dX12_number_8 ?_
    obtain ⟨a2, e3, h⟩ := h
    refine cj_stk (st' := [.int (((4 : Int32) * x1) + x2), .ref a2]) (by rw [e3]; rfl) ?_
    obtain ⟨g4, h⟩ := h
    obtain ⟨g5, h⟩ := h
    refine cj_iald (pc := 9) hcx hW g4 g5 dX12_number_9 ?_
    exact cj_reti (pc := 10) hcx hW hS rfl h (Nat.le_refl _) (Nat.le_refl _) dX12_number_10)
/-! St_done -/
set_option maxHeartbeats 4000000 in
set_option maxRecDepth 100000 in
theorem cb_St_done {E : cj_E} {σ : cj_S} {x0 : Nat} {x1 : Int32} {P : Int32 → cj_S → Prop} (h : (cj_T σ x0 = 2 ∧ P (-1 : Int32) (cj_sF σ 205 x0 x1))) : cs_St_done E σ x0 x1 P :=
  cj_enter (k := 0) (lv := [(0, .ref x0), (1, .int x1)]) (by decide) (Nat.le_of_ble_eq_true rfl) rfl (by
    intro d hd p e s m args below meth c hcx H locs ls hW hS hl
    have hx := hcx.1
    have hb := hcx.2.1
    have hown := hcx.2.2.2.2.2.1
    have hts := hcx.2.2.2.2.2.2.1
    refine lv_aload_n (pc := 0) hx hb dX2_done_0 rfl (lv_at hl 0 rfl) ?_
    refine lv_iload_n (pc := 1) hx hb dX2_done_1 rfl (lv_at hl 1 rfl) ?_
    obtain ⟨g1, h⟩ := h
    refine cj_put (pc := 2) (σ1 := (cj_sF σ 205 x0 x1)) hcx hW hS 1 g1 (by decide) rfl in_X2 tyX2_ok nmX2 5 (by decide) (by decide) rfl rfl rfl (cj_pI rfl) q196 dX2_done_2 (fun H locs hW hS => ?_)
    refine lv_iconst (pc := 5) (v := (-1 : Int32)) hx hb dX2_done_5 (by decide) ?_
    exact cj_reti (pc := 6) hcx hW hS rfl h (Nat.le_refl _) (Nat.le_refl _) dX2_done_6)
/-! St_init -/
set_option maxHeartbeats 4000000 in
set_option maxRecDepth 100000 in
theorem cb_St_init {E : cj_E} {σ : cj_S} {x0 : Nat} {x1 : Option Nat} {P : cj_S → Prop} (h : (cj_T σ x0 = 2 ∧ (∀ q2, cj_T σ q2 = 0 → (cj_T (cj_newA (cj_sR σ 206 x0 x1) q2 26 4) x0 = 2 ∧ (∀ q5, cj_T (cj_newA (cj_sR σ 206 x0 x1) q2 26 4) q5 = 0 → (cj_T (cj_newA (cj_sR (cj_newA (cj_sR σ 206 x0 x1) q2 26 4) 200 x0 (some q2)) q5 21 180) x0 = 2 ∧ P (cj_sR (cj_newA (cj_sR (cj_newA (cj_sR σ 206 x0 x1) q2 26 4) 200 x0 (some q2)) q5 21 180) 201 x0 (some q5)))))))) : cs_St_init E σ x0 x1 P :=
  cj_enter (k := 0) (lv := [(0, .ref x0), (1, va_rf x1)]) (by decide) (by cases x1 <;> exact Nat.le_of_ble_eq_true rfl) (by cases x1 <;> rfl) (by
    intro d hd p e s m args below meth c hcx H locs ls hW hS hl
    have hx := hcx.1
    have hb := hcx.2.1
    have hown := hcx.2.2.2.2.2.1
    have hts := hcx.2.2.2.2.2.2.1
    refine lv_aload_n (pc := 0) hx hb dX2_init_0 rfl (lv_at hl 0 rfl) ?_
    refine cj_aload_n (pc := 1) hx hb dX2_init_1 rfl (lv_at hl 1 rfl) ?_
    obtain ⟨g1, h⟩ := h
    refine cj_putF (pc := 2) (σ1 := (cj_sR σ 206 x0 x1)) hcx hW hS 1 g1 (by decide) rfl in_X2 tyX2_ok nmX2 6 (by decide) (by decide) rfl rfl rfl (cj_nR _ x1) (cj_fR _ x1) (cj_pR (x := x1) rfl) q198 dX2_init_2 (fun H locs hW hS => ?_)
    refine lv_aload_n (pc := 5) hx hb dX2_init_5 rfl (lv_at hl 0 rfl) ?_
    refine cj_objInit (pc := 6) hcx hl.1 q182 q171 q172 dX2_init_6 (Nat.le_add_left 1 _) (cj_lr (Nat.le_of_ble_eq_true rfl)) ?_
    refine lv_aload_n (pc := 9) hx hb dX2_init_9 rfl (lv_at hl 0 rfl) ?_
    refine lv_iconst (pc := 10) (v := (4 : Int32)) hx hb dX2_init_10 (by decide) ?_
    refine cj_newr (pc := 11) hcx hW hS 6 (by unfold cj_ok_; decide) rfl (List.mem_of_getElem? (i := 1) rfl) q183 (N := 4) (by decide) (by decide) (by decide) (Nat.le_of_ble_eq_true rfl) (Nat.le_of_ble_eq_true rfl) dX2_init_11 (fun q2 H z3 hW hS => ?_)
    have h := h q2 z3
    obtain ⟨g4, h⟩ := h
    refine cj_putF (pc := 14) (σ1 := (cj_sR (cj_newA (cj_sR σ 206 x0 x1) q2 26 4) 200 x0 (some q2))) hcx hW hS 1 g4 (by decide) rfl in_X2 tyX2_ok nmX2 0 (by decide) (by decide) rfl rfl rfl (cj_nRa _ (some q2)) (cj_fRa _ (some q2)) (cj_pR (x := (some q2)) rfl) q184 dX2_init_14 (fun H locs hW hS => ?_)
    refine lv_aload_n (pc := 17) hx hb dX2_init_17 rfl (lv_at hl 0 rfl) ?_
    refine lv_sipush (pc := 18) (v := (180 : Int32)) hx hb dX2_init_18 (by decide) ?_
    refine cj_newi (pc := 21) hcx hW hS (N := 180) (by decide) (by decide) (by decide) (Nat.le_of_ble_eq_true rfl) (Nat.le_of_ble_eq_true rfl) dX2_init_21 (fun q5 H z6 hW hS => ?_)
    have h := h q5 z6
    obtain ⟨g7, h⟩ := h
    refine cj_putF (pc := 23) (σ1 := (cj_sR (cj_newA (cj_sR (cj_newA (cj_sR σ 206 x0 x1) q2 26 4) 200 x0 (some q2)) q5 21 180) 201 x0 (some q5))) hcx hW hS 1 g7 (by decide) rfl in_X2 tyX2_ok nmX2 1 (by decide) (by decide) rfl rfl rfl (cj_nRa _ (some q5)) (cj_fRa _ (some q5)) (cj_pR (x := (some q5)) rfl) q187 dX2_init_23 (fun H locs hW hS => ?_)
    exact cj_retv (pc := 26) hcx hW hS h (Nat.le_of_ble_eq_true rfl) (Nat.le_of_ble_eq_true rfl) dX2_init_26)
/-! St_notes -/
set_option maxHeartbeats 4000000 in
set_option maxRecDepth 100000 in
theorem cb_St_notes_35 {E : cj_E} {σ : cj_S} {x0 : Nat} {x1 : Int32} {x2 : Int32} {x3 : Int32} {P : cj_S → Prop} (h : (cj_T σ x0 = 2 ∧ (∃ a2, (cj_R σ 201 x0) = some a2 ∧ (cj_T σ a2 = 21 ∧ (vp_in ((3 : Int32) * (cj_F σ 204 x0)) (cj_N σ a2) ∧ (vp_in (((3 : Int32) * (cj_F σ 204 x0)) + (1 : Int32)) (cj_N σ a2) ∧ (vp_in (((3 : Int32) * (cj_F σ 204 x0)) + (2 : Int32)) (cj_N σ a2) ∧ P (cj_sF (cj_sA (cj_sA (cj_sA σ a2 ((3 : Int32) * (cj_F σ 204 x0)).toNatClampNeg x1) a2 (((3 : Int32) * (cj_F σ 204 x0)) + (1 : Int32)).toNatClampNeg x2) a2 (((3 : Int32) * (cj_F σ 204 x0)) + (2 : Int32)).toNatClampNeg x3) 204 x0 ((cj_F σ 204 x0) + (1 : Int32)))))))))) : cg_St_notes_35 E σ x0 x1 x2 x3 P := by
  intro d hd p e s m args below meth c hcx H locs ls hW hS hl
  have hx := hcx.1
  have hb := hcx.2.1
  have hown := hcx.2.2.2.2.2.1
  have hts := hcx.2.2.2.2.2.2.1
  refine lv_aload_n (pc := 35) hx hb dX2_notes_35 rfl (lv_at hl 0 rfl) ?_
  obtain ⟨g1, h⟩ := h
  refine cj_fld (pc := 36) hcx hW 1 g1 (by decide) rfl in_X2 1 (by decide) (by decide) q187 dX2_notes_36 (v := va_rf (cj_R σ 201 x0)) rfl ?_
  refine lv_iconst (pc := 39) (v := (3 : Int32)) hx hb dX2_notes_39 (by decide) ?_
  refine lv_aload_n (pc := 40) hx hb dX2_notes_40 rfl (lv_at hl 0 rfl) ?_
  refine cj_fld (pc := 41) hcx hW 1 g1 (by decide) rfl in_X2 4 (by decide) (by decide) q194 dX2_notes_41 (v := .int (cj_F σ 204 x0)) rfl ?_
  refine lv_imul (pc := 44) hx hb dX2_notes_44 ?_
  refine lv_iload_n (pc := 45) hx hb dX2_notes_45 rfl (lv_at hl 1 rfl) ?_
  obtain ⟨a2, e3, h⟩ := h
  refine cj_stk (st' := [.int x1, .int ((3 : Int32) * (cj_F σ 204 x0)), .ref a2]) (by rw [e3]; rfl) ?_
  obtain ⟨g4, h⟩ := h
  obtain ⟨g5, h⟩ := h
  refine cj_iast (pc := 46) hcx hW hS g4 g5 dX2_notes_46 (fun H locs hW hS => ?_)
  refine lv_aload_n (pc := 47) hx hb dX2_notes_47 rfl (lv_at hl 0 rfl) ?_
  refine cj_fld (pc := 48) hcx hW 1 g1 (by decide) rfl in_X2 1 (by decide) (by decide) q187 dX2_notes_48 (v := va_rf (cj_R σ 201 x0)) rfl ?_
  refine lv_iconst (pc := 51) (v := (3 : Int32)) hx hb dX2_notes_51 (by decide) ?_
  refine lv_aload_n (pc := 52) hx hb dX2_notes_52 rfl (lv_at hl 0 rfl) ?_
  refine cj_fld (pc := 53) hcx hW 1 g1 (by decide) rfl in_X2 4 (by decide) (by decide) q194 dX2_notes_53 (v := .int (cj_F σ 204 x0)) rfl ?_
  refine lv_imul (pc := 56) hx hb dX2_notes_56 ?_
  refine lv_iconst (pc := 57) (v := (1 : Int32)) hx hb dX2_notes_57 (by decide) ?_
  refine lv_iadd (pc := 58) hx hb dX2_notes_58 ?_
  refine lv_iload_n (pc := 59) hx hb dX2_notes_59 rfl (lv_at hl 2 rfl) ?_
  refine cj_stk (st' := [.int x2, .int (((3 : Int32) * (cj_F σ 204 x0)) + (1 : Int32)), .ref a2]) (by rw [e3]; rfl) ?_
  obtain ⟨g6, h⟩ := h
  refine cj_iast (pc := 60) hcx hW hS g4 g6 dX2_notes_60 (fun H locs hW hS => ?_)
  refine lv_aload_n (pc := 61) hx hb dX2_notes_61 rfl (lv_at hl 0 rfl) ?_
  refine cj_fld (pc := 62) hcx hW 1 g1 (by decide) rfl in_X2 1 (by decide) (by decide) q187 dX2_notes_62 (v := va_rf (cj_R σ 201 x0)) rfl ?_
  refine lv_iconst (pc := 65) (v := (3 : Int32)) hx hb dX2_notes_65 (by decide) ?_
  refine lv_aload_n (pc := 66) hx hb dX2_notes_66 rfl (lv_at hl 0 rfl) ?_
  refine cj_fld (pc := 67) hcx hW 1 g1 (by decide) rfl in_X2 4 (by decide) (by decide) q194 dX2_notes_67 (v := .int (cj_F σ 204 x0)) rfl ?_
  refine lv_imul (pc := 70) hx hb dX2_notes_70 ?_
  refine lv_iconst (pc := 71) (v := (2 : Int32)) hx hb dX2_notes_71 (by decide) ?_
  refine lv_iadd (pc := 72) hx hb dX2_notes_72 ?_
  refine lv_iload_n (pc := 73) hx hb dX2_notes_73 rfl (lv_at hl 3 rfl) ?_
  refine cj_stk (st' := [.int x3, .int (((3 : Int32) * (cj_F σ 204 x0)) + (2 : Int32)), .ref a2]) (by rw [e3]; rfl) ?_
  obtain ⟨g7, h⟩ := h
  refine cj_iast (pc := 74) hcx hW hS g4 g7 dX2_notes_74 (fun H locs hW hS => ?_)
  refine lv_aload_n (pc := 75) hx hb dX2_notes_75 rfl (lv_at hl 0 rfl) ?_
  refine lv_dup (pc := 76) hx hb dX2_notes_76 rfl ?_
  refine cj_fld (pc := 77) hcx hW 1 g1 (by decide) rfl in_X2 4 (by decide) (by decide) q194 dX2_notes_77 (v := .int (cj_F σ 204 x0)) rfl ?_
  refine lv_iconst (pc := 80) (v := (1 : Int32)) hx hb dX2_notes_80 (by decide) ?_
  refine lv_iadd (pc := 81) hx hb dX2_notes_81 ?_
  refine cj_put (pc := 82) (σ1 := (cj_sF (cj_sA (cj_sA (cj_sA σ a2 ((3 : Int32) * (cj_F σ 204 x0)).toNatClampNeg x1) a2 (((3 : Int32) * (cj_F σ 204 x0)) + (1 : Int32)).toNatClampNeg x2) a2 (((3 : Int32) * (cj_F σ 204 x0)) + (2 : Int32)).toNatClampNeg x3) 204 x0 ((cj_F σ 204 x0) + (1 : Int32)))) hcx hW hS 1 g1 (by decide) rfl in_X2 tyX2_ok nmX2 4 (by decide) (by decide) rfl rfl rfl (cj_pI rfl) q194 dX2_notes_82 (fun H locs hW hS => ?_)
  exact cj_retv (pc := 85) hcx hW hS h (Nat.le_refl _) (Nat.le_refl _) dX2_notes_85
set_option maxHeartbeats 4000000 in
set_option maxRecDepth 100000 in
theorem cb_St_notes {E : cj_E} {σ : cj_S} {x0 : Nat} {x1 : Int32} {x2 : Int32} {x3 : Int32} {P : cj_S → Prop} (h : (cj_T σ x0 = 2 ∧ (((cj_F σ 204 x0) = (60 : Int32) → (∃ a3, (cj_R σ 201 x0) = some a3 ∧ (cj_T σ a3 = 21 ∧ ((3 : Int32).toNatClampNeg + (177 : Int32).toNatClampNeg ≤ cj_N σ a3 ∧ ((0 : Int32).toNatClampNeg + (177 : Int32).toNatClampNeg ≤ cj_N σ a3 ∧ cg_St_notes_35 E (cj_sF (cj_mA σ a3 (va_cpy (cj_A σ a3) (cj_A σ a3) (3 : Int32).toNatClampNeg (0 : Int32).toNatClampNeg (177 : Int32).toNatClampNeg)) 204 x0 ((cj_F σ 204 x0) - (1 : Int32))) x0 x1 x2 x3 P))))) ∧ (¬ (cj_F σ 204 x0) = (60 : Int32) → cg_St_notes_35 E σ x0 x1 x2 x3 P)))) : cs_St_notes E σ x0 x1 x2 x3 P :=
  cj_enter (k := 0) (lv := [(0, .ref x0), (1, .int x1), (2, .int x2), (3, .int x3)]) (by decide) (Nat.le_of_ble_eq_true rfl) rfl (by
    intro d hd p e s m args below meth c hcx H locs ls hW hS hl
    have hx := hcx.1
    have hb := hcx.2.1
    have hown := hcx.2.2.2.2.2.1
    have hts := hcx.2.2.2.2.2.2.1
    refine lv_aload_n (pc := 0) hx hb dX2_notes_0 rfl (lv_at hl 0 rfl) ?_
    obtain ⟨g1, h⟩ := h
    refine cj_fld (pc := 1) hcx hW 1 g1 (by decide) rfl in_X2 4 (by decide) (by decide) q194 dX2_notes_1 (v := .int (cj_F σ 204 x0)) rfl ?_
    refine lv_bipush (pc := 4) (v := (60 : Int32)) hx hb dX2_notes_4 (by decide) ?_
    refine lv_icmp_ne (pc := 6) (tgt := 35) hx hb dX2_notes_6 (by decide) (fun c2 => ?_) (fun c2 => ?_)
    · have h := h.2 c2
      exact h d hd p e s m args below meth c hcx H locs _ hW hS (lv_sub hl [0, 1, 2, 3] rfl)
    · have h := h.1 c2
      refine lv_aload_n (pc := 9) hx hb dX2_notes_9 rfl (lv_at hl 0 rfl) ?_
      refine cj_fld (pc := 10) hcx hW 1 g1 (by decide) rfl in_X2 1 (by decide) (by decide) q187 dX2_notes_10 (v := va_rf (cj_R σ 201 x0)) rfl ?_
      refine lv_iconst (pc := 13) (v := (3 : Int32)) hx hb dX2_notes_13 (by decide) ?_
      refine lv_aload_n (pc := 14) hx hb dX2_notes_14 rfl (lv_at hl 0 rfl) ?_
      refine cj_fld (pc := 15) hcx hW 1 g1 (by decide) rfl in_X2 1 (by decide) (by decide) q187 dX2_notes_15 (v := va_rf (cj_R σ 201 x0)) rfl ?_
      refine lv_iconst (pc := 18) (v := (0 : Int32)) hx hb dX2_notes_18 (by decide) ?_
      refine lv_sipush (pc := 19) (v := (177 : Int32)) hx hb dX2_notes_19 (by decide) ?_
      obtain ⟨a3, e4, h⟩ := h
      refine cj_stk (st' := [.int (177 : Int32), .int (0 : Int32), .ref a3, .int (3 : Int32), .ref a3]) (by rw [e4]; rfl) ?_
      obtain ⟨g5, h⟩ := h
      obtain ⟨g6, h⟩ := h
      obtain ⟨g7, h⟩ := h
      refine cj_copyi (pc := 22) hcx hW hS hl.1 g5 g5 q757 (by decide) (by decide) (by decide) g6 g7 (Nat.le_add_left 1 _) (cj_lr (Nat.le_of_ble_eq_true rfl)) dX2_notes_22 (fun H locs hW hS => ?_)
      refine lv_aload_n (pc := 25) hx hb dX2_notes_25 rfl (lv_at hl 0 rfl) ?_
      refine lv_dup (pc := 26) hx hb dX2_notes_26 rfl ?_
      refine cj_fld (pc := 27) hcx hW 1 g1 (by decide) rfl in_X2 4 (by decide) (by decide) q194 dX2_notes_27 (v := .int (cj_F σ 204 x0)) rfl ?_
      refine lv_iconst (pc := 30) (v := (1 : Int32)) hx hb dX2_notes_30 (by decide) ?_
      refine lv_isub (pc := 31) hx hb dX2_notes_31 ?_
      refine cj_put (pc := 32) (σ1 := (cj_sF (cj_mA σ a3 (va_cpy (cj_A σ a3) (cj_A σ a3) (3 : Int32).toNatClampNeg (0 : Int32).toNatClampNeg (177 : Int32).toNatClampNeg)) 204 x0 ((cj_F σ 204 x0) - (1 : Int32)))) hcx hW hS 1 g1 (by decide) rfl in_X2 tyX2_ok nmX2 4 (by decide) (by decide) rfl rfl rfl (cj_pI rfl) q194 dX2_notes_32 (fun H locs hW hS => ?_)
      exact h d hd p e s m args below meth c hcx H locs _ hW hS (lv_sub hl [0, 1, 2, 3] rfl))
/-! St_rows -/
set_option maxHeartbeats 4000000 in
set_option maxRecDepth 100000 in
theorem cb_St_rows_4 {E : cj_E} {σ : cj_S} {x0 : Nat} {x1 : Int32} {x2 : Int32} {P : Int32 → cj_S → Prop} (h : (cj_T σ x0 = 2 ∧ (∃ a2, (cj_R σ 206 x0) = some a2 ∧ (cj_T σ a2 = 1 ∧ (((cj_F σ 107 a2) ≤ x2 → P x1 σ) ∧ (¬ (cj_F σ 107 a2) ≤ x2 → (∃ a6, (cj_R σ 200 x0) = some a6 ∧ (cj_T σ a6 = 26 ∧ (vp_in x2 (cj_N σ a6) ∧ (∃ a10, (cj_B σ a6 x2.toNatClampNeg) = some a10 ∧ (cj_T σ a10 = 6 ∧ cg_St_rows_4 E σ x0 (x1 + (cj_F σ 603 a10)) (x2 + (1 : Int32)) P))))))))))) : cg_St_rows_4 E σ x0 x1 x2 P := by
  intro d hd p e s m args below meth c hcx H locs ls hW hS hl
  have hx := hcx.1
  have hb := hcx.2.1
  have hown := hcx.2.2.2.2.2.1
  have hts := hcx.2.2.2.2.2.2.1
  refine lv_iload_n (pc := 4) hx hb dX2_rows_4 rfl (lv_at hl 2 rfl) ?_
  refine lv_aload_n (pc := 5) hx hb dX2_rows_5 rfl (lv_at hl 0 rfl) ?_
  obtain ⟨g1, h⟩ := h
  refine cj_fld (pc := 6) hcx hW 1 g1 (by decide) rfl in_X2 6 (by decide) (by decide) q198 dX2_rows_6 (v := va_rf (cj_R σ 206 x0)) rfl ?_
  obtain ⟨a2, e3, h⟩ := h
  refine cj_stk (st' := [.ref a2, .int x2]) (by rw [e3]; rfl) ?_
  obtain ⟨g4, h⟩ := h
  refine cj_fldN (pc := 9) hcx hW 0 g4 (by decide) rfl in_X1 7 (by decide) (by decide) (List.mem_of_getElem? (i := 17) rfl) dX2_rows_9 (v := .int (cj_F σ 107 a2)) rfl ?_
  refine lv_icmp_ge (pc := 12) (tgt := 33) hx hb dX2_rows_12 (by decide) (fun c5 => ?_) (fun c5 => ?_)
  · have h := h.1 c5
    refine lv_iload_n (pc := 33) hx hb dX2_rows_33 rfl (lv_at hl 1 rfl) ?_
    exact cj_reti (pc := 34) hcx hW hS rfl h (Nat.le_refl _) (Nat.le_refl _) dX2_rows_34
  · have h := h.2 c5
    refine lv_iload_n (pc := 15) hx hb dX2_rows_15 rfl (lv_at hl 1 rfl) ?_
    refine lv_aload_n (pc := 16) hx hb dX2_rows_16 rfl (lv_at hl 0 rfl) ?_
    refine cj_fld (pc := 17) hcx hW 1 g1 (by decide) rfl in_X2 0 (by decide) (by decide) q184 dX2_rows_17 (v := va_rf (cj_R σ 200 x0)) rfl ?_
    refine lv_iload_n (pc := 20) hx hb dX2_rows_20 rfl (lv_at hl 2 rfl) ?_
    obtain ⟨a6, e7, h⟩ := h
    refine cj_stk (st' := [.int x2, .ref a6, .int x1]) (by rw [e7]; rfl) ?_
    obtain ⟨g8, h⟩ := h
    obtain ⟨g9, h⟩ := h
    refine cj_aald (pc := 21) hcx hW g8 (by unfold cj_rt; decide) g9 dX2_rows_21 ?_
    obtain ⟨a10, e11, h⟩ := h
    refine cj_stk (st' := [.ref a10, .int x1]) (by rw [e11]; rfl) ?_
    obtain ⟨g12, h⟩ := h
    refine cj_fldN (pc := 22) hcx hW 5 g12 (by decide) rfl in_X7 3 (by decide) (by decide) (List.mem_of_getElem? (i := 18) rfl) dX2_rows_22 (v := .int (cj_F σ 603 a10)) rfl ?_
    refine lv_iadd (pc := 25) hx hb dX2_rows_25 ?_
    refine lv_istore_n (pc := 26) (lv' := [(1, .int (x1 + (cj_F σ 603 a10))), (0, .ref x0), (2, .int x2)]) hx hb dX2_rows_26 rfl hl (by decide) rfl (fun ls hl => ?_)
    refine lv_iinc (pc := 27) (v := (x2 + (1 : Int32))) (lv' := [(2, .int (x2 + (1 : Int32))), (1, .int (x1 + (cj_F σ 603 a10))), (0, .ref x0)]) hx hb dX2_rows_27 hl (k := 2) rfl rfl (by decide) rfl (fun ls hl => ?_)
    refine lv_goto (pc := 30) (tgt := 4) hx hb dX2_rows_30 (by decide) ?_
    exact h d hd p e s m args below meth c hcx H locs _ hW hS (lv_sub hl [2, 1, 0] rfl)
set_option maxHeartbeats 4000000 in
set_option maxRecDepth 100000 in
theorem cb_St_rows {E : cj_E} {σ : cj_S} {x0 : Nat} {P : Int32 → cj_S → Prop} (h : cg_St_rows_4 E σ x0 (0 : Int32) (0 : Int32) P) : cs_St_rows E σ x0 P :=
  cj_enter (k := 0) (lv := [(0, .ref x0)]) (by decide) (Nat.le_of_ble_eq_true rfl) rfl (by
    intro d hd p e s m args below meth c hcx H locs ls hW hS hl
    have hx := hcx.1
    have hb := hcx.2.1
    have hown := hcx.2.2.2.2.2.1
    have hts := hcx.2.2.2.2.2.2.1
    refine lv_iconst (pc := 0) (v := (0 : Int32)) hx hb dX2_rows_0 (by decide) ?_
    refine lv_istore_n (pc := 1) (lv' := [(1, .int (0 : Int32)), (0, .ref x0)]) hx hb dX2_rows_1 rfl hl (by decide) rfl (fun ls hl => ?_)
    refine lv_iconst (pc := 2) (v := (0 : Int32)) hx hb dX2_rows_2 (by decide) ?_
    refine lv_istore_n (pc := 3) (lv' := [(2, .int (0 : Int32)), (1, .int (0 : Int32)), (0, .ref x0)]) hx hb dX2_rows_3 rfl hl (by decide) rfl (fun ls hl => ?_)
    exact h d hd p e s m args below meth c hcx H locs _ hW hS (lv_sub hl [2, 1, 0] rfl))
/-! St_sees -/
set_option maxHeartbeats 4000000 in
set_option maxRecDepth 100000 in
theorem cb_St_sees {E : cj_E} {σ : cj_S} {x0 : Nat} {x1 : Option Nat} {P : cj_S → Prop} (h : (∃ a1, x1 = some a1 ∧ (cj_T σ a1 = 2 ∧ (cj_T σ x0 = 2 ∧ (∃ a5, (cj_R σ 200 a1) = some a5 ∧ (∃ a7, (cj_R σ 200 x0) = some a7 ∧ (cj_T σ a5 = 26 ∧ (cj_T σ a7 = 26 ∧ ((0 : Int32).toNatClampNeg + (4 : Int32).toNatClampNeg ≤ cj_N σ a5 ∧ ((0 : Int32).toNatClampNeg + (4 : Int32).toNatClampNeg ≤ cj_N σ a7 ∧ ((∀ i, i < (4 : Int32).toNatClampNeg → ∀ v, cj_B σ a5 ((0 : Int32).toNatClampNeg + i) = some v → cj_T σ v = 6) ∧ P (cj_sF (cj_sF (cj_mB σ a7 (va_cpy (cj_B σ a5) (cj_B σ a7) (0 : Int32).toNatClampNeg (0 : Int32).toNatClampNeg (4 : Int32).toNatClampNeg)) 202 x0 (cj_F σ 202 a1)) 203 x0 (cj_F σ 203 a1))))))))))))) : cs_St_sees E σ x0 x1 P :=
  cj_enter (k := 0) (lv := [(0, .ref x0), (1, va_rf x1)]) (by decide) (by cases x1 <;> exact Nat.le_of_ble_eq_true rfl) (by cases x1 <;> rfl) (by
    intro d hd p e s m args below meth c hcx H locs ls hW hS hl
    have hx := hcx.1
    have hb := hcx.2.1
    have hown := hcx.2.2.2.2.2.1
    have hts := hcx.2.2.2.2.2.2.1
    refine cj_aload_n (pc := 0) hx hb dX2_sees_0 rfl (lv_at hl 1 rfl) ?_
    obtain ⟨a1, e2, h⟩ := h
    refine cj_stk (st' := [.ref a1]) (by rw [e2]; rfl) ?_
    obtain ⟨g3, h⟩ := h
    refine cj_fld (pc := 1) hcx hW 1 g3 (by decide) rfl in_X2 0 (by decide) (by decide) q184 dX2_sees_1 (v := va_rf (cj_R σ 200 a1)) rfl ?_
    refine lv_iconst (pc := 4) (v := (0 : Int32)) hx hb dX2_sees_4 (by decide) ?_
    refine lv_aload_n (pc := 5) hx hb dX2_sees_5 rfl (lv_at hl 0 rfl) ?_
    obtain ⟨g4, h⟩ := h
    refine cj_fld (pc := 6) hcx hW 1 g4 (by decide) rfl in_X2 0 (by decide) (by decide) q184 dX2_sees_6 (v := va_rf (cj_R σ 200 x0)) rfl ?_
    refine lv_iconst (pc := 9) (v := (0 : Int32)) hx hb dX2_sees_9 (by decide) ?_
    refine lv_iconst (pc := 10) (v := (4 : Int32)) hx hb dX2_sees_10 (by decide) ?_
    obtain ⟨a5, e6, h⟩ := h
    refine cj_stk (st' := [.int (4 : Int32), .int (0 : Int32), va_rf (cj_R σ 200 x0), .int (0 : Int32), .ref a5]) (by rw [e6]; rfl) ?_
    obtain ⟨a7, e8, h⟩ := h
    refine cj_stk (st' := [.int (4 : Int32), .int (0 : Int32), .ref a7, .int (0 : Int32), .ref a5]) (by rw [e8]; rfl) ?_
    obtain ⟨g10, h⟩ := h
    obtain ⟨g11, h⟩ := h
    obtain ⟨g12, h⟩ := h
    obtain ⟨g13, h⟩ := h
    obtain ⟨g14, h⟩ := h
    refine cj_copyr (pc := 11) hcx hW hS hl.1 6 (by unfold cj_ok_; decide) g10 g11 q757 (by decide) (by decide) (by decide) g12 g13 g14 (Nat.le_add_left 1 _) (cj_lr (Nat.le_of_ble_eq_true rfl)) dX2_sees_11 (fun H locs hW hS => ?_)
    refine lv_aload_n (pc := 14) hx hb dX2_sees_14 rfl (lv_at hl 0 rfl) ?_
    refine cj_aload_n (pc := 15) hx hb dX2_sees_15 rfl (lv_at hl 1 rfl) ?_
    refine cj_stk (st' := [.ref a1, .ref x0]) (by rw [e2]; rfl) ?_
    refine cj_fld (pc := 16) hcx hW 1 g3 (by decide) rfl in_X2 2 (by decide) (by decide) q189 dX2_sees_16 (v := .int (cj_F σ 202 a1)) rfl ?_
    refine cj_put (pc := 19) (σ1 := (cj_sF (cj_mB σ a7 (va_cpy (cj_B σ a5) (cj_B σ a7) (0 : Int32).toNatClampNeg (0 : Int32).toNatClampNeg (4 : Int32).toNatClampNeg)) 202 x0 (cj_F σ 202 a1))) hcx hW hS 1 g4 (by decide) rfl in_X2 tyX2_ok nmX2 2 (by decide) (by decide) rfl rfl rfl (cj_pI rfl) q189 dX2_sees_19 (fun H locs hW hS => ?_)
    refine lv_aload_n (pc := 22) hx hb dX2_sees_22 rfl (lv_at hl 0 rfl) ?_
    refine cj_aload_n (pc := 23) hx hb dX2_sees_23 rfl (lv_at hl 1 rfl) ?_
    refine cj_stk (st' := [.ref a1, .ref x0]) (by rw [e2]; rfl) ?_
    refine cj_fld (pc := 24) hcx hW 1 g3 (by decide) rfl in_X2 3 (by decide) (by decide) q192 dX2_sees_24 (v := .int (cj_F σ 203 a1)) rfl ?_
    refine cj_put (pc := 27) (σ1 := (cj_sF (cj_sF (cj_mB σ a7 (va_cpy (cj_B σ a5) (cj_B σ a7) (0 : Int32).toNatClampNeg (0 : Int32).toNatClampNeg (4 : Int32).toNatClampNeg)) 202 x0 (cj_F σ 202 a1)) 203 x0 (cj_F σ 203 a1))) hcx hW hS 1 g4 (by decide) rfl in_X2 tyX2_ok nmX2 3 (by decide) (by decide) rfl rfl rfl (cj_pI rfl) q192 dX2_sees_27 (fun H locs hW hS => ?_)
    exact cj_retv (pc := 30) hcx hW hS h (Nat.le_refl _) (Nat.le_refl _) dX2_sees_30)
/-! St_starts -/
set_option maxHeartbeats 4000000 in
set_option maxRecDepth 100000 in
theorem cb_St_starts_2 {E : cj_E} {σ : cj_S} {x0 : Nat} {x1 : Int32} {P : cj_S → Prop} (h : (cj_T σ x0 = 2 ∧ (∃ a2, (cj_R σ 206 x0) = some a2 ∧ (cj_T σ a2 = 1 ∧ (((cj_F σ 107 a2) ≤ x1 → P (cj_sF (cj_sF (cj_sF σ 202 x0 (((1 : Int32) <<< ((cj_F σ 107 a2) &&& 31)) - (1 : Int32))) 203 x0 (0 : Int32)) 204 x0 (0 : Int32))) ∧ (¬ (cj_F σ 107 a2) ≤ x1 → (∃ a6, (cj_R σ 104 a2) = some a6 ∧ (cj_T σ a6 = 26 ∧ (vp_in x1 (cj_N σ a6) ∧ (∃ a10, (cj_R σ 200 x0) = some a10 ∧ (∃ a12, (cj_B σ a6 x1.toNatClampNeg) = some a12 ∧ (cj_T σ a10 = 26 ∧ (cj_T σ a12 = 6 ∧ (vp_in x1 (cj_N σ a10) ∧ cg_St_starts_2 E (cj_sB σ a10 x1.toNatClampNeg (some a12)) x0 (x1 + (1 : Int32)) P)))))))))))))) : cg_St_starts_2 E σ x0 x1 P := by
  intro d hd p e s m args below meth c hcx H locs ls hW hS hl
  have hx := hcx.1
  have hb := hcx.2.1
  have hown := hcx.2.2.2.2.2.1
  have hts := hcx.2.2.2.2.2.2.1
  refine lv_iload_n (pc := 2) hx hb dX2_starts_2 rfl (lv_at hl 1 rfl) ?_
  refine lv_aload_n (pc := 3) hx hb dX2_starts_3 rfl (lv_at hl 0 rfl) ?_
  obtain ⟨g1, h⟩ := h
  refine cj_fld (pc := 4) hcx hW 1 g1 (by decide) rfl in_X2 6 (by decide) (by decide) q198 dX2_starts_4 (v := va_rf (cj_R σ 206 x0)) rfl ?_
  obtain ⟨a2, e3, h⟩ := h
  refine cj_stk (st' := [.ref a2, .int x1]) (by rw [e3]; rfl) ?_
  obtain ⟨g4, h⟩ := h
  refine cj_fldN (pc := 7) hcx hW 0 g4 (by decide) rfl in_X1 7 (by decide) (by decide) (List.mem_of_getElem? (i := 17) rfl) dX2_starts_7 (v := .int (cj_F σ 107 a2)) rfl ?_
  refine lv_icmp_ge (pc := 10) (tgt := 34) hx hb dX2_starts_10 (by decide) (fun c5 => ?_) (fun c5 => ?_)
  · have h := h.1 c5
    refine lv_aload_n (pc := 34) hx hb dX2_starts_34 rfl (lv_at hl 0 rfl) ?_
    refine lv_iconst (pc := 35) (v := (1 : Int32)) hx hb dX2_starts_35 (by decide) ?_
    refine lv_aload_n (pc := 36) hx hb dX2_starts_36 rfl (lv_at hl 0 rfl) ?_
    refine cj_fld (pc := 37) hcx hW 1 g1 (by decide) rfl in_X2 6 (by decide) (by decide) q198 dX2_starts_37 (v := va_rf (cj_R σ 206 x0)) rfl ?_
    refine cj_stk (st' := [.ref a2, .int (1 : Int32), .ref x0]) (by rw [e3]; rfl) ?_
    refine cj_fldN (pc := 40) hcx hW 0 g4 (by decide) rfl in_X1 7 (by decide) (by decide) (List.mem_of_getElem? (i := 17) rfl) dX2_starts_40 (v := .int (cj_F σ 107 a2)) rfl ?_
    refine lv_ishl (pc := 43) hx hb dX2_starts_43 ?_
    refine lv_iconst (pc := 44) (v := (1 : Int32)) hx hb dX2_starts_44 (by decide) ?_
    refine lv_isub (pc := 45) hx hb dX2_starts_45 ?_
    refine cj_put (pc := 46) (σ1 := (cj_sF σ 202 x0 (((1 : Int32) <<< ((cj_F σ 107 a2) &&& 31)) - (1 : Int32)))) hcx hW hS 1 g1 (by decide) rfl in_X2 tyX2_ok nmX2 2 (by decide) (by decide) rfl rfl rfl (cj_pI rfl) q189 dX2_starts_46 (fun H locs hW hS => ?_)
    refine lv_aload_n (pc := 49) hx hb dX2_starts_49 rfl (lv_at hl 0 rfl) ?_
    refine lv_iconst (pc := 50) (v := (0 : Int32)) hx hb dX2_starts_50 (by decide) ?_
    refine cj_put (pc := 51) (σ1 := (cj_sF (cj_sF σ 202 x0 (((1 : Int32) <<< ((cj_F σ 107 a2) &&& 31)) - (1 : Int32))) 203 x0 (0 : Int32))) hcx hW hS 1 g1 (by decide) rfl in_X2 tyX2_ok nmX2 3 (by decide) (by decide) rfl rfl rfl (cj_pI rfl) q192 dX2_starts_51 (fun H locs hW hS => ?_)
    refine lv_aload_n (pc := 54) hx hb dX2_starts_54 rfl (lv_at hl 0 rfl) ?_
    refine lv_iconst (pc := 55) (v := (0 : Int32)) hx hb dX2_starts_55 (by decide) ?_
    refine cj_put (pc := 56) (σ1 := (cj_sF (cj_sF (cj_sF σ 202 x0 (((1 : Int32) <<< ((cj_F σ 107 a2) &&& 31)) - (1 : Int32))) 203 x0 (0 : Int32)) 204 x0 (0 : Int32))) hcx hW hS 1 g1 (by decide) rfl in_X2 tyX2_ok nmX2 4 (by decide) (by decide) rfl rfl rfl (cj_pI rfl) q194 dX2_starts_56 (fun H locs hW hS => ?_)
    exact cj_retv (pc := 59) hcx hW hS h (Nat.le_refl _) (Nat.le_refl _) dX2_starts_59
  · have h := h.2 c5
    refine lv_aload_n (pc := 13) hx hb dX2_starts_13 rfl (lv_at hl 0 rfl) ?_
    refine cj_fld (pc := 14) hcx hW 1 g1 (by decide) rfl in_X2 0 (by decide) (by decide) q184 dX2_starts_14 (v := va_rf (cj_R σ 200 x0)) rfl ?_
    refine lv_iload_n (pc := 17) hx hb dX2_starts_17 rfl (lv_at hl 1 rfl) ?_
    refine lv_aload_n (pc := 18) hx hb dX2_starts_18 rfl (lv_at hl 0 rfl) ?_
    refine cj_fld (pc := 19) hcx hW 1 g1 (by decide) rfl in_X2 6 (by decide) (by decide) q198 dX2_starts_19 (v := va_rf (cj_R σ 206 x0)) rfl ?_
    refine cj_stk (st' := [.ref a2, .int x1, va_rf (cj_R σ 200 x0)]) (by rw [e3]; rfl) ?_
    refine cj_fldN (pc := 22) hcx hW 0 g4 (by decide) rfl in_X1 4 (by decide) (by decide) (List.mem_of_getElem? (i := 16) rfl) dX2_starts_22 (v := va_rf (cj_R σ 104 a2)) rfl ?_
    refine lv_iload_n (pc := 25) hx hb dX2_starts_25 rfl (lv_at hl 1 rfl) ?_
    obtain ⟨a6, e7, h⟩ := h
    refine cj_stk (st' := [.int x1, .ref a6, .int x1, va_rf (cj_R σ 200 x0)]) (by rw [e7]; rfl) ?_
    obtain ⟨g8, h⟩ := h
    obtain ⟨g9, h⟩ := h
    refine cj_aald (pc := 26) hcx hW g8 (by unfold cj_rt; decide) g9 dX2_starts_26 ?_
    obtain ⟨a10, e11, h⟩ := h
    refine cj_stk (st' := [va_rf (cj_B σ a6 x1.toNatClampNeg), .int x1, .ref a10]) (by rw [e11]; rfl) ?_
    obtain ⟨a12, e13, h⟩ := h
    refine cj_stk (st' := [.ref a12, .int x1, .ref a10]) (by rw [e13]; rfl) ?_
    obtain ⟨g14, h⟩ := h
    obtain ⟨g15, h⟩ := h
    obtain ⟨g16, h⟩ := h
    refine cj_aast (pc := 27) hcx hW hS (cj_okt (t := 6) g15 (by unfold cj_ok_; decide)) (cj_eqt (t := 6) g14 g15) g16 dX2_starts_27 (fun H locs hW hS => ?_)
    refine lv_iinc (pc := 28) (v := (x1 + (1 : Int32))) (lv' := [(1, .int (x1 + (1 : Int32))), (0, .ref x0)]) hx hb dX2_starts_28 hl (k := 1) rfl rfl (by decide) rfl (fun ls hl => ?_)
    refine lv_goto (pc := 31) (tgt := 2) hx hb dX2_starts_31 (by decide) ?_
    exact h d hd p e s m args below meth c hcx H locs _ hW hS (lv_sub hl [1, 0] rfl)
set_option maxHeartbeats 4000000 in
set_option maxRecDepth 100000 in
theorem cb_St_starts {E : cj_E} {σ : cj_S} {x0 : Nat} {P : cj_S → Prop} (h : cg_St_starts_2 E σ x0 (0 : Int32) P) : cs_St_starts E σ x0 P :=
  cj_enter (k := 0) (lv := [(0, .ref x0)]) (by decide) (Nat.le_of_ble_eq_true rfl) rfl (by
    intro d hd p e s m args below meth c hcx H locs ls hW hS hl
    have hx := hcx.1
    have hb := hcx.2.1
    have hown := hcx.2.2.2.2.2.1
    have hts := hcx.2.2.2.2.2.2.1
    refine lv_iconst (pc := 0) (v := (0 : Int32)) hx hb dX2_starts_0 (by decide) ?_
    refine lv_istore_n (pc := 1) (lv' := [(1, .int (0 : Int32)), (0, .ref x0)]) hx hb dX2_starts_1 rfl hl (by decide) rfl (fun ls hl => ?_)
    exact h d hd p e s m args below meth c hcx H locs _ hW hS (lv_sub hl [1, 0] rfl))
/-! Tb_columnOf -/
set_option maxHeartbeats 4000000 in
set_option maxRecDepth 100000 in
theorem cb_Tb_columnOf_2 {E : cj_E} {σ : cj_S} {x0 : Nat} {x1 : Int32} {x2 : Int32} {P : Int32 → cj_S → Prop} (h : (cj_T σ x0 = 6 ∧ (∃ a2, (cj_R σ 600 x0) = some a2 ∧ (cj_T σ a2 = 21 ∧ (((nI (cj_N σ a2)) ≤ x2 → P (-1 : Int32) σ) ∧ (¬ (nI (cj_N σ a2)) ≤ x2 → (vp_in x2 (cj_N σ a2) ∧ (((cj_A σ a2 x2.toNatClampNeg) = x1 → P x2 σ) ∧ (¬ (cj_A σ a2 x2.toNatClampNeg) = x1 → cg_Tb_columnOf_2 E σ x0 x1 (x2 + (1 : Int32)) P))))))))) : cg_Tb_columnOf_2 E σ x0 x1 x2 P := by
  intro d hd p e s m args below meth c hcx H locs ls hW hS hl
  have hx := hcx.1
  have hb := hcx.2.1
  have hown := hcx.2.2.2.2.2.1
  have hts := hcx.2.2.2.2.2.2.1
  refine lv_iload_n (pc := 2) hx hb dX7_columnOf_2 rfl (lv_at hl 2 rfl) ?_
  refine lv_aload_n (pc := 3) hx hb dX7_columnOf_3 rfl (lv_at hl 0 rfl) ?_
  obtain ⟨g1, h⟩ := h
  refine cj_fld (pc := 4) hcx hW 5 g1 (by decide) rfl in_X7 0 (by decide) (by decide) q484 dX7_columnOf_4 (v := va_rf (cj_R σ 600 x0)) rfl ?_
  obtain ⟨a2, e3, h⟩ := h
  refine cj_stk (st' := [.ref a2, .int x2]) (by rw [e3]; rfl) ?_
  obtain ⟨g4, h⟩ := h
  refine cj_alen (pc := 7) hcx hW g4 (by unfold cj_at_ cj_rt; decide) dX7_columnOf_7 ?_
  refine lv_icmp_ge (pc := 8) (tgt := 29) hx hb dX7_columnOf_8 (by decide) (fun c5 => ?_) (fun c5 => ?_)
  · have h := h.1 c5
    refine lv_iconst (pc := 29) (v := (-1 : Int32)) hx hb dX7_columnOf_29 (by decide) ?_
    exact cj_reti (pc := 30) hcx hW hS rfl h (Nat.le_refl _) (Nat.le_refl _) dX7_columnOf_30
  · have h := h.2 c5
    refine lv_aload_n (pc := 11) hx hb dX7_columnOf_11 rfl (lv_at hl 0 rfl) ?_
    refine cj_fld (pc := 12) hcx hW 5 g1 (by decide) rfl in_X7 0 (by decide) (by decide) q484 dX7_columnOf_12 (v := va_rf (cj_R σ 600 x0)) rfl ?_
    refine lv_iload_n (pc := 15) hx hb dX7_columnOf_15 rfl (lv_at hl 2 rfl) ?_
    refine cj_stk (st' := [.int x2, .ref a2]) (by rw [e3]; rfl) ?_
    obtain ⟨g6, h⟩ := h
    refine cj_iald (pc := 16) hcx hW g4 g6 dX7_columnOf_16 ?_
    refine lv_iload_n (pc := 17) hx hb dX7_columnOf_17 rfl (lv_at hl 1 rfl) ?_
    refine lv_icmp_ne (pc := 18) (tgt := 23) hx hb dX7_columnOf_18 (by decide) (fun c7 => ?_) (fun c7 => ?_)
    · have h := h.2 c7
      refine lv_iinc (pc := 23) (v := (x2 + (1 : Int32))) (lv' := [(2, .int (x2 + (1 : Int32))), (0, .ref x0), (1, .int x1)]) hx hb dX7_columnOf_23 hl (k := 2) rfl rfl (by decide) rfl (fun ls hl => ?_)
      refine lv_goto (pc := 26) (tgt := 2) hx hb dX7_columnOf_26 (by decide) ?_
      exact h d hd p e s m args below meth c hcx H locs _ hW hS (lv_sub hl [1, 2, 0] rfl)
    · have h := h.1 c7
      refine lv_iload_n (pc := 21) hx hb dX7_columnOf_21 rfl (lv_at hl 2 rfl) ?_
      exact cj_reti (pc := 22) hcx hW hS rfl h (Nat.le_refl _) (Nat.le_refl _) dX7_columnOf_22
set_option maxHeartbeats 4000000 in
set_option maxRecDepth 100000 in
theorem cb_Tb_columnOf {E : cj_E} {σ : cj_S} {x0 : Nat} {x1 : Int32} {P : Int32 → cj_S → Prop} (h : cg_Tb_columnOf_2 E σ x0 x1 (0 : Int32) P) : cs_Tb_columnOf E σ x0 x1 P :=
  cj_enter (k := 0) (lv := [(0, .ref x0), (1, .int x1)]) (by decide) (Nat.le_of_ble_eq_true rfl) rfl (by
    intro d hd p e s m args below meth c hcx H locs ls hW hS hl
    have hx := hcx.1
    have hb := hcx.2.1
    have hown := hcx.2.2.2.2.2.1
    have hts := hcx.2.2.2.2.2.2.1
    refine lv_iconst (pc := 0) (v := (0 : Int32)) hx hb dX7_columnOf_0 (by decide) ?_
    refine lv_istore_n (pc := 1) (lv' := [(2, .int (0 : Int32)), (0, .ref x0), (1, .int x1)]) hx hb dX7_columnOf_1 rfl hl (by decide) rfl (fun ls hl => ?_)
    exact h d hd p e s m args below meth c hcx H locs _ hW hS (lv_sub hl [1, 2, 0] rfl))
/-! Tb_drops -/
set_option maxHeartbeats 4000000 in
set_option maxRecDepth 100000 in
theorem cb_Tb_drops {E : cj_E} {σ : cj_S} {x0 : Nat} {x1 : Int32} {P : cj_S → Prop} (h : (cj_T σ x0 = 6 ∧ (∃ a2, (cj_R σ 601 x0) = some a2 ∧ (¬ (x1 + (1 : Int32)) < 0 ∧ (¬ x1 < 0 ∧ (¬ (((cj_F σ 603 x0) - (1 : Int32)) - x1) < 0 ∧ (∃ u7, cj_ok_ u7 ∧ cj_T σ a2 = u7 + 20 ∧ cj_T σ a2 = u7 + 20 ∧ ((x1 + (1 : Int32)).toNatClampNeg + (((cj_F σ 603 x0) - (1 : Int32)) - x1).toNatClampNeg ≤ cj_N σ a2 ∧ (x1.toNatClampNeg + (((cj_F σ 603 x0) - (1 : Int32)) - x1).toNatClampNeg ≤ cj_N σ a2 ∧ ((∀ i, i < (((cj_F σ 603 x0) - (1 : Int32)) - x1).toNatClampNeg → ∀ v, cj_B σ a2 ((x1 + (1 : Int32)).toNatClampNeg + i) = some v → cj_T σ v = u7) ∧ P (cj_sF (cj_mB σ a2 (va_cpy (cj_B σ a2) (cj_B σ a2) (x1 + (1 : Int32)).toNatClampNeg x1.toNatClampNeg (((cj_F σ 603 x0) - (1 : Int32)) - x1).toNatClampNeg)) 603 x0 ((cj_F σ 603 x0) - (1 : Int32))))))))))))) : cs_Tb_drops E σ x0 x1 P :=
  cj_enter (k := 0) (lv := [(0, .ref x0), (1, .int x1)]) (by decide) (Nat.le_of_ble_eq_true rfl) rfl (by
    intro d hd p e s m args below meth c hcx H locs ls hW hS hl
    have hx := hcx.1
    have hb := hcx.2.1
    have hown := hcx.2.2.2.2.2.1
    have hts := hcx.2.2.2.2.2.2.1
    refine lv_aload_n (pc := 0) hx hb dX7_drops_0 rfl (lv_at hl 0 rfl) ?_
    obtain ⟨g1, h⟩ := h
    refine cj_fld (pc := 1) hcx hW 5 g1 (by decide) rfl in_X7 1 (by decide) (by decide) q487 dX7_drops_1 (v := va_rf (cj_R σ 601 x0)) rfl ?_
    refine lv_iload_n (pc := 4) hx hb dX7_drops_4 rfl (lv_at hl 1 rfl) ?_
    refine lv_iconst (pc := 5) (v := (1 : Int32)) hx hb dX7_drops_5 (by decide) ?_
    refine lv_iadd (pc := 6) hx hb dX7_drops_6 ?_
    refine lv_aload_n (pc := 7) hx hb dX7_drops_7 rfl (lv_at hl 0 rfl) ?_
    refine cj_fld (pc := 8) hcx hW 5 g1 (by decide) rfl in_X7 1 (by decide) (by decide) q487 dX7_drops_8 (v := va_rf (cj_R σ 601 x0)) rfl ?_
    refine lv_iload_n (pc := 11) hx hb dX7_drops_11 rfl (lv_at hl 1 rfl) ?_
    refine lv_aload_n (pc := 12) hx hb dX7_drops_12 rfl (lv_at hl 0 rfl) ?_
    refine cj_fld (pc := 13) hcx hW 5 g1 (by decide) rfl in_X7 3 (by decide) (by decide) q490 dX7_drops_13 (v := .int (cj_F σ 603 x0)) rfl ?_
    refine lv_iconst (pc := 16) (v := (1 : Int32)) hx hb dX7_drops_16 (by decide) ?_
    refine lv_isub (pc := 17) hx hb dX7_drops_17 ?_
    refine lv_iload_n (pc := 18) hx hb dX7_drops_18 rfl (lv_at hl 1 rfl) ?_
    refine lv_isub (pc := 19) hx hb dX7_drops_19 ?_
    obtain ⟨a2, e3, h⟩ := h
    refine cj_stk (st' := [.int (((cj_F σ 603 x0) - (1 : Int32)) - x1), .int x1, .ref a2, .int (x1 + (1 : Int32)), .ref a2]) (by rw [e3]; rfl) ?_
    obtain ⟨g4, h⟩ := h
    obtain ⟨g5, h⟩ := h
    obtain ⟨g6, h⟩ := h
    obtain ⟨u7, g8, g9, g10, h⟩ := h
    obtain ⟨g11, h⟩ := h
    obtain ⟨g12, h⟩ := h
    obtain ⟨g13, h⟩ := h
    refine cj_copyr (pc := 20) hcx hW hS hl.1 u7 g8 g9 g10 q827 g4 g5 g6 g11 g12 g13 (Nat.le_add_left 1 _) (cj_lr (Nat.le_of_ble_eq_true rfl)) dX7_drops_20 (fun H locs hW hS => ?_)
    refine lv_aload_n (pc := 23) hx hb dX7_drops_23 rfl (lv_at hl 0 rfl) ?_
    refine lv_dup (pc := 24) hx hb dX7_drops_24 rfl ?_
    refine cj_fld (pc := 25) hcx hW 5 g1 (by decide) rfl in_X7 3 (by decide) (by decide) q490 dX7_drops_25 (v := .int (cj_F σ 603 x0)) rfl ?_
    refine lv_iconst (pc := 28) (v := (1 : Int32)) hx hb dX7_drops_28 (by decide) ?_
    refine lv_isub (pc := 29) hx hb dX7_drops_29 ?_
    refine cj_put (pc := 30) (σ1 := (cj_sF (cj_mB σ a2 (va_cpy (cj_B σ a2) (cj_B σ a2) (x1 + (1 : Int32)).toNatClampNeg x1.toNatClampNeg (((cj_F σ 603 x0) - (1 : Int32)) - x1).toNatClampNeg)) 603 x0 ((cj_F σ 603 x0) - (1 : Int32)))) hcx hW hS 5 g1 (by decide) rfl in_X7 tyX7_ok nmX7 3 (by decide) (by decide) rfl rfl rfl (cj_pI rfl) q490 dX7_drops_30 (fun H locs hW hS => ?_)
    exact cj_retv (pc := 33) hcx hW hS h (Nat.le_refl _) (Nat.le_refl _) dX7_drops_33)
/-! Tb_init_2 -/
set_option maxHeartbeats 4000000 in
set_option maxRecDepth 100000 in
theorem cb_Tb_init_2 {E : cj_E} {σ : cj_S} {x0 : Nat} {x1 : Option Nat} {P : cj_S → Prop} (h : (∃ a1, x1 = some a1 ∧ (cj_T σ a1 = 6 ∧ (cj_T σ x0 = 6 ∧ (∃ a5, (cj_R σ 601 a1) = some a5 ∧ (cj_rr (cj_T σ a5) ∧ (cj_N σ a5 ≤ 12 ∧ (∀ q7, cj_T σ q7 = 0 → (cj_rr (cj_T (cj_mk (cj_sR (cj_sR σ 600 x0 (cj_R σ 600 a1)) 602 x0 (cj_R σ 602 a1)) q7 (cj_T σ a5) (cj_N σ a5) (cj_A σ a5) (cj_B σ a5)) q7) ∧ (cj_T (cj_mk (cj_sR (cj_sR σ 600 x0 (cj_R σ 600 a1)) 602 x0 (cj_R σ 602 a1)) q7 (cj_T σ a5) (cj_N σ a5) (cj_A σ a5) (cj_B σ a5)) x0 = 6 ∧ (cj_T (cj_mk (cj_sR (cj_sR σ 600 x0 (cj_R σ 600 a1)) 602 x0 (cj_R σ 602 a1)) q7 (cj_T σ a5) (cj_N σ a5) (cj_A σ a5) (cj_B σ a5)) a1 = 6 ∧ P (cj_sF (cj_sR (cj_mk (cj_sR (cj_sR σ 600 x0 (cj_R σ 600 a1)) 602 x0 (cj_R σ 602 a1)) q7 (cj_T σ a5) (cj_N σ a5) (cj_A σ a5) (cj_B σ a5)) 601 x0 (some q7)) 603 x0 (cj_F (cj_mk (cj_sR (cj_sR σ 600 x0 (cj_R σ 600 a1)) 602 x0 (cj_R σ 602 a1)) q7 (cj_T σ a5) (cj_N σ a5) (cj_A σ a5) (cj_B σ a5)) 603 a1))))))))))))) : cs_Tb_init_2 E σ x0 x1 P :=
  cj_enter (k := 0) (lv := [(0, .ref x0), (1, va_rf x1)]) (by decide) (by cases x1 <;> exact Nat.le_of_ble_eq_true rfl) (by cases x1 <;> rfl) (by
    intro d hd p e s m args below meth c hcx H locs ls hW hS hl
    have hx := hcx.1
    have hb := hcx.2.1
    have hown := hcx.2.2.2.2.2.1
    have hts := hcx.2.2.2.2.2.2.1
    refine lv_aload_n (pc := 0) hx hb dX7_init_2_0 rfl (lv_at hl 0 rfl) ?_
    refine cj_objInit (pc := 1) hcx hl.1 q466 q171 q172 dX7_init_2_1 (Nat.le_add_left 1 _) (cj_lr (Nat.le_of_ble_eq_true rfl)) ?_
    refine lv_aload_n (pc := 4) hx hb dX7_init_2_4 rfl (lv_at hl 0 rfl) ?_
    refine cj_aload_n (pc := 5) hx hb dX7_init_2_5 rfl (lv_at hl 1 rfl) ?_
    obtain ⟨a1, e2, h⟩ := h
    refine cj_stk (st' := [.ref a1, .ref x0]) (by rw [e2]; rfl) ?_
    obtain ⟨g3, h⟩ := h
    refine cj_fld (pc := 6) hcx hW 5 g3 (by decide) rfl in_X7 0 (by decide) (by decide) q484 dX7_init_2_6 (v := va_rf (cj_R σ 600 a1)) rfl ?_
    obtain ⟨g4, h⟩ := h
    refine cj_putF (pc := 9) (σ1 := (cj_sR σ 600 x0 (cj_R σ 600 a1))) hcx hW hS 5 g4 (by decide) rfl in_X7 tyX7_ok nmX7 0 (by decide) (by decide) rfl rfl rfl (cj_nRa _ (cj_R σ 600 a1)) (cj_fRa _ (cj_R σ 600 a1)) (cj_pR (x := (cj_R σ 600 a1)) rfl) q484 dX7_init_2_9 (fun H locs hW hS => ?_)
    refine lv_aload_n (pc := 12) hx hb dX7_init_2_12 rfl (lv_at hl 0 rfl) ?_
    refine cj_aload_n (pc := 13) hx hb dX7_init_2_13 rfl (lv_at hl 1 rfl) ?_
    refine cj_stk (st' := [.ref a1, .ref x0]) (by rw [e2]; rfl) ?_
    refine cj_fld (pc := 14) hcx hW 5 g3 (by decide) rfl in_X7 2 (by decide) (by decide) q489 dX7_init_2_14 (v := va_rf (cj_R σ 602 a1)) rfl ?_
    refine cj_putF (pc := 17) (σ1 := (cj_sR (cj_sR σ 600 x0 (cj_R σ 600 a1)) 602 x0 (cj_R σ 602 a1))) hcx hW hS 5 g4 (by decide) rfl in_X7 tyX7_ok nmX7 2 (by decide) (by decide) rfl rfl rfl (cj_nRa _ (cj_R σ 602 a1)) (cj_fRa _ (cj_R σ 602 a1)) (cj_pR (x := (cj_R σ 602 a1)) rfl) q489 dX7_init_2_17 (fun H locs hW hS => ?_)
    refine lv_aload_n (pc := 20) hx hb dX7_init_2_20 rfl (lv_at hl 0 rfl) ?_
    refine cj_aload_n (pc := 21) hx hb dX7_init_2_21 rfl (lv_at hl 1 rfl) ?_
    refine cj_stk (st' := [.ref a1, .ref x0]) (by rw [e2]; rfl) ?_
    refine cj_fld (pc := 22) hcx hW 5 g3 (by decide) rfl in_X7 1 (by decide) (by decide) q487 dX7_init_2_22 (v := va_rf (cj_R σ 601 a1)) rfl ?_
    obtain ⟨a5, e6, h⟩ := h
    refine cj_stk (st' := [.ref a5, .ref x0]) (by rw [e6]; rfl) ?_
    obtain ⟨g9, h⟩ := h
    obtain ⟨g10, h⟩ := h
    refine cj_cloneR (pc := 25) hcx hW hS hl.1 g9 g10 q476 (Nat.le_of_ble_eq_true rfl) (Nat.le_of_ble_eq_true rfl) (Nat.le_add_left 1 _) (cj_lr (Nat.le_of_ble_eq_true rfl)) dX7_init_2_25 (fun q7 H z8 hW hS => ?_)
    have h := h q7 z8
    obtain ⟨g11, h⟩ := h
    refine cj_castR (pc := 28) hcx hW g11 q483 dX7_init_2_28 ?_
    obtain ⟨g12, h⟩ := h
    refine cj_putF (pc := 31) (σ1 := (cj_sR (cj_mk (cj_sR (cj_sR σ 600 x0 (cj_R σ 600 a1)) 602 x0 (cj_R σ 602 a1)) q7 (cj_T σ a5) (cj_N σ a5) (cj_A σ a5) (cj_B σ a5)) 601 x0 (some q7))) hcx hW hS 5 g12 (by decide) rfl in_X7 tyX7_ok nmX7 1 (by decide) (by decide) rfl rfl rfl (cj_nRa _ (some q7)) (cj_fRa _ (some q7)) (cj_pR (x := (some q7)) rfl) q487 dX7_init_2_31 (fun H locs hW hS => ?_)
    refine lv_aload_n (pc := 34) hx hb dX7_init_2_34 rfl (lv_at hl 0 rfl) ?_
    refine cj_aload_n (pc := 35) hx hb dX7_init_2_35 rfl (lv_at hl 1 rfl) ?_
    refine cj_stk (st' := [.ref a1, .ref x0]) (by rw [e2]; rfl) ?_
    obtain ⟨g13, h⟩ := h
    refine cj_fld (pc := 36) hcx hW 5 g13 (by decide) rfl in_X7 3 (by decide) (by decide) q490 dX7_init_2_36 (v := .int (cj_F (cj_mk (cj_sR (cj_sR σ 600 x0 (cj_R σ 600 a1)) 602 x0 (cj_R σ 602 a1)) q7 (cj_T σ a5) (cj_N σ a5) (cj_A σ a5) (cj_B σ a5)) 603 a1)) rfl ?_
    refine cj_put (pc := 39) (σ1 := (cj_sF (cj_sR (cj_mk (cj_sR (cj_sR σ 600 x0 (cj_R σ 600 a1)) 602 x0 (cj_R σ 602 a1)) q7 (cj_T σ a5) (cj_N σ a5) (cj_A σ a5) (cj_B σ a5)) 601 x0 (some q7)) 603 x0 (cj_F (cj_mk (cj_sR (cj_sR σ 600 x0 (cj_R σ 600 a1)) 602 x0 (cj_R σ 602 a1)) q7 (cj_T σ a5) (cj_N σ a5) (cj_A σ a5) (cj_B σ a5)) 603 a1))) hcx hW hS 5 g12 (by decide) rfl in_X7 tyX7_ok nmX7 3 (by decide) (by decide) rfl rfl rfl (cj_pI rfl) q490 dX7_init_2_39 (fun H locs hW hS => ?_)
    exact cj_retv (pc := 42) hcx hW hS h (Nat.le_of_ble_eq_true rfl) (Nat.le_of_ble_eq_true rfl) dX7_init_2_42)
