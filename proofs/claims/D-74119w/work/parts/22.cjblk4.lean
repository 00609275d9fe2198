/-! Rd_script -/
set_option maxHeartbeats 4000000 in
set_option maxRecDepth 100000 in
theorem cb_Rd_script_13 {E : cj_E} {σ : cj_S} {x0 : Nat} {x1 : Option Nat} {cu : Nat} {su : Nat} {P : Option Nat → cj_S → Prop} {X : Nat → cj_S → Prop} (h : (cu ≤ 310 ∧ (su ≤ 2200 ∧ (cj_T σ x0 = 4 ∧ cs_Rd_isNext E σ x0 (59 : Int32) (fun r3 σ4 => ((r3 = 0 → ((cu + 0) + 1 ≤ 310 ∧ ((su + 0) + 7 ≤ 2200 ∧ (cj_T σ4 x0 = 4 ∧ cs_Rd_ends E σ4 x0 (fun σ10 => (((cu + 0) + 1) ≤ 310 ∧ (((su + 0) + 7) ≤ 2200 ∧ P x1 σ10))) X)))) ∧ (¬ r3 = 0 → (∃ a14, x1 = some a14 ∧ (cj_T σ4 a14 = 10 ∧ (((12 : Int32) ≤ (cj_F σ4 1002 a14) → cg_Rd_script_37 E σ4 x0 x1 (0 : Int32) (some x0) (cu + 0) (su + 0) P X) ∧ (¬ (12 : Int32) ≤ (cj_F σ4 1002 a14) → cg_Rd_script_37 E σ4 x0 x1 (1 : Int32) (some x0) (cu + 0) (su + 0) P X))))))))))) : cg_Rd_script_13 E σ x0 x1 cu su P X := by
  intro d hd p e s m args below meth c hcx hex H locs ls hW hS hl
  have hx := hcx.1
  have hb := hcx.2.1
  have hown := hcx.2.2.2.2.2.1
  have hts := hcx.2.2.2.2.2.2.1
  refine lv_aload_n (pc := 13) hx hb dX5_script_13 rfl (lv_at hl 0 rfl) ?_
  refine lv_bipush (pc := 14) (v := (59 : Int32)) hx hb dX5_script_14 (by decide) ?_
  obtain ⟨g1, h⟩ := h
  obtain ⟨g2, h⟩ := h
  obtain ⟨g5, h⟩ := h
  refine cj_xi (pc := 16) (cj_runV hcx hW hS 3 g5 (by decide) rfl [.int (59 : Int32)] h (Nat.le_trans (by decide) hd) (lw_V q514 q516 qs9 q126 q517) rfl yd_Rd_isNext (by decide) rfl rfl (Nat.le_of_ble_eq_true rfl) hl.1 g1 g2 dX5_script_16) hS (fun r3 σ4 h H locs hW hS => ?_)
  refine lv_if_eq (pc := 19) (tgt := 49) hx hb dX5_script_19 (by decide) (fun c6 => ?_) (fun c6 => ?_)
  · have h := h.1 c6
    refine lv_aload_n (pc := 49) hx hb dX5_script_49 rfl (lv_at hl 0 rfl) ?_
    obtain ⟨g7, h⟩ := h
    obtain ⟨g8, h⟩ := h
    obtain ⟨g11, h⟩ := h
    refine cj_yv (pc := 50) hcx hex g7 g8 (cj_runVx hcx hW hS 3 g11 (by decide) rfl [] h (Nat.le_trans (by decide) hd) (lw_V q605 q607 qs11 q126 q608) rfl yd_Rd_ends (by decide) rfl rfl (Nat.le_of_ble_eq_true rfl) hl.1 g7 g8 dX5_script_50) hS (fun σ10 h H locs hW hS => ?_)
    refine cj_aload_n (pc := 53) hx hb dX5_script_53 rfl (lv_at hl 1 rfl) ?_
    obtain ⟨g12, h⟩ := h
    obtain ⟨g13, h⟩ := h
    exact vx_ret (cj_retq (pc := 54) (r := x1) hcx hW hS (Or.inl ⟨_, rfl⟩) h g12 g13 dX5_script_54)
  · have h := h.2 c6
    refine lv_aload_n (pc := 22) hx hb dX5_script_22 rfl (lv_at hl 0 rfl) ?_
    refine cj_aload_n (pc := 23) hx hb dX5_script_23 rfl (lv_at hl 1 rfl) ?_
    obtain ⟨a14, e15, h⟩ := h
    refine cj_stk (st' := [.ref a14, .ref x0]) (by rw [e15]; rfl) ?_
    obtain ⟨g16, h⟩ := h
    refine cj_fldN (pc := 24) hcx hW 9 g16 (by decide) rfl in_X12 2 (by decide) (by decide) (List.mem_of_getElem? (i := 27) rfl) dX5_script_24 (v := .int (cj_F σ4 1002 a14)) rfl ?_
    refine lv_bipush (pc := 27) (v := (12 : Int32)) hx hb dX5_script_27 (by decide) ?_
    refine lv_icmp_ge (pc := 29) (tgt := 36) hx hb dX5_script_29 (by decide) (fun c17 => ?_) (fun c17 => ?_)
    · have h := h.1 c17
      refine lv_iconst (pc := 36) (v := (0 : Int32)) hx hb dX5_script_36 (by decide) ?_
      exact h d hd p e s m args below meth c hcx hex H locs _ hW hS (lv_sub hl [0, 1] rfl)
    · have h := h.2 c17
      refine lv_iconst (pc := 32) (v := (1 : Int32)) hx hb dX5_script_32 (by decide) ?_
      refine lv_goto (pc := 33) (tgt := 37) hx hb dX5_script_33 (by decide) ?_
      exact h d hd p e s m args below meth c hcx hex H locs _ hW hS (lv_sub hl [0, 1] rfl)
set_option maxHeartbeats 4000000 in
set_option maxRecDepth 100000 in
theorem cb_Rd_script_37 {E : cj_E} {σ : cj_S} {x0 : Nat} {x1 : Option Nat} {t0 : Int32} {t1 : Option Nat} {cu : Nat} {su : Nat} {P : Option Nat → cj_S → Prop} {X : Nat → cj_S → Prop} (h : (∃ a1, t1 = some a1 ∧ (cu + 1 ≤ 310 ∧ (su + 7 ≤ 2200 ∧ (cj_T σ a1 = 4 ∧ cs_Rd_take E σ a1 t0 (fun r5 σ6 => ((cu + 1) + 24 ≤ 310 ∧ ((su + 7) + 170 ≤ 2200 ∧ (cj_T σ6 x0 = 4 ∧ cs_Rd_step E σ6 x0 x1 (fun σ11 => cg_Rd_script_13 E σ11 x0 x1 ((cu + 1) + 24) ((su + 7) + 170) P X) X)))) X))))) : cg_Rd_script_37 E σ x0 x1 t0 t1 cu su P X := by
  intro d hd p e s m args below meth c hcx hex H locs ls hW hS hl
  have hx := hcx.1
  have hb := hcx.2.1
  have hown := hcx.2.2.2.2.2.1
  have hts := hcx.2.2.2.2.2.2.1
  obtain ⟨a1, e2, h⟩ := h
  refine cj_stk (st' := [.int t0, .ref a1]) (by rw [e2]; rfl) ?_
  obtain ⟨g3, h⟩ := h
  obtain ⟨g4, h⟩ := h
  obtain ⟨g7, h⟩ := h
  refine cj_yi (pc := 37) hcx hex g3 g4 (cj_runVx hcx hW hS 3 g7 (by decide) rfl [.int t0] h (Nat.le_trans (by decide) hd) (lw_V q389 q391 qs4 q126 q392) rfl yd_Rd_take (by decide) rfl rfl (Nat.le_of_ble_eq_true rfl) hl.1 g3 g4 dX5_script_37) hS (fun r5 σ6 h H locs hW hS => ?_)
  refine lv_istore_n (pc := 40) (lv' := [(2, .int r5), (0, .ref x0), (1, va_rf x1)]) hx hb dX5_script_40 rfl hl (by decide) (by generalize x1 = z; cases z <;> rfl) (fun ls hl => ?_)
  refine lv_aload_n (pc := 41) hx hb dX5_script_41 rfl (lv_at hl 1 rfl) ?_
  refine cj_aload_n (pc := 42) hx hb dX5_script_42 rfl (lv_at hl 2 rfl) ?_
  obtain ⟨g8, h⟩ := h
  obtain ⟨g9, h⟩ := h
  obtain ⟨g12, h⟩ := h
  refine cj_yv (pc := 43) hcx hex g8 g9 (cj_runVx hcx hW hS 3 g12 (by decide) rfl [va_rf x1] h (Nat.le_trans (by decide) hd) (lw_V q633 q635 qs12 q126 q636) rfl yd_Rd_step (by decide) rfl rfl (Nat.le_of_ble_eq_true rfl) hl.1 g8 g9 dX5_script_43) hS (fun σ11 h H locs hW hS => ?_)
  refine lv_goto (pc := 46) (tgt := 13) hx hb dX5_script_46 (by decide) ?_
  exact h d hd p e s m args below meth c hcx hex H locs _ hW hS (lv_sub hl [1, 2] rfl)
set_option maxHeartbeats 4000000 in
set_option maxRecDepth 100000 in
theorem cb_Rd_script {E : cj_E} {σ : cj_S} {x0 : Nat} {P : Option Nat → cj_S → Prop} {X : Nat → cj_S → Prop} (h : (∀ q1, cj_T σ q1 = 0 → cs_Sc_init E (cj_new σ q1 10) q1 (fun σ4 => (cj_T σ4 x0 = 4 ∧ cs_Rd_step E σ4 x0 (some q1) (fun σ6 => cg_Rd_script_13 E σ6 x0 (some q1) 27 233 P X) X)))) : cs_Rd_script E σ x0 P X :=
  cj_enterx (k := 11) (lv := [(0, .ref x0)]) (by decide) (Nat.le_of_ble_eq_true rfl) rfl (by
    intro d hd p e s m args below meth c hcx hex H locs ls hW hS hl
    have hx := hcx.1
    have hb := hcx.2.1
    have hown := hcx.2.2.2.2.2.1
    have hts := hcx.2.2.2.2.2.2.1
    refine cj_newo (pc := 0) hcx hW hS 9 (by decide) rfl in_X12 tyX12_ok rfl rfl q613 q614 q136 (Nat.le_of_ble_eq_true rfl) (Nat.le_of_ble_eq_true rfl) dX5_script_0 (fun q1 H z2 hW hS => ?_)
    have h := h q1 z2
    refine lv_dup (pc := 3) hx hb dX5_script_3 rfl ?_
    refine cj_xv (pc := 4) (cj_runIN hcx hW hS [] h (Nat.le_trans (by decide) hd) (List.mem_of_getElem? (i := 10) rfl) q616 q136 q617 rfl yd_Sc_init (by decide) rfl rfl (Nat.le_of_ble_eq_true rfl) hl.1 (Nat.le_of_ble_eq_true rfl) (Nat.le_of_ble_eq_true rfl) dX5_script_4) hS (fun σ4 h H locs hW hS => ?_)
    refine lv_astore_n (pc := 7) (lv' := [(1, .ref q1), (0, .ref x0)]) hx hb dX5_script_7 rfl hl (by decide) rfl (fun ls hl => ?_)
    refine lv_aload_n (pc := 8) hx hb dX5_script_8 rfl (lv_at hl 1 rfl) ?_
    refine lv_aload_n (pc := 9) hx hb dX5_script_9 rfl (lv_at hl 0 rfl) ?_
    obtain ⟨g7, h⟩ := h
    refine cj_yv (pc := 10) hcx hex (Nat.le_of_ble_eq_true rfl) (Nat.le_of_ble_eq_true rfl) (cj_runVx hcx hW hS 3 g7 (by decide) rfl [va_rf (some q1)] h (Nat.le_trans (by decide) hd) (lw_V q633 q635 qs12 q126 q636) rfl yd_Rd_step (by decide) rfl rfl (Nat.le_of_ble_eq_true rfl) hl.1 (Nat.le_of_ble_eq_true rfl) (Nat.le_of_ble_eq_true rfl) dX5_script_10) hS (fun σ6 h H locs hW hS => ?_)
    exact h d hd p e s m args below meth c hcx hex H locs _ hW hS (lv_sub hl [1, 0] rfl))
/-! St_puts -/
set_option maxHeartbeats 4000000 in
set_option maxRecDepth 100000 in
theorem cb_St_puts {E : cj_E} {σ : cj_S} {x0 : Nat} {x1 : Int32} {x2 : Option Nat} {P : Int32 → cj_S → Prop} (h : (cj_T σ x0 = 2 ∧ cs_St_isTable E σ x0 x1 (fun r1 σ2 => ((r1 = 0 → P (0 : Int32) σ2) ∧ (¬ r1 = 0 → (cj_T σ2 x0 = 2 ∧ (∃ a6, (cj_R σ2 200 x0) = some a6 ∧ (cj_T σ2 a6 = 26 ∧ (vp_in x1 (cj_N σ2 a6) ∧ (∃ a10, (cj_B σ2 a6 x1.toNatClampNeg) = some a10 ∧ (cj_T σ2 a10 = 6 ∧ cs_Tb_suits E σ2 a10 x2 (fun r12 σ13 => ((r12 = 0 → P (1 : Int32) σ13) ∧ (¬ r12 = 0 → (cj_T σ13 x0 = 2 ∧ (∃ a17, (cj_R σ13 200 x0) = some a17 ∧ (cj_T σ13 a17 = 26 ∧ (vp_in x1 (cj_N σ13 a17) ∧ (∃ a21, (cj_B σ13 a17 x1.toNatClampNeg) = some a21 ∧ (cj_T σ13 a21 = 6 ∧ cs_Tb_spotOf E σ13 a21 x2 (fun r23 σ24 => ((r23 = (-1 : Int32) → (cj_T σ24 x0 = 2 ∧ (∃ a28, (cj_R σ24 200 x0) = some a28 ∧ (cj_T σ24 a28 = 26 ∧ (vp_in x1 (cj_N σ24 a28) ∧ (∃ a32, (cj_B σ24 a28 x1.toNatClampNeg) = some a32 ∧ (cj_T σ24 a32 = 6 ∧ (((cj_F σ24 603 a32) = (12 : Int32) → P (3 : Int32) σ24) ∧ (¬ (cj_F σ24 603 a32) = (12 : Int32) → (vp_in x1 (cj_N σ24 a28) ∧ cs_Tb_copy E σ24 a32 (fun r37 σ38 => (∃ a39, r37 = some a39 ∧ (cj_T σ38 a28 = 26 ∧ (cj_T σ38 a39 = 6 ∧ (vp_in x1 (cj_N σ38 a28) ∧ (cj_T σ38 x0 = 2 ∧ (∃ a45, (cj_R σ38 200 x0) = some a45 ∧ (cj_T σ38 a45 = 26 ∧ (vp_in x1 (cj_N σ38 a45) ∧ (∃ a49, (cj_B (cj_sB σ38 a28 x1.toNatClampNeg (some a39)) a45 x1.toNatClampNeg) = some a49 ∧ (cj_T σ38 a49 = 6 ∧ cs_Tb_takes E (cj_sB σ38 a28 x1.toNatClampNeg (some a39)) a49 x2 (fun σ52 => (cj_T σ52 x0 = 2 ∧ (∃ a55, (cj_R σ52 200 x0) = some a55 ∧ (cj_T σ52 a55 = 26 ∧ (vp_in x1 (cj_N σ52 a55) ∧ (∃ a59, (cj_B σ52 a55 x1.toNatClampNeg) = some a59 ∧ (cj_T σ52 a59 = 6 ∧ cs_St_done E σ52 x0 (cj_F σ52 603 a59) (fun r62 σ63 => P r62 σ63))))))))))))))))))))))))))))) ∧ (¬ r23 = (-1 : Int32) → P (2 : Int32) σ24))))))))))))))))))))))) : cs_St_puts E σ x0 x1 x2 P :=
  cj_enter (k := 13) (lv := [(0, .ref x0), (1, .int x1), (2, va_rf x2)]) (by decide) (by cases x2 <;> exact Nat.le_of_ble_eq_true rfl) (by cases x2 <;> rfl) (by
    intro d hd p e s m args below meth c hcx H locs ls hW hS hl
    have hx := hcx.1
    have hb := hcx.2.1
    have hown := hcx.2.2.2.2.2.1
    have hts := hcx.2.2.2.2.2.2.1
    refine lv_aload_n (pc := 0) hx hb dX2_puts_0 rfl (lv_at hl 0 rfl) ?_
    refine lv_iload_n (pc := 1) hx hb dX2_puts_1 rfl (lv_at hl 1 rfl) ?_
    obtain ⟨g3, h⟩ := h
    refine cj_xi (pc := 2) (cj_runV hcx hW hS 1 g3 (by decide) rfl [.int x1] h (Nat.le_trans (by decide) hd) (lw_V q767 q768 q769 q123 q770) rfl yd_St_isTable (by decide) rfl rfl (Nat.le_of_ble_eq_true rfl) hl.1 (Nat.le_of_ble_eq_true rfl) (Nat.le_of_ble_eq_true rfl) dX2_puts_2) hS (fun r1 σ2 h H locs hW hS => ?_)
    refine lv_if_ne (pc := 5) (tgt := 10) hx hb dX2_puts_5 (by decide) (fun c4 => ?_) (fun c4 => ?_)
    · have h := h.2 c4
      refine lv_aload_n (pc := 10) hx hb dX2_puts_10 rfl (lv_at hl 0 rfl) ?_
      obtain ⟨g5, h⟩ := h
      refine cj_fld (pc := 11) hcx hW 1 g5 (by decide) rfl in_X2 0 (by decide) (by decide) q184 dX2_puts_11 (v := va_rf (cj_R σ2 200 x0)) rfl ?_
      refine lv_iload_n (pc := 14) hx hb dX2_puts_14 rfl (lv_at hl 1 rfl) ?_
      obtain ⟨a6, e7, h⟩ := h
      refine cj_stk (st' := [.int x1, .ref a6]) (by rw [e7]; rfl) ?_
      obtain ⟨g8, h⟩ := h
      obtain ⟨g9, h⟩ := h
      refine cj_aald (pc := 15) hcx hW g8 (by unfold cj_rt; decide) g9 dX2_puts_15 ?_
      refine cj_aload_n (pc := 16) hx hb dX2_puts_16 rfl (lv_at hl 2 rfl) ?_
      obtain ⟨a10, e11, h⟩ := h
      refine cj_stk (st' := [va_rf x2, .ref a10]) (by rw [e11]; rfl) ?_
      obtain ⟨g14, h⟩ := h
      refine cj_xi (pc := 17) (cj_runVW hcx hW hS 5 g14 (by decide) rfl [va_rf x2] h (Nat.le_trans (by decide) hd) (lw_VW q772 q773 q774 q131 q775) rfl yd_Tb_suits (by decide) rfl rfl (Nat.le_of_ble_eq_true rfl) hl.1 (Nat.le_of_ble_eq_true rfl) (Nat.le_of_ble_eq_true rfl) dX2_puts_17) hS (fun r12 σ13 h H locs hW hS => ?_)
      refine lv_if_ne (pc := 20) (tgt := 25) hx hb dX2_puts_20 (by decide) (fun c15 => ?_) (fun c15 => ?_)
      · have h := h.2 c15
        refine lv_aload_n (pc := 25) hx hb dX2_puts_25 rfl (lv_at hl 0 rfl) ?_
        obtain ⟨g16, h⟩ := h
        refine cj_fld (pc := 26) hcx hW 1 g16 (by decide) rfl in_X2 0 (by decide) (by decide) q184 dX2_puts_26 (v := va_rf (cj_R σ13 200 x0)) rfl ?_
        refine lv_iload_n (pc := 29) hx hb dX2_puts_29 rfl (lv_at hl 1 rfl) ?_
        obtain ⟨a17, e18, h⟩ := h
        refine cj_stk (st' := [.int x1, .ref a17]) (by rw [e18]; rfl) ?_
        obtain ⟨g19, h⟩ := h
        obtain ⟨g20, h⟩ := h
        refine cj_aald (pc := 30) hcx hW g19 (by unfold cj_rt; decide) g20 dX2_puts_30 ?_
        refine cj_aload_n (pc := 31) hx hb dX2_puts_31 rfl (lv_at hl 2 rfl) ?_
        obtain ⟨a21, e22, h⟩ := h
        refine cj_stk (st' := [va_rf x2, .ref a21]) (by rw [e22]; rfl) ?_
        obtain ⟨g25, h⟩ := h
        refine cj_xi (pc := 32) (cj_runV hcx hW hS 5 g25 (by decide) rfl [va_rf x2] h (Nat.le_trans (by decide) hd) (lw_V q805 q567 q568 q131 q569) rfl yd_Tb_spotOf (by decide) rfl rfl (Nat.le_of_ble_eq_true rfl) hl.1 (Nat.le_of_ble_eq_true rfl) (Nat.le_of_ble_eq_true rfl) dX2_puts_32) hS (fun r23 σ24 h H locs hW hS => ?_)
        refine lv_iconst (pc := 35) (v := (-1 : Int32)) hx hb dX2_puts_35 (by decide) ?_
        refine lv_icmp_eq (pc := 36) (tgt := 41) hx hb dX2_puts_36 (by decide) (fun c26 => ?_) (fun c26 => ?_)
        · have h := h.1 c26
          refine lv_aload_n (pc := 41) hx hb dX2_puts_41 rfl (lv_at hl 0 rfl) ?_
          obtain ⟨g27, h⟩ := h
          refine cj_fld (pc := 42) hcx hW 1 g27 (by decide) rfl in_X2 0 (by decide) (by decide) q184 dX2_puts_42 (v := va_rf (cj_R σ24 200 x0)) rfl ?_
          refine lv_iload_n (pc := 45) hx hb dX2_puts_45 rfl (lv_at hl 1 rfl) ?_
          obtain ⟨a28, e29, h⟩ := h
          refine cj_stk (st' := [.int x1, .ref a28]) (by rw [e29]; rfl) ?_
          obtain ⟨g30, h⟩ := h
          obtain ⟨g31, h⟩ := h
          refine cj_aald (pc := 46) hcx hW g30 (by unfold cj_rt; decide) g31 dX2_puts_46 ?_
          obtain ⟨a32, e33, h⟩ := h
          refine cj_stk (st' := [.ref a32]) (by rw [e33]; rfl) ?_
          obtain ⟨g34, h⟩ := h
          refine cj_fldN (pc := 47) hcx hW 5 g34 (by decide) rfl in_X7 3 (by decide) (by decide) (List.mem_of_getElem? (i := 18) rfl) dX2_puts_47 (v := .int (cj_F σ24 603 a32)) rfl ?_
          refine lv_bipush (pc := 50) (v := (12 : Int32)) hx hb dX2_puts_50 (by decide) ?_
          refine lv_icmp_ne (pc := 52) (tgt := 57) hx hb dX2_puts_52 (by decide) (fun c35 => ?_) (fun c35 => ?_)
          · have h := h.2 c35
            refine lv_aload_n (pc := 57) hx hb dX2_puts_57 rfl (lv_at hl 0 rfl) ?_
            refine cj_fld (pc := 58) hcx hW 1 g27 (by decide) rfl in_X2 0 (by decide) (by decide) q184 dX2_puts_58 (v := va_rf (cj_R σ24 200 x0)) rfl ?_
            refine lv_iload_n (pc := 61) hx hb dX2_puts_61 rfl (lv_at hl 1 rfl) ?_
            refine lv_aload_n (pc := 62) hx hb dX2_puts_62 rfl (lv_at hl 0 rfl) ?_
            refine cj_fld (pc := 63) hcx hW 1 g27 (by decide) rfl in_X2 0 (by decide) (by decide) q184 dX2_puts_63 (v := va_rf (cj_R σ24 200 x0)) rfl ?_
            refine lv_iload_n (pc := 66) hx hb dX2_puts_66 rfl (lv_at hl 1 rfl) ?_
            refine cj_stk (st' := [.int x1, .ref a28, .int x1, .ref a28]) (by rw [e29]; rfl) ?_
            obtain ⟨g36, h⟩ := h
            refine cj_aald (pc := 67) hcx hW g30 (by unfold cj_rt; decide) g36 dX2_puts_67 ?_
            refine cj_stk (st' := [.ref a32, .int x1, .ref a28]) (by rw [e33]; rfl) ?_
            refine cj_xq (pc := 68) (cj_runV hcx hW hS 5 g34 (by decide) rfl [] h (Nat.le_trans (by decide) hd) (lw_V q806 q807 q808 q131 q809) rfl yd_Tb_copy (by decide) rfl rfl (Nat.le_of_ble_eq_true rfl) hl.1 (Nat.le_of_ble_eq_true rfl) (Nat.le_of_ble_eq_true rfl) dX2_puts_68) hS (fun r37 σ38 h H locs hW hS => ?_)
            obtain ⟨a39, e40, h⟩ := h
            refine cj_stk (st' := [.ref a39, .int x1, .ref a28]) (by rw [e40]; rfl) ?_
            obtain ⟨g41, h⟩ := h
            obtain ⟨g42, h⟩ := h
            obtain ⟨g43, h⟩ := h
            refine cj_aast (pc := 71) hcx hW hS (cj_okt (t := 6) g42 (by unfold cj_ok_; decide)) (cj_eqt (t := 6) g41 g42) g43 dX2_puts_71 (fun H locs hW hS => ?_)
            refine lv_aload_n (pc := 72) hx hb dX2_puts_72 rfl (lv_at hl 0 rfl) ?_
            obtain ⟨g44, h⟩ := h
            refine cj_fld (pc := 73) hcx hW 1 g44 (by decide) rfl in_X2 0 (by decide) (by decide) q184 dX2_puts_73 (v := va_rf (cj_R σ38 200 x0)) rfl ?_
            refine lv_iload_n (pc := 76) hx hb dX2_puts_76 rfl (lv_at hl 1 rfl) ?_
            obtain ⟨a45, e46, h⟩ := h
            refine cj_stk (st' := [.int x1, .ref a45]) (by rw [e46]; rfl) ?_
            obtain ⟨g47, h⟩ := h
            obtain ⟨g48, h⟩ := h
            refine cj_aald (pc := 77) hcx hW g47 (by unfold cj_rt; decide) g48 dX2_puts_77 ?_
            refine cj_aload_n (pc := 78) hx hb dX2_puts_78 rfl (lv_at hl 2 rfl) ?_
            obtain ⟨a49, e50, h⟩ := h
            refine cj_stk (st' := [va_rf x2, .ref a49]) (by rw [e50]; rfl) ?_
            obtain ⟨g53, h⟩ := h
            refine cj_xv (pc := 79) (cj_runV hcx hW hS 5 g53 (by decide) rfl [va_rf x2] h (Nat.le_trans (by decide) hd) (lw_V q814 q602 q603 q131 q604) rfl yd_Tb_takes (by decide) rfl rfl (Nat.le_of_ble_eq_true rfl) hl.1 (Nat.le_of_ble_eq_true rfl) (Nat.le_of_ble_eq_true rfl) dX2_puts_79) hS (fun σ52 h H locs hW hS => ?_)
            refine lv_aload_n (pc := 82) hx hb dX2_puts_82 rfl (lv_at hl 0 rfl) ?_
            refine lv_aload_n (pc := 83) hx hb dX2_puts_83 rfl (lv_at hl 0 rfl) ?_
            obtain ⟨g54, h⟩ := h
            refine cj_fld (pc := 84) hcx hW 1 g54 (by decide) rfl in_X2 0 (by decide) (by decide) q184 dX2_puts_84 (v := va_rf (cj_R σ52 200 x0)) rfl ?_
            refine lv_iload_n (pc := 87) hx hb dX2_puts_87 rfl (lv_at hl 1 rfl) ?_
            obtain ⟨a55, e56, h⟩ := h
            refine cj_stk (st' := [.int x1, .ref a55, .ref x0]) (by rw [e56]; rfl) ?_
            obtain ⟨g57, h⟩ := h
            obtain ⟨g58, h⟩ := h
            refine cj_aald (pc := 88) hcx hW g57 (by unfold cj_rt; decide) g58 dX2_puts_88 ?_
            obtain ⟨a59, e60, h⟩ := h
            refine cj_stk (st' := [.ref a59, .ref x0]) (by rw [e60]; rfl) ?_
            obtain ⟨g61, h⟩ := h
            refine cj_fldN (pc := 89) hcx hW 5 g61 (by decide) rfl in_X7 3 (by decide) (by decide) (List.mem_of_getElem? (i := 18) rfl) dX2_puts_89 (v := .int (cj_F σ52 603 a59)) rfl ?_
            refine cj_xi (pc := 92) (cj_runV hcx hW hS 1 g54 (by decide) rfl [.int (cj_F σ52 603 a59)] h (Nat.le_trans (by decide) hd) (lw_V q815 q817 qs16 q123 q818) rfl yd_St_done (by decide) rfl rfl (Nat.le_of_ble_eq_true rfl) hl.1 (Nat.le_of_ble_eq_true rfl) (Nat.le_of_ble_eq_true rfl) dX2_puts_92) hS (fun r62 σ63 h H locs hW hS => ?_)
            exact cj_reti (pc := 95) hcx hW hS rfl h (Nat.le_of_ble_eq_true rfl) (Nat.le_of_ble_eq_true rfl) dX2_puts_95
          · have h := h.1 c35
            refine lv_iconst (pc := 55) (v := (3 : Int32)) hx hb dX2_puts_55 (by decide) ?_
            exact cj_reti (pc := 56) hcx hW hS rfl h (Nat.le_of_ble_eq_true rfl) (Nat.le_of_ble_eq_true rfl) dX2_puts_56
        · have h := h.2 c26
          refine lv_iconst (pc := 39) (v := (2 : Int32)) hx hb dX2_puts_39 (by decide) ?_
          exact cj_reti (pc := 40) hcx hW hS rfl h (Nat.le_of_ble_eq_true rfl) (Nat.le_of_ble_eq_true rfl) dX2_puts_40
      · have h := h.1 c15
        refine lv_iconst (pc := 23) (v := (1 : Int32)) hx hb dX2_puts_23 (by decide) ?_
        exact cj_reti (pc := 24) hcx hW hS rfl h (Nat.le_of_ble_eq_true rfl) (Nat.le_of_ble_eq_true rfl) dX2_puts_24
    · have h := h.1 c4
      refine lv_iconst (pc := 8) (v := (0 : Int32)) hx hb dX2_puts_8 (by decide) ?_
      exact cj_reti (pc := 9) hcx hW hS rfl h (Nat.le_of_ble_eq_true rfl) (Nat.le_of_ble_eq_true rfl) dX2_puts_9)
/-! St_takes -/
set_option maxHeartbeats 4000000 in
set_option maxRecDepth 100000 in
theorem cb_St_takes {E : cj_E} {σ : cj_S} {x0 : Nat} {x1 : Int32} {x2 : Option Nat} {P : Int32 → cj_S → Prop} (h : (cj_T σ x0 = 2 ∧ cs_St_isTable E σ x0 x1 (fun r1 σ2 => ((r1 = 0 → P (0 : Int32) σ2) ∧ (¬ r1 = 0 → (cj_T σ2 x0 = 2 ∧ (∃ a6, (cj_R σ2 200 x0) = some a6 ∧ (cj_T σ2 a6 = 26 ∧ (vp_in x1 (cj_N σ2 a6) ∧ (∃ a10, (cj_B σ2 a6 x1.toNatClampNeg) = some a10 ∧ (cj_T σ2 a10 = 6 ∧ cs_Tb_suits E σ2 a10 x2 (fun r12 σ13 => ((r12 = 0 → P (1 : Int32) σ13) ∧ (¬ r12 = 0 → (cj_T σ13 x0 = 2 ∧ (∃ a17, (cj_R σ13 200 x0) = some a17 ∧ (cj_T σ13 a17 = 26 ∧ (vp_in x1 (cj_N σ13 a17) ∧ (∃ a21, (cj_B σ13 a17 x1.toNatClampNeg) = some a21 ∧ (cj_T σ13 a21 = 6 ∧ cs_Tb_spotOf E σ13 a21 x2 (fun r23 σ24 => ((r23 = (-1 : Int32) → P (2 : Int32) σ24) ∧ (¬ r23 = (-1 : Int32) → (cj_T σ24 x0 = 2 ∧ (∃ a28, (cj_R σ24 200 x0) = some a28 ∧ (cj_T σ24 a28 = 26 ∧ (vp_in x1 (cj_N σ24 a28) ∧ (∃ a32, (cj_B σ24 a28 x1.toNatClampNeg) = some a32 ∧ (cj_T σ24 a32 = 6 ∧ cs_Tb_copy E σ24 a32 (fun r34 σ35 => (∃ a37, r34 = some a37 ∧ (cj_T σ35 a28 = 26 ∧ (cj_T σ35 a37 = 6 ∧ (vp_in x1 (cj_N σ35 a28) ∧ (cj_T σ35 x0 = 2 ∧ (∃ a43, (cj_R σ35 200 x0) = some a43 ∧ (cj_T σ35 a43 = 26 ∧ (vp_in x1 (cj_N σ35 a43) ∧ (∃ a47, (cj_B (cj_sB σ35 a28 x1.toNatClampNeg (some a37)) a43 x1.toNatClampNeg) = some a47 ∧ (cj_T σ35 a47 = 6 ∧ cs_Tb_drops E (cj_sB σ35 a28 x1.toNatClampNeg (some a37)) a47 r23 (fun σ50 => (cj_T σ50 x0 = 2 ∧ (∃ a53, (cj_R σ50 200 x0) = some a53 ∧ (cj_T σ50 a53 = 26 ∧ (vp_in x1 (cj_N σ50 a53) ∧ (∃ a57, (cj_B σ50 a53 x1.toNatClampNeg) = some a57 ∧ (cj_T σ50 a57 = 6 ∧ cs_St_done E σ50 x0 (cj_F σ50 603 a57) (fun r60 σ61 => P r60 σ61)))))))))))))))))))))))))))))))))))))))))))))))) : cs_St_takes E σ x0 x1 x2 P :=
  cj_enter (k := 13) (lv := [(0, .ref x0), (1, .int x1), (2, va_rf x2)]) (by decide) (by cases x2 <;> exact Nat.le_of_ble_eq_true rfl) (by cases x2 <;> rfl) (by
    intro d hd p e s m args below meth c hcx H locs ls hW hS hl
    have hx := hcx.1
    have hb := hcx.2.1
    have hown := hcx.2.2.2.2.2.1
    have hts := hcx.2.2.2.2.2.2.1
    refine lv_aload_n (pc := 0) hx hb dX2_takes_0 rfl (lv_at hl 0 rfl) ?_
    refine lv_iload_n (pc := 1) hx hb dX2_takes_1 rfl (lv_at hl 1 rfl) ?_
    obtain ⟨g3, h⟩ := h
    refine cj_xi (pc := 2) (cj_runV hcx hW hS 1 g3 (by decide) rfl [.int x1] h (Nat.le_trans (by decide) hd) (lw_V q767 q768 q769 q123 q770) rfl yd_St_isTable (by decide) rfl rfl (Nat.le_of_ble_eq_true rfl) hl.1 (Nat.le_of_ble_eq_true rfl) (Nat.le_of_ble_eq_true rfl) dX2_takes_2) hS (fun r1 σ2 h H locs hW hS => ?_)
    refine lv_if_ne (pc := 5) (tgt := 10) hx hb dX2_takes_5 (by decide) (fun c4 => ?_) (fun c4 => ?_)
    · have h := h.2 c4
      refine lv_aload_n (pc := 10) hx hb dX2_takes_10 rfl (lv_at hl 0 rfl) ?_
      obtain ⟨g5, h⟩ := h
      refine cj_fld (pc := 11) hcx hW 1 g5 (by decide) rfl in_X2 0 (by decide) (by decide) q184 dX2_takes_11 (v := va_rf (cj_R σ2 200 x0)) rfl ?_
      refine lv_iload_n (pc := 14) hx hb dX2_takes_14 rfl (lv_at hl 1 rfl) ?_
      obtain ⟨a6, e7, h⟩ := h
      refine cj_stk (st' := [.int x1, .ref a6]) (by rw [e7]; rfl) ?_
      obtain ⟨g8, h⟩ := h
      obtain ⟨g9, h⟩ := h
      refine cj_aald (pc := 15) hcx hW g8 (by unfold cj_rt; decide) g9 dX2_takes_15 ?_
      refine cj_aload_n (pc := 16) hx hb dX2_takes_16 rfl (lv_at hl 2 rfl) ?_
      obtain ⟨a10, e11, h⟩ := h
      refine cj_stk (st' := [va_rf x2, .ref a10]) (by rw [e11]; rfl) ?_
      obtain ⟨g14, h⟩ := h
      refine cj_xi (pc := 17) (cj_runVW hcx hW hS 5 g14 (by decide) rfl [va_rf x2] h (Nat.le_trans (by decide) hd) (lw_VW q772 q773 q774 q131 q775) rfl yd_Tb_suits (by decide) rfl rfl (Nat.le_of_ble_eq_true rfl) hl.1 (Nat.le_of_ble_eq_true rfl) (Nat.le_of_ble_eq_true rfl) dX2_takes_17) hS (fun r12 σ13 h H locs hW hS => ?_)
      refine lv_if_ne (pc := 20) (tgt := 25) hx hb dX2_takes_20 (by decide) (fun c15 => ?_) (fun c15 => ?_)
      · have h := h.2 c15
        refine lv_aload_n (pc := 25) hx hb dX2_takes_25 rfl (lv_at hl 0 rfl) ?_
        obtain ⟨g16, h⟩ := h
        refine cj_fld (pc := 26) hcx hW 1 g16 (by decide) rfl in_X2 0 (by decide) (by decide) q184 dX2_takes_26 (v := va_rf (cj_R σ13 200 x0)) rfl ?_
        refine lv_iload_n (pc := 29) hx hb dX2_takes_29 rfl (lv_at hl 1 rfl) ?_
        obtain ⟨a17, e18, h⟩ := h
        refine cj_stk (st' := [.int x1, .ref a17]) (by rw [e18]; rfl) ?_
        obtain ⟨g19, h⟩ := h
        obtain ⟨g20, h⟩ := h
        refine cj_aald (pc := 30) hcx hW g19 (by unfold cj_rt; decide) g20 dX2_takes_30 ?_
        refine cj_aload_n (pc := 31) hx hb dX2_takes_31 rfl (lv_at hl 2 rfl) ?_
        obtain ⟨a21, e22, h⟩ := h
        refine cj_stk (st' := [va_rf x2, .ref a21]) (by rw [e22]; rfl) ?_
        obtain ⟨g25, h⟩ := h
        refine cj_xi (pc := 32) (cj_runV hcx hW hS 5 g25 (by decide) rfl [va_rf x2] h (Nat.le_trans (by decide) hd) (lw_V q805 q567 q568 q131 q569) rfl yd_Tb_spotOf (by decide) rfl rfl (Nat.le_of_ble_eq_true rfl) hl.1 (Nat.le_of_ble_eq_true rfl) (Nat.le_of_ble_eq_true rfl) dX2_takes_32) hS (fun r23 σ24 h H locs hW hS => ?_)
        refine lv_istore_n (pc := 35) (lv' := [(3, .int r23), (0, .ref x0), (1, .int x1), (2, va_rf x2)]) hx hb dX2_takes_35 rfl hl (by decide) (by generalize x2 = z; cases z <;> rfl) (fun ls hl => ?_)
        refine lv_iload_n (pc := 36) hx hb dX2_takes_36 rfl (lv_at hl 0 rfl) ?_
        refine lv_iconst (pc := 37) (v := (-1 : Int32)) hx hb dX2_takes_37 (by decide) ?_
        refine lv_icmp_ne (pc := 38) (tgt := 43) hx hb dX2_takes_38 (by decide) (fun c26 => ?_) (fun c26 => ?_)
        · have h := h.2 c26
          refine lv_aload_n (pc := 43) hx hb dX2_takes_43 rfl (lv_at hl 1 rfl) ?_
          obtain ⟨g27, h⟩ := h
          refine cj_fld (pc := 44) hcx hW 1 g27 (by decide) rfl in_X2 0 (by decide) (by decide) q184 dX2_takes_44 (v := va_rf (cj_R σ24 200 x0)) rfl ?_
          refine lv_iload_n (pc := 47) hx hb dX2_takes_47 rfl (lv_at hl 2 rfl) ?_
          refine lv_aload_n (pc := 48) hx hb dX2_takes_48 rfl (lv_at hl 1 rfl) ?_
          refine cj_fld (pc := 49) hcx hW 1 g27 (by decide) rfl in_X2 0 (by decide) (by decide) q184 dX2_takes_49 (v := va_rf (cj_R σ24 200 x0)) rfl ?_
          refine lv_iload_n (pc := 52) hx hb dX2_takes_52 rfl (lv_at hl 2 rfl) ?_
          obtain ⟨a28, e29, h⟩ := h
          refine cj_stk (st' := [.int x1, .ref a28, .int x1, .ref a28]) (by rw [e29]; rfl) ?_
          obtain ⟨g30, h⟩ := h
          obtain ⟨g31, h⟩ := h
          refine cj_aald (pc := 53) hcx hW g30 (by unfold cj_rt; decide) g31 dX2_takes_53 ?_
          obtain ⟨a32, e33, h⟩ := h
          refine cj_stk (st' := [.ref a32, .int x1, .ref a28]) (by rw [e33]; rfl) ?_
          obtain ⟨g36, h⟩ := h
          refine cj_xq (pc := 54) (cj_runV hcx hW hS 5 g36 (by decide) rfl [] h (Nat.le_trans (by decide) hd) (lw_V q806 q807 q808 q131 q809) rfl yd_Tb_copy (by decide) rfl rfl (Nat.le_of_ble_eq_true rfl) hl.1 (Nat.le_of_ble_eq_true rfl) (Nat.le_of_ble_eq_true rfl) dX2_takes_54) hS (fun r34 σ35 h H locs hW hS => ?_)
          obtain ⟨a37, e38, h⟩ := h
          refine cj_stk (st' := [.ref a37, .int x1, .ref a28]) (by rw [e38]; rfl) ?_
          obtain ⟨g39, h⟩ := h
          obtain ⟨g40, h⟩ := h
          obtain ⟨g41, h⟩ := h
          refine cj_aast (pc := 57) hcx hW hS (cj_okt (t := 6) g40 (by unfold cj_ok_; decide)) (cj_eqt (t := 6) g39 g40) g41 dX2_takes_57 (fun H locs hW hS => ?_)
          refine lv_aload_n (pc := 58) hx hb dX2_takes_58 rfl (lv_at hl 1 rfl) ?_
          obtain ⟨g42, h⟩ := h
          refine cj_fld (pc := 59) hcx hW 1 g42 (by decide) rfl in_X2 0 (by decide) (by decide) q184 dX2_takes_59 (v := va_rf (cj_R σ35 200 x0)) rfl ?_
          refine lv_iload_n (pc := 62) hx hb dX2_takes_62 rfl (lv_at hl 2 rfl) ?_
          obtain ⟨a43, e44, h⟩ := h
          refine cj_stk (st' := [.int x1, .ref a43]) (by rw [e44]; rfl) ?_
          obtain ⟨g45, h⟩ := h
          obtain ⟨g46, h⟩ := h
          refine cj_aald (pc := 63) hcx hW g45 (by unfold cj_rt; decide) g46 dX2_takes_63 ?_
          refine lv_iload_n (pc := 64) hx hb dX2_takes_64 rfl (lv_at hl 0 rfl) ?_
          obtain ⟨a47, e48, h⟩ := h
          refine cj_stk (st' := [.int r23, .ref a47]) (by rw [e48]; rfl) ?_
          obtain ⟨g51, h⟩ := h
          refine cj_xv (pc := 65) (cj_runV hcx hW hS 5 g51 (by decide) rfl [.int r23] h (Nat.le_trans (by decide) hd) (lw_V q823 q824 q825 q131 q826) rfl yd_Tb_drops (by decide) rfl rfl (Nat.le_of_ble_eq_true rfl) hl.1 (Nat.le_of_ble_eq_true rfl) (Nat.le_of_ble_eq_true rfl) dX2_takes_65) hS (fun σ50 h H locs hW hS => ?_)
          refine lv_aload_n (pc := 68) hx hb dX2_takes_68 rfl (lv_at hl 1 rfl) ?_
          refine lv_aload_n (pc := 69) hx hb dX2_takes_69 rfl (lv_at hl 1 rfl) ?_
          obtain ⟨g52, h⟩ := h
          refine cj_fld (pc := 70) hcx hW 1 g52 (by decide) rfl in_X2 0 (by decide) (by decide) q184 dX2_takes_70 (v := va_rf (cj_R σ50 200 x0)) rfl ?_
          refine lv_iload_n (pc := 73) hx hb dX2_takes_73 rfl (lv_at hl 2 rfl) ?_
          obtain ⟨a53, e54, h⟩ := h
          refine cj_stk (st' := [.int x1, .ref a53, .ref x0]) (by rw [e54]; rfl) ?_
          obtain ⟨g55, h⟩ := h
          obtain ⟨g56, h⟩ := h
          refine cj_aald (pc := 74) hcx hW g55 (by unfold cj_rt; decide) g56 dX2_takes_74 ?_
          obtain ⟨a57, e58, h⟩ := h
          refine cj_stk (st' := [.ref a57, .ref x0]) (by rw [e58]; rfl) ?_
          obtain ⟨g59, h⟩ := h
          refine cj_fldN (pc := 75) hcx hW 5 g59 (by decide) rfl in_X7 3 (by decide) (by decide) (List.mem_of_getElem? (i := 18) rfl) dX2_takes_75 (v := .int (cj_F σ50 603 a57)) rfl ?_
          refine cj_xi (pc := 78) (cj_runV hcx hW hS 1 g52 (by decide) rfl [.int (cj_F σ50 603 a57)] h (Nat.le_trans (by decide) hd) (lw_V q815 q817 qs16 q123 q818) rfl yd_St_done (by decide) rfl rfl (Nat.le_of_ble_eq_true rfl) hl.1 (Nat.le_of_ble_eq_true rfl) (Nat.le_of_ble_eq_true rfl) dX2_takes_78) hS (fun r60 σ61 h H locs hW hS => ?_)
          exact cj_reti (pc := 81) hcx hW hS rfl h (Nat.le_of_ble_eq_true rfl) (Nat.le_of_ble_eq_true rfl) dX2_takes_81
        · have h := h.1 c26
          refine lv_iconst (pc := 41) (v := (2 : Int32)) hx hb dX2_takes_41 (by decide) ?_
          exact cj_reti (pc := 42) hcx hW hS rfl h (Nat.le_of_ble_eq_true rfl) (Nat.le_of_ble_eq_true rfl) dX2_takes_42
      · have h := h.1 c15
        refine lv_iconst (pc := 23) (v := (1 : Int32)) hx hb dX2_takes_23 (by decide) ?_
        exact cj_reti (pc := 24) hcx hW hS rfl h (Nat.le_of_ble_eq_true rfl) (Nat.le_of_ble_eq_true rfl) dX2_takes_24
    · have h := h.1 c4
      refine lv_iconst (pc := 8) (v := (0 : Int32)) hx hb dX2_takes_8 (by decide) ?_
      exact cj_reti (pc := 9) hcx hW hS rfl h (Nat.le_of_ble_eq_true rfl) (Nat.le_of_ble_eq_true rfl) dX2_takes_9)
/-! St_deed -/
set_option maxHeartbeats 4000000 in
set_option maxRecDepth 100000 in
theorem cb_St_deed {E : cj_E} {σ : cj_S} {x0 : Nat} {x1 : Int32} {x2 : Int32} {x3 : Int32} {x4 : Int32} {x5 : Int32} {P : Int32 → cj_S → Prop} (h : ((x1 = (0 : Int32) → cs_Rw_of E σ x3 x4 x5 (fun r2 σ3 => (cj_T σ3 x0 = 2 ∧ cs_St_puts E σ3 x0 x2 r2 (fun r4 σ5 => P r4 σ5)))) ∧ (¬ x1 = (0 : Int32) → ((x1 = (1 : Int32) → cs_Rw_of E σ x3 x4 x5 (fun r8 σ9 => (cj_T σ9 x0 = 2 ∧ cs_St_takes E σ9 x0 x2 r8 (fun r10 σ11 => P r10 σ11)))) ∧ (¬ x1 = (1 : Int32) → ((x1 = (2 : Int32) → (cj_T σ x0 = 2 ∧ cs_St_uses E σ x0 x2 (fun r14 σ15 => P r14 σ15))) ∧ (¬ x1 = (2 : Int32) → (cj_T σ x0 = 2 ∧ cs_St_orders E σ x0 x2 (fun r17 σ18 => P r17 σ18))))))))) : cs_St_deed E σ x0 x1 x2 x3 x4 x5 P :=
  cj_enter (k := 14) (lv := [(0, .ref x0), (1, .int x1), (2, .int x2), (3, .int x3), (4, .int x4), (5, .int x5)]) (by decide) (Nat.le_of_ble_eq_true rfl) rfl (by
    intro d hd p e s m args below meth c hcx H locs ls hW hS hl
    have hx := hcx.1
    have hb := hcx.2.1
    have hown := hcx.2.2.2.2.2.1
    have hts := hcx.2.2.2.2.2.2.1
    refine lv_iload_n (pc := 0) hx hb dX2_deed_0 rfl (lv_at hl 1 rfl) ?_
    by_cases c1 : x1 = (0 : Int32)
    · have h := h.1 c1
      refine lv_tableIn (pc := 1) (off := 27) (tgt := 28) hx hb dX2_deed_1 (by rw [c1]; decide) (by rw [c1]; decide) (by rw [c1]; rfl) (by decide) ?_
      refine lv_aload_n (pc := 28) hx hb dX2_deed_28 rfl (lv_at hl 0 rfl) ?_
      refine lv_iload_n (pc := 29) hx hb dX2_deed_29 rfl (lv_at hl 2 rfl) ?_
      refine lv_iload_n (pc := 30) hx hb dX2_deed_30 rfl (lv_at hl 3 rfl) ?_
      refine lv_iload (pc := 31) hx hb dX2_deed_31 (lv_at hl 4 rfl) ?_
      refine lv_iload (pc := 33) hx hb dX2_deed_33 (lv_at hl 5 rfl) ?_
      refine cj_xq (pc := 35) (cj_runS hcx hW hS [.int x3, .int x4, .int x5] h (Nat.le_trans (by decide) hd) (lw_S q762 q523 q132 q524) yd_Rw_of (by decide) rfl rfl (Nat.le_of_ble_eq_true rfl) hl.1 (Nat.le_of_ble_eq_true rfl) (Nat.le_of_ble_eq_true rfl) dX2_deed_35) hS (fun r2 σ3 h H locs hW hS => ?_)
      obtain ⟨g6, h⟩ := h
      refine cj_xi (pc := 38) (cj_runV hcx hW hS 1 g6 (by decide) rfl [.int x2, va_rf r2] h (Nat.le_trans (by decide) hd) (lw_V q763 q764 q765 q123 q766) rfl yd_St_puts (by decide) rfl rfl (Nat.le_of_ble_eq_true rfl) hl.1 (Nat.le_of_ble_eq_true rfl) (Nat.le_of_ble_eq_true rfl) dX2_deed_38) hS (fun r4 σ5 h H locs hW hS => ?_)
      exact cj_reti (pc := 41) hcx hW hS rfl h (Nat.le_of_ble_eq_true rfl) (Nat.le_of_ble_eq_true rfl) dX2_deed_41
    · have h := h.2 c1
      by_cases c7 : x1 = (1 : Int32)
      · have h := h.1 c7
        refine lv_tableIn (pc := 1) (off := 41) (tgt := 42) hx hb dX2_deed_1 (by rw [c7]; decide) (by rw [c7]; decide) (by rw [c7]; rfl) (by decide) ?_
        refine lv_aload_n (pc := 42) hx hb dX2_deed_42 rfl (lv_at hl 0 rfl) ?_
        refine lv_iload_n (pc := 43) hx hb dX2_deed_43 rfl (lv_at hl 2 rfl) ?_
        refine lv_iload_n (pc := 44) hx hb dX2_deed_44 rfl (lv_at hl 3 rfl) ?_
        refine lv_iload (pc := 45) hx hb dX2_deed_45 (lv_at hl 4 rfl) ?_
        refine lv_iload (pc := 47) hx hb dX2_deed_47 (lv_at hl 5 rfl) ?_
        refine cj_xq (pc := 49) (cj_runS hcx hW hS [.int x3, .int x4, .int x5] h (Nat.le_trans (by decide) hd) (lw_S q762 q523 q132 q524) yd_Rw_of (by decide) rfl rfl (Nat.le_of_ble_eq_true rfl) hl.1 (Nat.le_of_ble_eq_true rfl) (Nat.le_of_ble_eq_true rfl) dX2_deed_49) hS (fun r8 σ9 h H locs hW hS => ?_)
        obtain ⟨g12, h⟩ := h
        refine cj_xi (pc := 52) (cj_runV hcx hW hS 1 g12 (by decide) rfl [.int x2, va_rf r8] h (Nat.le_trans (by decide) hd) (lw_V q819 q820 q821 q123 q822) rfl yd_St_takes (by decide) rfl rfl (Nat.le_of_ble_eq_true rfl) hl.1 (Nat.le_of_ble_eq_true rfl) (Nat.le_of_ble_eq_true rfl) dX2_deed_52) hS (fun r10 σ11 h H locs hW hS => ?_)
        exact cj_reti (pc := 55) hcx hW hS rfl h (Nat.le_of_ble_eq_true rfl) (Nat.le_of_ble_eq_true rfl) dX2_deed_55
      · have h := h.2 c7
        by_cases c13 : x1 = (2 : Int32)
        · have h := h.1 c13
          refine lv_tableIn (pc := 1) (off := 55) (tgt := 56) hx hb dX2_deed_1 (by rw [c13]; decide) (by rw [c13]; decide) (by rw [c13]; rfl) (by decide) ?_
          refine lv_aload_n (pc := 56) hx hb dX2_deed_56 rfl (lv_at hl 0 rfl) ?_
          refine lv_iload_n (pc := 57) hx hb dX2_deed_57 rfl (lv_at hl 2 rfl) ?_
          obtain ⟨g16, h⟩ := h
          refine cj_xi (pc := 58) (cj_runV hcx hW hS 1 g16 (by decide) rfl [.int x2] h (Nat.le_trans (by decide) hd) (lw_V q828 q829 q830 q123 q831) rfl yd_St_uses (by decide) rfl rfl (Nat.le_of_ble_eq_true rfl) hl.1 (Nat.le_of_ble_eq_true rfl) (Nat.le_of_ble_eq_true rfl) dX2_deed_58) hS (fun r14 σ15 h H locs hW hS => ?_)
          exact cj_reti (pc := 61) hcx hW hS rfl h (Nat.le_of_ble_eq_true rfl) (Nat.le_of_ble_eq_true rfl) dX2_deed_61
        · have h := h.2 c13
          refine lv_tableOut (pc := 1) (tgt := 62) hx hb dX2_deed_1 (cj_sw3 c1 c7 c13) (by decide) ?_
          refine lv_aload_n (pc := 62) hx hb dX2_deed_62 rfl (lv_at hl 0 rfl) ?_
          refine lv_iload_n (pc := 63) hx hb dX2_deed_63 rfl (lv_at hl 2 rfl) ?_
          obtain ⟨g19, h⟩ := h
          refine cj_xi (pc := 64) (cj_runV hcx hW hS 1 g19 (by decide) rfl [.int x2] h (Nat.le_trans (by decide) hd) (lw_V q832 q833 q834 q123 q835) rfl yd_St_orders (by decide) rfl rfl (Nat.le_of_ble_eq_true rfl) hl.1 (Nat.le_of_ble_eq_true rfl) (Nat.le_of_ble_eq_true rfl) dX2_deed_64) hS (fun r17 σ18 h H locs hW hS => ?_)
          exact cj_reti (pc := 67) hcx hW hS rfl h (Nat.le_of_ble_eq_true rfl) (Nat.le_of_ble_eq_true rfl) dX2_deed_67)
/-! L_text -/
set_option maxHeartbeats 4000000 in
set_option maxRecDepth 100000 in
theorem cb_L_text_23 {E : cj_E} {σ : cj_S} {x0 : Nat} {x1 : Int32} {cu : Nat} {su : Nat} {P : Int32 → cj_S → Prop} (h : (cu + 1150 ≤ 1150 ∧ (su + 7800 ≤ 7800 ∧ (cj_T σ x0 = 1 ∧ cs_L_fault E σ x0 x1 (fun r3 σ4 => ((r3 = (-1 : Int32) → (cj_T σ4 x0 = 1 ∧ ((x1 = (1 : Int32) → (∃ a19, (cj_R σ4 102 x0) = some a19 ∧ (∃ a21, (cj_R σ4 108 x0) = some a21 ∧ (cj_T σ4 a19 = 30 ∧ (cj_T σ4 a21 = 10 ∧ (vp_in (cj_F σ4 105 x0) (cj_N σ4 a19) ∧ ((cu + 1150) ≤ 1150 ∧ ((su + 7800) ≤ 7800 ∧ P ((cj_F (cj_sF (cj_sB (cj_sF σ4 101 x0 (0 : Int32)) a19 (cj_F σ4 105 x0).toNatClampNeg (some a21)) 105 x0 ((cj_F σ4 105 x0) + (1 : Int32))) 105 x0) - (1 : Int32)) (cj_sF (cj_sB (cj_sF σ4 101 x0 (0 : Int32)) a19 (cj_F σ4 105 x0).toNatClampNeg (some a21)) 105 x0 ((cj_F σ4 105 x0) + (1 : Int32))))))))))) ∧ (¬ x1 = (1 : Int32) → (∃ a9, (cj_R σ4 109 x0) = some a9 ∧ ((cu + 1150) ≤ 1150 ∧ ((su + 7800) ≤ 7800 ∧ (cj_T σ4 a9 = 2 ∧ cs_St_starts E (cj_sF (cj_sF σ4 101 x0 (0 : Int32)) 107 x0 (cj_F σ4 106 x0)) a9 (fun σ14 => (cj_T σ14 x0 = 1 ∧ (((cu + 1150) + 0) ≤ 1150 ∧ (((su + 7800) + 0) ≤ 7800 ∧ P (cj_F σ14 107 x0) (cj_sF (cj_sF σ14 115 x0 (0 : Int32)) 121 x0 (0 : Int32)))))))))))))) ∧ (¬ r3 = (-1 : Int32) → ((cu + 1150) ≤ 1150 ∧ ((su + 7800) ≤ 7800 ∧ P (-1 : Int32) σ4))))))))) : cg_L_text_23 E σ x0 x1 cu su P := by
  intro d hd p e s m args below meth c hcx H locs ls hW hS hl
  have hx := hcx.1
  have hb := hcx.2.1
  have hown := hcx.2.2.2.2.2.1
  have hts := hcx.2.2.2.2.2.2.1
  refine lv_aload_n (pc := 23) hx hb dX1_text_23 rfl (lv_at hl 0 rfl) ?_
  refine lv_iload_n (pc := 24) hx hb dX1_text_24 rfl (lv_at hl 1 rfl) ?_
  obtain ⟨g1, h⟩ := h
  obtain ⟨g2, h⟩ := h
  obtain ⟨g5, h⟩ := h
  refine cj_xi (pc := 25) (cj_runVW hcx hW hS 0 g5 (by decide) rfl [.int x1] h (Nat.le_trans (by decide) hd) (lw_VW q732 q345 q346 q122 q347) rfl yd_L_fault (by decide) rfl rfl (Nat.le_of_ble_eq_true rfl) hl.1 g1 g2 dX1_text_25) hS (fun r3 σ4 h H locs hW hS => ?_)
  refine lv_iconst (pc := 28) (v := (-1 : Int32)) hx hb dX1_text_28 (by decide) ?_
  refine lv_icmp_eq (pc := 29) (tgt := 34) hx hb dX1_text_29 (by decide) (fun c6 => ?_) (fun c6 => ?_)
  · have h := h.1 c6
    refine lv_aload_n (pc := 34) hx hb dX1_text_34 rfl (lv_at hl 0 rfl) ?_
    refine lv_iconst (pc := 35) (v := (0 : Int32)) hx hb dX1_text_35 (by decide) ?_
    obtain ⟨g7, h⟩ := h
    refine cj_put (pc := 36) (σ1 := (cj_sF σ4 101 x0 (0 : Int32))) hcx hW hS 0 g7 (by decide) rfl in_X1 tyX1_ok nmX1 1 (by decide) (by decide) rfl rfl rfl (cj_pI rfl) q275 dX1_text_36 (fun H locs hW hS => ?_)
    refine lv_iload_n (pc := 39) hx hb dX1_text_39 rfl (lv_at hl 1 rfl) ?_
    refine lv_iconst (pc := 40) (v := (1 : Int32)) hx hb dX1_text_40 (by decide) ?_
    refine lv_icmp_ne (pc := 41) (tgt := 74) hx hb dX1_text_41 (by decide) (fun c8 => ?_) (fun c8 => ?_)
    · have h := h.2 c8
      refine lv_aload_n (pc := 74) hx hb dX1_text_74 rfl (lv_at hl 0 rfl) ?_
      refine lv_aload_n (pc := 75) hx hb dX1_text_75 rfl (lv_at hl 0 rfl) ?_
      refine cj_fld (pc := 76) hcx hW 0 g7 (by decide) rfl in_X1 6 (by decide) (by decide) q281 dX1_text_76 (v := .int (cj_F σ4 106 x0)) rfl ?_
      refine cj_put (pc := 79) (σ1 := (cj_sF (cj_sF σ4 101 x0 (0 : Int32)) 107 x0 (cj_F σ4 106 x0))) hcx hW hS 0 g7 (by decide) rfl in_X1 tyX1_ok nmX1 7 (by decide) (by decide) rfl rfl rfl (cj_pI rfl) q284 dX1_text_79 (fun H locs hW hS => ?_)
      refine lv_aload_n (pc := 82) hx hb dX1_text_82 rfl (lv_at hl 0 rfl) ?_
      refine cj_fld (pc := 83) hcx hW 0 g7 (by decide) rfl in_X1 9 (by decide) (by decide) q286 dX1_text_83 (v := va_rf (cj_R σ4 109 x0)) rfl ?_
      obtain ⟨a9, e10, h⟩ := h
      refine cj_stk (st' := [.ref a9]) (by rw [e10]; rfl) ?_
      obtain ⟨g11, h⟩ := h
      obtain ⟨g12, h⟩ := h
      obtain ⟨g15, h⟩ := h
      refine cj_xv (pc := 86) (cj_runV hcx hW hS 1 g15 (by decide) rfl [] h (Nat.le_trans (by decide) hd) (lw_V q733 q734 q735 q123 q736) rfl yd_St_starts (by decide) rfl rfl (Nat.le_of_ble_eq_true rfl) hl.1 g11 g12 dX1_text_86) hS (fun σ14 h H locs hW hS => ?_)
      refine lv_aload_n (pc := 89) hx hb dX1_text_89 rfl (lv_at hl 0 rfl) ?_
      refine lv_iconst (pc := 90) (v := (0 : Int32)) hx hb dX1_text_90 (by decide) ?_
      obtain ⟨g16, h⟩ := h
      refine cj_put (pc := 91) (σ1 := (cj_sF σ14 115 x0 (0 : Int32))) hcx hW hS 0 g16 (by decide) rfl in_X1 tyX1_ok nmX1 15 (by decide) (by decide) rfl rfl rfl (cj_pI rfl) q292 dX1_text_91 (fun H locs hW hS => ?_)
      refine lv_aload_n (pc := 94) hx hb dX1_text_94 rfl (lv_at hl 0 rfl) ?_
      refine lv_iconst (pc := 95) (v := (0 : Int32)) hx hb dX1_text_95 (by decide) ?_
      refine cj_put (pc := 96) (σ1 := (cj_sF (cj_sF σ14 115 x0 (0 : Int32)) 121 x0 (0 : Int32))) hcx hW hS 0 g16 (by decide) rfl in_X1 tyX1_ok nmX1 21 (by decide) (by decide) rfl rfl rfl (cj_pI rfl) q298 dX1_text_96 (fun H locs hW hS => ?_)
      refine lv_aload_n (pc := 99) hx hb dX1_text_99 rfl (lv_at hl 0 rfl) ?_
      refine cj_fld (pc := 100) hcx hW 0 g16 (by decide) rfl in_X1 7 (by decide) (by decide) q284 dX1_text_100 (v := .int (cj_F σ14 107 x0)) rfl ?_
      obtain ⟨g17, h⟩ := h
      obtain ⟨g18, h⟩ := h
      exact cj_reti (pc := 103) hcx hW hS rfl h g17 g18 dX1_text_103
    · have h := h.1 c8
      refine lv_aload_n (pc := 44) hx hb dX1_text_44 rfl (lv_at hl 0 rfl) ?_
      refine cj_fld (pc := 45) hcx hW 0 g7 (by decide) rfl in_X1 2 (by decide) (by decide) q276 dX1_text_45 (v := va_rf (cj_R σ4 102 x0)) rfl ?_
      refine lv_aload_n (pc := 48) hx hb dX1_text_48 rfl (lv_at hl 0 rfl) ?_
      refine cj_fld (pc := 49) hcx hW 0 g7 (by decide) rfl in_X1 5 (by decide) (by decide) q280 dX1_text_49 (v := .int (cj_F σ4 105 x0)) rfl ?_
      refine lv_aload_n (pc := 52) hx hb dX1_text_52 rfl (lv_at hl 0 rfl) ?_
      refine cj_fld (pc := 53) hcx hW 0 g7 (by decide) rfl in_X1 8 (by decide) (by decide) q285 dX1_text_53 (v := va_rf (cj_R σ4 108 x0)) rfl ?_
      obtain ⟨a19, e20, h⟩ := h
      refine cj_stk (st' := [va_rf (cj_R σ4 108 x0), .int (cj_F σ4 105 x0), .ref a19]) (by rw [e20]; rfl) ?_
      obtain ⟨a21, e22, h⟩ := h
      refine cj_stk (st' := [.ref a21, .int (cj_F σ4 105 x0), .ref a19]) (by rw [e22]; rfl) ?_
      obtain ⟨g23, h⟩ := h
      obtain ⟨g24, h⟩ := h
      obtain ⟨g25, h⟩ := h
      refine cj_aast (pc := 56) hcx hW hS (cj_okt (t := 10) g24 (by unfold cj_ok_; decide)) (cj_eqt (t := 10) g23 g24) g25 dX1_text_56 (fun H locs hW hS => ?_)
      refine lv_aload_n (pc := 57) hx hb dX1_text_57 rfl (lv_at hl 0 rfl) ?_
      refine lv_dup (pc := 58) hx hb dX1_text_58 rfl ?_
      refine cj_fld (pc := 59) hcx hW 0 g7 (by decide) rfl in_X1 5 (by decide) (by decide) q280 dX1_text_59 (v := .int (cj_F σ4 105 x0)) rfl ?_
      refine lv_iconst (pc := 62) (v := (1 : Int32)) hx hb dX1_text_62 (by decide) ?_
      refine lv_iadd (pc := 63) hx hb dX1_text_63 ?_
      refine cj_put (pc := 64) (σ1 := (cj_sF (cj_sB (cj_sF σ4 101 x0 (0 : Int32)) a19 (cj_F σ4 105 x0).toNatClampNeg (some a21)) 105 x0 ((cj_F σ4 105 x0) + (1 : Int32)))) hcx hW hS 0 g7 (by decide) rfl in_X1 tyX1_ok nmX1 5 (by decide) (by decide) rfl rfl rfl (cj_pI rfl) q280 dX1_text_64 (fun H locs hW hS => ?_)
      refine lv_aload_n (pc := 67) hx hb dX1_text_67 rfl (lv_at hl 0 rfl) ?_
      refine cj_fld (pc := 68) hcx hW 0 g7 (by decide) rfl in_X1 5 (by decide) (by decide) q280 dX1_text_68 (v := .int (cj_F (cj_sF (cj_sB (cj_sF σ4 101 x0 (0 : Int32)) a19 (cj_F σ4 105 x0).toNatClampNeg (some a21)) 105 x0 ((cj_F σ4 105 x0) + (1 : Int32))) 105 x0)) rfl ?_
      refine lv_iconst (pc := 71) (v := (1 : Int32)) hx hb dX1_text_71 (by decide) ?_
      refine lv_isub (pc := 72) hx hb dX1_text_72 ?_
      obtain ⟨g26, h⟩ := h
      obtain ⟨g27, h⟩ := h
      exact cj_reti (pc := 73) hcx hW hS rfl h g26 g27 dX1_text_73
  · have h := h.2 c6
    refine lv_iconst (pc := 32) (v := (-1 : Int32)) hx hb dX1_text_32 (by decide) ?_
    obtain ⟨g28, h⟩ := h
    obtain ⟨g29, h⟩ := h
    exact cj_reti (pc := 33) hcx hW hS rfl h g28 g29 dX1_text_33
set_option maxHeartbeats 4000000 in
set_option maxRecDepth 100000 in
theorem cb_L_text {E : cj_E} {σ : cj_S} {x0 : Nat} {x1 : Int32} {P : Int32 → cj_S → Prop} (h : cs_L_isIn E σ (x1).toInt64 (0 : Int64) (1 : Int64) (fun r1 σ2 => ((r1 = 0 → P (-1 : Int32) σ2) ∧ (¬ r1 = 0 → ((x1 = (1 : Int32) → (cj_T σ2 x0 = 1 ∧ (((cj_F σ2 105 x0) = (4 : Int32) → P (-1 : Int32) σ2) ∧ (¬ (cj_F σ2 105 x0) = (4 : Int32) → cg_L_text_23 E σ2 x0 x1 0 0 P)))) ∧ (¬ x1 = (1 : Int32) → cg_L_text_23 E σ2 x0 x1 0 0 P)))))) : cs_L_text E σ x0 x1 P :=
  cj_enter (k := 17) (lv := [(0, .ref x0), (1, .int x1)]) (by decide) (Nat.le_of_ble_eq_true rfl) rfl (by
    intro d hd p e s m args below meth c hcx H locs ls hW hS hl
    have hx := hcx.1
    have hb := hcx.2.1
    have hown := hcx.2.2.2.2.2.1
    have hts := hcx.2.2.2.2.2.2.1
    refine lv_iload_n (pc := 0) hx hb dX1_text_0 rfl (lv_at hl 1 rfl) ?_
    refine lv_i2l (pc := 1) hx hb dX1_text_1 rfl ?_
    refine lv_lconst (pc := 2) (v := (0 : Int64)) hx hb dX1_text_2 (by decide) ?_
    refine lv_lconst (pc := 3) (v := (1 : Int64)) hx hb dX1_text_3 (by decide) ?_
    refine cj_xi (pc := 4) (cj_runS hcx hW hS [.long (x1).toInt64, .long (0 : Int64), .long (1 : Int64)] h (Nat.le_trans (by decide) hd) (lw_S q349 q350 q122 q351) yd_L_isIn (by decide) rfl rfl (Nat.le_of_ble_eq_true rfl) hl.1 (Nat.le_of_ble_eq_true rfl) (Nat.le_of_ble_eq_true rfl) dX1_text_4) hS (fun r1 σ2 h H locs hW hS => ?_)
    refine lv_if_eq (pc := 7) (tgt := 32) hx hb dX1_text_7 (by decide) (fun c3 => ?_) (fun c3 => ?_)
    · have h := h.1 c3
      refine lv_iconst (pc := 32) (v := (-1 : Int32)) hx hb dX1_text_32 (by decide) ?_
      exact cj_reti (pc := 33) hcx hW hS rfl h (Nat.le_of_ble_eq_true rfl) (Nat.le_of_ble_eq_true rfl) dX1_text_33
    · have h := h.2 c3
      refine lv_iload_n (pc := 10) hx hb dX1_text_10 rfl (lv_at hl 1 rfl) ?_
      refine lv_iconst (pc := 11) (v := (1 : Int32)) hx hb dX1_text_11 (by decide) ?_
      refine lv_icmp_ne (pc := 12) (tgt := 23) hx hb dX1_text_12 (by decide) (fun c4 => ?_) (fun c4 => ?_)
      · have h := h.2 c4
        exact h d hd p e s m args below meth c hcx H locs _ hW hS (lv_sub hl [0, 1] rfl)
      · have h := h.1 c4
        refine lv_aload_n (pc := 15) hx hb dX1_text_15 rfl (lv_at hl 0 rfl) ?_
        obtain ⟨g5, h⟩ := h
        refine cj_fld (pc := 16) hcx hW 0 g5 (by decide) rfl in_X1 5 (by decide) (by decide) q280 dX1_text_16 (v := .int (cj_F σ2 105 x0)) rfl ?_
        refine lv_iconst (pc := 19) (v := (4 : Int32)) hx hb dX1_text_19 (by decide) ?_
        refine lv_icmp_eq (pc := 20) (tgt := 32) hx hb dX1_text_20 (by decide) (fun c6 => ?_) (fun c6 => ?_)
        · have h := h.1 c6
          refine lv_iconst (pc := 32) (v := (-1 : Int32)) hx hb dX1_text_32 (by decide) ?_
          exact cj_reti (pc := 33) hcx hW hS rfl h (Nat.le_of_ble_eq_true rfl) (Nat.le_of_ble_eq_true rfl) dX1_text_33
        · have h := h.2 c6
          exact h d hd p e s m args below meth c hcx H locs _ hW hS (lv_sub hl [0, 1] rfl))
/-! Jn_of -/
set_option maxHeartbeats 4000000 in
set_option maxRecDepth 100000 in
theorem cb_Jn_of_35 {E : cj_E} {σ : cj_S} {x0 : Nat} {x3 : Int32} {x4 : Int32} {x5 : Int32} {x6 : Int32} {P : Option Nat → cj_S → Prop} (h : (((4 : Int32) ≤ x6 → (cj_T σ x0 = 3 ∧ cs_Jn_finds E 20 σ x0 (0 : Int32) (0 : Int32) (fun σ3 => P (some x0) σ3))) ∧ (¬ (4 : Int32) ≤ x6 → ((x6 = 0 → cg_Jn_of_62 E σ x0 x3 x4 x5 x6 (6 : Int32) P) ∧ (¬ x6 = 0 → ((x6 = (1 : Int32) → cg_Jn_of_62 E σ x0 x3 x4 x5 x6 (2 : Int32) P) ∧ (¬ x6 = (1 : Int32) → cg_Jn_of_62 E σ x0 x3 x4 x5 x6 (1 : Int32) P))))))) : cg_Jn_of_35 E σ x0 x3 x4 x5 x6 P := by
  intro d hd p e s m args below meth c hcx H locs ls hW hS hl
  have hx := hcx.1
  have hb := hcx.2.1
  have hown := hcx.2.2.2.2.2.1
  have hts := hcx.2.2.2.2.2.2.1
  refine lv_iload (pc := 35) hx hb dX3_of_35 (lv_at hl 4 rfl) ?_
  refine lv_iconst (pc := 37) (v := (4 : Int32)) hx hb dX3_of_37 (by decide) ?_
  refine lv_icmp_ge (pc := 38) (tgt := 144) hx hb dX3_of_38 (by decide) (fun c1 => ?_) (fun c1 => ?_)
  · have h := h.1 c1
    refine lv_aload_n (pc := 144) hx hb dX3_of_144 rfl (lv_at hl 0 rfl) ?_
    refine lv_iconst (pc := 145) (v := (0 : Int32)) hx hb dX3_of_145 (by decide) ?_
    refine lv_iconst (pc := 146) (v := (0 : Int32)) hx hb dX3_of_146 (by decide) ?_
    obtain ⟨g4, h⟩ := h
    refine cj_xv (pc := 147) (cj_runV hcx hW hS 2 g4 (by decide) rfl [.int (0 : Int32), .int (0 : Int32)] h (Nat.le_trans (by decide) hd) (lw_V q864 q866 qs20 q124 q867) rfl yd_Jn_finds (by decide) rfl rfl (Nat.le_of_ble_eq_true rfl) hl.1 (Nat.le_refl _) (Nat.le_refl _) dX3_of_147) hS (fun σ3 h H locs hW hS => ?_)
    refine lv_aload_n (pc := 150) hx hb dX3_of_150 rfl (lv_at hl 0 rfl) ?_
    exact cj_retq (pc := 151) (r := (some x0)) hcx hW hS (Or.inl ⟨_, rfl⟩) h (Nat.le_refl _) (Nat.le_refl _) dX3_of_151
  · have h := h.2 c1
    refine lv_iload (pc := 41) hx hb dX3_of_41 (lv_at hl 4 rfl) ?_
    refine lv_if_ne (pc := 43) (tgt := 51) hx hb dX3_of_43 (by decide) (fun c5 => ?_) (fun c5 => ?_)
    · have h := h.2 c5
      refine lv_iload (pc := 51) hx hb dX3_of_51 (lv_at hl 4 rfl) ?_
      refine lv_iconst (pc := 53) (v := (1 : Int32)) hx hb dX3_of_53 (by decide) ?_
      refine lv_icmp_ne (pc := 54) (tgt := 61) hx hb dX3_of_54 (by decide) (fun c6 => ?_) (fun c6 => ?_)
      · have h := h.2 c6
        refine lv_iconst (pc := 61) (v := (1 : Int32)) hx hb dX3_of_61 (by decide) ?_
        exact h d hd p e s m args below meth c hcx H locs _ hW hS (lv_sub hl [0, 1, 2, 3, 4] rfl)
      · have h := h.1 c6
        refine lv_iconst (pc := 57) (v := (2 : Int32)) hx hb dX3_of_57 (by decide) ?_
        refine lv_goto (pc := 58) (tgt := 62) hx hb dX3_of_58 (by decide) ?_
        exact h d hd p e s m args below meth c hcx H locs _ hW hS (lv_sub hl [0, 1, 2, 3, 4] rfl)
    · have h := h.1 c5
      refine lv_bipush (pc := 46) (v := (6 : Int32)) hx hb dX3_of_46 (by decide) ?_
      refine lv_goto (pc := 48) (tgt := 62) hx hb dX3_of_48 (by decide) ?_
      exact h d hd p e s m args below meth c hcx H locs _ hW hS (lv_sub hl [0, 1, 2, 3, 4] rfl)
set_option maxHeartbeats 4000000 in
set_option maxRecDepth 100000 in
theorem cb_Jn_of_62 {E : cj_E} {σ : cj_S} {x0 : Nat} {x3 : Int32} {x4 : Int32} {x5 : Int32} {x6 : Int32} {t0 : Int32} {P : Option Nat → cj_S → Prop} (h : (¬ t0 = 0 ∧ (cj_T σ x0 = 3 ∧ cs_Jn_nth E σ x0 x4 (x5 / t0) (fun r2 σ3 => (¬ t0 = 0 ∧ (cj_T σ3 x0 = 3 ∧ (∃ a7, (cj_R σ3 303 x0) = some a7 ∧ (cj_T σ3 a7 = 21 ∧ (vp_in (x6 + (1 : Int32)) (cj_N σ3 a7) ∧ cs_L_has E (cj_sA σ3 a7 (x6 + (1 : Int32)).toNatClampNeg (0 : Int32)) x3 r2 (fun r11 σ12 => ((r11 = 0 → cg_Jn_of_35 E σ12 x0 x3 (x4 &&& (((1 : Int32) <<< (r2 &&& 31)) ^^^ (-1 : Int32))) (x5 - x5 / t0 * t0) (x6 + (1 : Int32)) P) ∧ (¬ r11 = 0 → (cj_T σ12 x0 = 3 ∧ (∃ a15, (cj_R σ12 302 x0) = some a15 ∧ (cj_T σ12 a15 = 21 ∧ (vp_in (cj_F σ12 310 x0) (cj_N σ12 a15) ∧ cg_Jn_of_35 E (cj_sF (cj_sA σ12 a15 (cj_F σ12 310 x0).toNatClampNeg r2) 310 x0 ((cj_F σ12 310 x0) + (1 : Int32))) x0 x3 (x4 &&& (((1 : Int32) <<< (r2 &&& 31)) ^^^ (-1 : Int32))) (x5 - x5 / t0 * t0) (x6 + (1 : Int32)) P)))))))))))))))) : cg_Jn_of_62 E σ x0 x3 x4 x5 x6 t0 P := by
  intro d hd p e s m args below meth c hcx H locs ls hW hS hl
  have hx := hcx.1
  have hb := hcx.2.1
  have hown := hcx.2.2.2.2.2.1
  have hts := hcx.2.2.2.2.2.2.1
  refine lv_istore (pc := 62) (lv' := [(7, .int t0), (0, .ref x0), (3, .int x3), (4, .int x4), (5, .int x5), (6, .int x6)]) hx hb dX3_of_62 hl (by decide) rfl (fun ls hl => ?_)
  refine lv_aload_n (pc := 64) hx hb dX3_of_64 rfl (lv_at hl 1 rfl) ?_
  refine lv_iload (pc := 65) hx hb dX3_of_65 (lv_at hl 3 rfl) ?_
  refine lv_iload (pc := 67) hx hb dX3_of_67 (lv_at hl 4 rfl) ?_
  refine lv_iload (pc := 69) hx hb dX3_of_69 (lv_at hl 0 rfl) ?_
  obtain ⟨g1, h⟩ := h
  refine lv_idiv (pc := 71) hx hb dX3_of_71 g1 ?_
  obtain ⟨g4, h⟩ := h
  refine cj_xi (pc := 72) (cj_runV hcx hW hS 2 g4 (by decide) rfl [.int x4, .int (x5 / t0)] h (Nat.le_trans (by decide) hd) (lw_V q859 q861 qs19 q124 q862) rfl yd_Jn_nth (by decide) rfl rfl (Nat.le_of_ble_eq_true rfl) hl.1 (Nat.le_refl _) (Nat.le_refl _) dX3_of_72) hS (fun r2 σ3 h H locs hW hS => ?_)
  refine lv_istore (pc := 75) (lv' := [(8, .int r2), (7, .int t0), (0, .ref x0), (3, .int x3), (4, .int x4), (5, .int x5), (6, .int x6)]) hx hb dX3_of_75 hl (by decide) rfl (fun ls hl => ?_)
  refine lv_iload (pc := 77) hx hb dX3_of_77 (lv_at hl 5 rfl) ?_
  refine lv_iload (pc := 79) hx hb dX3_of_79 (lv_at hl 1 rfl) ?_
  obtain ⟨g5, h⟩ := h
  refine lv_irem (pc := 81) hx hb dX3_of_81 g5 ?_
  refine lv_istore (pc := 82) (lv' := [(5, .int (x5 - x5 / t0 * t0)), (8, .int r2), (7, .int t0), (0, .ref x0), (3, .int x3), (4, .int x4), (6, .int x6)]) hx hb dX3_of_82 hl (by decide) rfl (fun ls hl => ?_)
  refine lv_iload (pc := 84) hx hb dX3_of_84 (lv_at hl 5 rfl) ?_
  refine lv_iconst (pc := 86) (v := (1 : Int32)) hx hb dX3_of_86 (by decide) ?_
  refine lv_iload (pc := 87) hx hb dX3_of_87 (lv_at hl 1 rfl) ?_
  refine lv_ishl (pc := 89) hx hb dX3_of_89 ?_
  refine lv_iconst (pc := 90) (v := (-1 : Int32)) hx hb dX3_of_90 (by decide) ?_
  refine lv_ixor (pc := 91) hx hb dX3_of_91 ?_
  refine lv_iand (pc := 92) hx hb dX3_of_92 ?_
  refine lv_istore (pc := 93) (lv' := [(4, .int (x4 &&& (((1 : Int32) <<< (r2 &&& 31)) ^^^ (-1 : Int32)))), (5, .int (x5 - x5 / t0 * t0)), (8, .int r2), (7, .int t0), (0, .ref x0), (3, .int x3), (6, .int x6)]) hx hb dX3_of_93 hl (by decide) rfl (fun ls hl => ?_)
  refine lv_aload_n (pc := 95) hx hb dX3_of_95 rfl (lv_at hl 4 rfl) ?_
  obtain ⟨g6, h⟩ := h
  refine cj_fld (pc := 96) hcx hW 2 g6 (by decide) rfl in_X3 3 (by decide) (by decide) q230 dX3_of_96 (v := va_rf (cj_R σ3 303 x0)) rfl ?_
  refine lv_iload (pc := 99) hx hb dX3_of_99 (lv_at hl 6 rfl) ?_
  refine lv_iconst (pc := 101) (v := (1 : Int32)) hx hb dX3_of_101 (by decide) ?_
  refine lv_iadd (pc := 102) hx hb dX3_of_102 ?_
  refine lv_iconst (pc := 103) (v := (0 : Int32)) hx hb dX3_of_103 (by decide) ?_
  obtain ⟨a7, e8, h⟩ := h
  refine cj_stk (st' := [.int (0 : Int32), .int (x6 + (1 : Int32)), .ref a7]) (by rw [e8]; rfl) ?_
  obtain ⟨g9, h⟩ := h
  obtain ⟨g10, h⟩ := h
  refine cj_iast (pc := 104) hcx hW hS g9 g10 dX3_of_104 (fun H locs hW hS => ?_)
  refine lv_iload_n (pc := 105) hx hb dX3_of_105 rfl (lv_at hl 5 rfl) ?_
  refine lv_iload (pc := 106) hx hb dX3_of_106 (lv_at hl 2 rfl) ?_
  refine cj_xi (pc := 108) (cj_runSN hcx hW hS [.int x3, .int r2] h (Nat.le_trans (by decide) hd) (List.mem_of_getElem? (i := 7) rfl) q387 q122 q388 yd_L_has (by decide) rfl rfl (Nat.le_of_ble_eq_true rfl) hl.1 (Nat.le_refl _) (Nat.le_refl _) dX3_of_108) hS (fun r11 σ12 h H locs hW hS => ?_)
  refine lv_if_ne (pc := 111) (tgt := 117) hx hb dX3_of_111 (by decide) (fun c13 => ?_) (fun c13 => ?_)
  · have h := h.2 c13
    refine lv_aload_n (pc := 117) hx hb dX3_of_117 rfl (lv_at hl 4 rfl) ?_
    obtain ⟨g14, h⟩ := h
    refine cj_fld (pc := 118) hcx hW 2 g14 (by decide) rfl in_X3 2 (by decide) (by decide) q229 dX3_of_118 (v := va_rf (cj_R σ12 302 x0)) rfl ?_
    refine lv_aload_n (pc := 121) hx hb dX3_of_121 rfl (lv_at hl 4 rfl) ?_
    refine cj_fld (pc := 122) hcx hW 2 g14 (by decide) rfl in_X3 10 (by decide) (by decide) q240 dX3_of_122 (v := .int (cj_F σ12 310 x0)) rfl ?_
    refine lv_iload (pc := 125) hx hb dX3_of_125 (lv_at hl 2 rfl) ?_
    obtain ⟨a15, e16, h⟩ := h
    refine cj_stk (st' := [.int r2, .int (cj_F σ12 310 x0), .ref a15]) (by rw [e16]; rfl) ?_
    obtain ⟨g17, h⟩ := h
    obtain ⟨g18, h⟩ := h
    refine cj_iast (pc := 127) hcx hW hS g17 g18 dX3_of_127 (fun H locs hW hS => ?_)
    refine lv_aload_n (pc := 128) hx hb dX3_of_128 rfl (lv_at hl 4 rfl) ?_
    refine lv_dup (pc := 129) hx hb dX3_of_129 rfl ?_
    refine cj_fld (pc := 130) hcx hW 2 g14 (by decide) rfl in_X3 10 (by decide) (by decide) q240 dX3_of_130 (v := .int (cj_F σ12 310 x0)) rfl ?_
    refine lv_iconst (pc := 133) (v := (1 : Int32)) hx hb dX3_of_133 (by decide) ?_
    refine lv_iadd (pc := 134) hx hb dX3_of_134 ?_
    refine cj_put (pc := 135) (σ1 := (cj_sF (cj_sA σ12 a15 (cj_F σ12 310 x0).toNatClampNeg r2) 310 x0 ((cj_F σ12 310 x0) + (1 : Int32)))) hcx hW hS 2 g14 (by decide) rfl in_X3 tyX3_ok nmX3 10 (by decide) (by decide) rfl rfl rfl (cj_pI rfl) q240 dX3_of_135 (fun H locs hW hS => ?_)
    refine lv_iinc (pc := 138) (v := (x6 + (1 : Int32))) (lv' := [(6, .int (x6 + (1 : Int32))), (4, .int (x4 &&& (((1 : Int32) <<< (r2 &&& 31)) ^^^ (-1 : Int32)))), (5, .int (x5 - x5 / t0 * t0)), (8, .int r2), (7, .int t0), (0, .ref x0), (3, .int x3)]) hx hb dX3_of_138 hl (k := 6) rfl rfl (by decide) rfl (fun ls hl => ?_)
    refine lv_goto (pc := 141) (tgt := 35) hx hb dX3_of_141 (by decide) ?_
    exact h d hd p e s m args below meth c hcx H locs _ hW hS (lv_sub hl [5, 6, 1, 2, 0] rfl)
  · have h := h.1 c13
    refine lv_goto (pc := 114) (tgt := 138) hx hb dX3_of_114 (by decide) ?_
    refine lv_iinc (pc := 138) (v := (x6 + (1 : Int32))) (lv' := [(6, .int (x6 + (1 : Int32))), (4, .int (x4 &&& (((1 : Int32) <<< (r2 &&& 31)) ^^^ (-1 : Int32)))), (5, .int (x5 - x5 / t0 * t0)), (8, .int r2), (7, .int t0), (0, .ref x0), (3, .int x3)]) hx hb dX3_of_138 hl (k := 6) rfl rfl (by decide) rfl (fun ls hl => ?_)
    refine lv_goto (pc := 141) (tgt := 35) hx hb dX3_of_141 (by decide) ?_
    exact h d hd p e s m args below meth c hcx H locs _ hW hS (lv_sub hl [5, 6, 1, 2, 0] rfl)
set_option maxHeartbeats 4000000 in
set_option maxRecDepth 100000 in
theorem cb_Jn_of {E : cj_E} {σ : cj_S} {x0 : Nat} {x1 : Option Nat} {x2 : Int32} {P : Option Nat → cj_S → Prop} (h : (cj_T σ x0 = 3 ∧ (∃ a2, x1 = some a2 ∧ (cj_T σ a2 = 2 ∧ cs_St_asked E (cj_sF (cj_sF (cj_sF (cj_sR σ 307 x0 x1) 308 x0 (0 : Int32)) 309 x0 (0 : Int32)) 310 x0 (0 : Int32)) a2 (fun r4 σ5 => cg_Jn_of_35 E σ5 x0 r4 (15 : Int32) x2 (0 : Int32) P))))) : cs_Jn_of E σ x0 x1 x2 P :=
  cj_enter (k := 21) (lv := [(0, .ref x0), (1, va_rf x1), (2, .int x2)]) (by decide) (by cases x1 <;> exact Nat.le_of_ble_eq_true rfl) (by cases x1 <;> rfl) (by
    intro d hd p e s m args below meth c hcx H locs ls hW hS hl
    have hx := hcx.1
    have hb := hcx.2.1
    have hown := hcx.2.2.2.2.2.1
    have hts := hcx.2.2.2.2.2.2.1
    refine lv_aload_n (pc := 0) hx hb dX3_of_0 rfl (lv_at hl 0 rfl) ?_
    refine cj_aload_n (pc := 1) hx hb dX3_of_1 rfl (lv_at hl 1 rfl) ?_
    obtain ⟨g1, h⟩ := h
    refine cj_put (pc := 2) (σ1 := (cj_sR σ 307 x0 x1)) hcx hW hS 2 g1 (by decide) rfl in_X3 tyX3_ok nmX3 7 (by decide) (by decide) rfl (cj_nR _ x1) (cj_fR _ x1) (cj_pR (x := x1) rfl) q235 dX3_of_2 (fun H locs hW hS => ?_)
    refine lv_aload_n (pc := 5) hx hb dX3_of_5 rfl (lv_at hl 0 rfl) ?_
    refine lv_iconst (pc := 6) (v := (0 : Int32)) hx hb dX3_of_6 (by decide) ?_
    refine cj_put (pc := 7) (σ1 := (cj_sF (cj_sR σ 307 x0 x1) 308 x0 (0 : Int32))) hcx hW hS 2 g1 (by decide) rfl in_X3 tyX3_ok nmX3 8 (by decide) (by decide) rfl rfl rfl (cj_pI rfl) q236 dX3_of_7 (fun H locs hW hS => ?_)
    refine lv_aload_n (pc := 10) hx hb dX3_of_10 rfl (lv_at hl 0 rfl) ?_
    refine lv_iconst (pc := 11) (v := (0 : Int32)) hx hb dX3_of_11 (by decide) ?_
    refine cj_put (pc := 12) (σ1 := (cj_sF (cj_sF (cj_sR σ 307 x0 x1) 308 x0 (0 : Int32)) 309 x0 (0 : Int32))) hcx hW hS 2 g1 (by decide) rfl in_X3 tyX3_ok nmX3 9 (by decide) (by decide) rfl rfl rfl (cj_pI rfl) q238 dX3_of_12 (fun H locs hW hS => ?_)
    refine lv_aload_n (pc := 15) hx hb dX3_of_15 rfl (lv_at hl 0 rfl) ?_
    refine lv_iconst (pc := 16) (v := (0 : Int32)) hx hb dX3_of_16 (by decide) ?_
    refine cj_put (pc := 17) (σ1 := (cj_sF (cj_sF (cj_sF (cj_sR σ 307 x0 x1) 308 x0 (0 : Int32)) 309 x0 (0 : Int32)) 310 x0 (0 : Int32))) hcx hW hS 2 g1 (by decide) rfl in_X3 tyX3_ok nmX3 10 (by decide) (by decide) rfl rfl rfl (cj_pI rfl) q240 dX3_of_17 (fun H locs hW hS => ?_)
    refine cj_aload_n (pc := 20) hx hb dX3_of_20 rfl (lv_at hl 1 rfl) ?_
    obtain ⟨a2, e3, h⟩ := h
    refine cj_stk (st' := [.ref a2]) (by rw [e3]; rfl) ?_
    obtain ⟨g6, h⟩ := h
    refine cj_xi (pc := 21) (cj_runV hcx hW hS 1 g6 (by decide) rfl [] h (Nat.le_trans (by decide) hd) (lw_V q850 q851 q852 q123 q853) rfl yd_St_asked (by decide) rfl rfl (Nat.le_of_ble_eq_true rfl) hl.1 (Nat.le_refl _) (Nat.le_refl _) dX3_of_21) hS (fun r4 σ5 h H locs hW hS => ?_)
    refine lv_istore_n (pc := 24) (lv' := [(3, .int r4), (0, .ref x0), (1, va_rf x1), (2, .int x2)]) hx hb dX3_of_24 rfl hl (by decide) rfl (fun ls hl => ?_)
    refine lv_bipush (pc := 25) (v := (15 : Int32)) hx hb dX3_of_25 (by decide) ?_
    refine lv_istore (pc := 27) (lv' := [(4, .int (15 : Int32)), (3, .int r4), (0, .ref x0), (1, va_rf x1), (2, .int x2)]) hx hb dX3_of_27 hl (by decide) rfl (fun ls hl => ?_)
    refine lv_iload_n (pc := 29) hx hb dX3_of_29 rfl (lv_at hl 4 rfl) ?_
    refine lv_istore (pc := 30) (lv' := [(5, .int x2), (4, .int (15 : Int32)), (3, .int r4), (0, .ref x0), (1, va_rf x1), (2, .int x2)]) hx hb dX3_of_30 hl (by decide) rfl (fun ls hl => ?_)
    refine lv_iconst (pc := 32) (v := (0 : Int32)) hx hb dX3_of_32 (by decide) ?_
    refine lv_istore (pc := 33) (lv' := [(6, .int (0 : Int32)), (5, .int x2), (4, .int (15 : Int32)), (3, .int r4), (0, .ref x0), (1, va_rf x1), (2, .int x2)]) hx hb dX3_of_33 hl (by decide) rfl (fun ls hl => ?_)
    exact h d hd p e s m args below meth c hcx H locs _ hW hS (lv_sub hl [4, 3, 2, 1, 0] rfl))
/-! L_best -/
set_option maxHeartbeats 4000000 in
set_option maxRecDepth 100000 in
theorem cb_L_best_40 {E : cj_E} {σ : cj_S} {x0 : Nat} {x1 : Int32} {x2 : Int32} {x3 : Int32} {x4 : Int32} {P : Int32 → cj_S → Prop} (h : (((24 : Int32) ≤ x4 → ((x1 = 0 → P x2 σ) ∧ (¬ x1 = 0 → P x3 σ))) ∧ (¬ (24 : Int32) ≤ x4 → (cj_T σ x0 = 1 ∧ (∃ a4, (cj_R σ 113 x0) = some a4 ∧ (cj_T σ a4 = 3 ∧ cs_Jn_of E σ a4 (cj_R σ 109 x0) x4 (fun r6 σ7 => (∃ a9, r6 = some a9 ∧ (cj_T σ7 a9 = 3 ∧ (((cj_F σ7 309 a9) < x3 → cg_L_best_40 E σ7 x0 x1 x4 (cj_F σ7 309 a9) (x4 + (1 : Int32)) P) ∧ (¬ (cj_F σ7 309 a9) < x3 → cg_L_best_40 E σ7 x0 x1 x2 x3 (x4 + (1 : Int32)) P))))))))))) : cg_L_best_40 E σ x0 x1 x2 x3 x4 P := by
  intro d hd p e s m args below meth c hcx H locs ls hW hS hl
  have hx := hcx.1
  have hb := hcx.2.1
  have hown := hcx.2.2.2.2.2.1
  have hts := hcx.2.2.2.2.2.2.1
  refine lv_iload (pc := 40) hx hb dX1_best_40 (lv_at hl 4 rfl) ?_
  refine lv_bipush (pc := 42) (v := (24 : Int32)) hx hb dX1_best_42 (by decide) ?_
  refine lv_icmp_ge (pc := 44) (tgt := 86) hx hb dX1_best_44 (by decide) (fun c1 => ?_) (fun c1 => ?_)
  · have h := h.1 c1
    refine lv_iload_n (pc := 86) hx hb dX1_best_86 rfl (lv_at hl 1 rfl) ?_
    refine lv_if_ne (pc := 87) (tgt := 94) hx hb dX1_best_87 (by decide) (fun c2 => ?_) (fun c2 => ?_)
    · have h := h.2 c2
      refine lv_iload_n (pc := 94) hx hb dX1_best_94 rfl (lv_at hl 3 rfl) ?_
      exact cj_reti (pc := 95) hcx hW hS rfl h (Nat.le_refl _) (Nat.le_refl _) dX1_best_95
    · have h := h.1 c2
      refine lv_iload_n (pc := 90) hx hb dX1_best_90 rfl (lv_at hl 2 rfl) ?_
      refine lv_goto (pc := 91) (tgt := 95) hx hb dX1_best_91 (by decide) ?_
      exact cj_reti (pc := 95) hcx hW hS rfl h (Nat.le_refl _) (Nat.le_refl _) dX1_best_95
  · have h := h.2 c1
    refine lv_aload_n (pc := 47) hx hb dX1_best_47 rfl (lv_at hl 0 rfl) ?_
    obtain ⟨g3, h⟩ := h
    refine cj_fld (pc := 48) hcx hW 0 g3 (by decide) rfl in_X1 13 (by decide) (by decide) q290 dX1_best_48 (v := va_rf (cj_R σ 113 x0)) rfl ?_
    refine lv_aload_n (pc := 51) hx hb dX1_best_51 rfl (lv_at hl 0 rfl) ?_
    refine cj_fld (pc := 52) hcx hW 0 g3 (by decide) rfl in_X1 9 (by decide) (by decide) q286 dX1_best_52 (v := va_rf (cj_R σ 109 x0)) rfl ?_
    refine lv_iload (pc := 55) hx hb dX1_best_55 (lv_at hl 4 rfl) ?_
    obtain ⟨a4, e5, h⟩ := h
    refine cj_stk (st' := [.int x4, va_rf (cj_R σ 109 x0), .ref a4]) (by rw [e5]; rfl) ?_
    obtain ⟨g8, h⟩ := h
    refine cj_xq (pc := 57) (cj_runV hcx hW hS 2 g8 (by decide) rfl [va_rf (cj_R σ 109 x0), .int x4] h (Nat.le_trans (by decide) hd) (lw_V q846 q847 q848 q124 q849) rfl yd_Jn_of (by decide) rfl rfl (Nat.le_of_ble_eq_true rfl) hl.1 (Nat.le_refl _) (Nat.le_refl _) dX1_best_57) hS (fun r6 σ7 h H locs hW hS => ?_)
    obtain ⟨a9, e10, h⟩ := h
    refine cj_stk (st' := [.ref a9]) (by rw [e10]; rfl) ?_
    obtain ⟨g11, h⟩ := h
    refine cj_fldN (pc := 60) hcx hW 2 g11 (by decide) rfl in_X3 9 (by decide) (by decide) (List.mem_of_getElem? (i := 8) rfl) dX1_best_60 (v := .int (cj_F σ7 309 a9)) rfl ?_
    refine lv_istore (pc := 63) (lv' := [(5, .int (cj_F σ7 309 a9)), (0, .ref x0), (1, .int x1), (2, .int x2), (3, .int x3), (4, .int x4)]) hx hb dX1_best_63 hl (by decide) rfl (fun ls hl => ?_)
    refine lv_iload (pc := 65) hx hb dX1_best_65 (lv_at hl 0 rfl) ?_
    refine lv_iload_n (pc := 67) hx hb dX1_best_67 rfl (lv_at hl 4 rfl) ?_
    refine lv_icmp_lt (pc := 68) (tgt := 74) hx hb dX1_best_68 (by decide) (fun c12 => ?_) (fun c12 => ?_)
    · have h := h.1 c12
      refine lv_iload (pc := 74) hx hb dX1_best_74 (lv_at hl 5 rfl) ?_
      refine lv_istore_n (pc := 76) (lv' := [(2, .int x4), (5, .int (cj_F σ7 309 a9)), (0, .ref x0), (1, .int x1), (3, .int x3), (4, .int x4)]) hx hb dX1_best_76 rfl hl (by decide) rfl (fun ls hl => ?_)
      refine lv_iload (pc := 77) hx hb dX1_best_77 (lv_at hl 1 rfl) ?_
      refine lv_istore_n (pc := 79) (lv' := [(3, .int (cj_F σ7 309 a9)), (2, .int x4), (5, .int (cj_F σ7 309 a9)), (0, .ref x0), (1, .int x1), (4, .int x4)]) hx hb dX1_best_79 rfl hl (by decide) rfl (fun ls hl => ?_)
      refine lv_iinc (pc := 80) (v := (x4 + (1 : Int32))) (lv' := [(4, .int (x4 + (1 : Int32))), (3, .int (cj_F σ7 309 a9)), (2, .int x4), (5, .int (cj_F σ7 309 a9)), (0, .ref x0), (1, .int x1)]) hx hb dX1_best_80 hl (k := 5) rfl rfl (by decide) rfl (fun ls hl => ?_)
      refine lv_goto (pc := 83) (tgt := 40) hx hb dX1_best_83 (by decide) ?_
      exact h d hd p e s m args below meth c hcx H locs _ hW hS (lv_sub hl [4, 5, 2, 1, 0] rfl)
    · have h := h.2 c12
      refine lv_goto (pc := 71) (tgt := 80) hx hb dX1_best_71 (by decide) ?_
      refine lv_iinc (pc := 80) (v := (x4 + (1 : Int32))) (lv' := [(4, .int (x4 + (1 : Int32))), (5, .int (cj_F σ7 309 a9)), (0, .ref x0), (1, .int x1), (2, .int x2), (3, .int x3)]) hx hb dX1_best_80 hl (k := 5) rfl rfl (by decide) rfl (fun ls hl => ?_)
      refine lv_goto (pc := 83) (tgt := 40) hx hb dX1_best_83 (by decide) ?_
      exact h d hd p e s m args below meth c hcx H locs _ hW hS (lv_sub hl [2, 3, 4, 5, 0] rfl)
set_option maxHeartbeats 4000000 in
set_option maxRecDepth 100000 in
theorem cb_L_best {E : cj_E} {σ : cj_S} {x0 : Nat} {x1 : Int32} {P : Int32 → cj_S → Prop} (h : (cj_T σ x0 = 1 ∧ (((cj_F σ 107 x0) = 0 → P (-1 : Int32) σ) ∧ (¬ (cj_F σ 107 x0) = 0 → cs_L_isIn E σ (x1).toInt64 (0 : Int64) (1 : Int64) (fun r3 σ4 => ((r3 = 0 → P (-1 : Int32) σ4) ∧ (¬ r3 = 0 → (cj_T σ4 x0 = 1 ∧ (∃ a7, (cj_R σ4 113 x0) = some a7 ∧ (cj_T σ4 a7 = 3 ∧ cs_Jn_of E σ4 a7 (cj_R σ4 109 x0) (0 : Int32) (fun r9 σ10 => (∃ a12, r9 = some a12 ∧ (cj_T σ10 a12 = 3 ∧ cg_L_best_40 E σ10 x0 x1 (0 : Int32) (cj_F σ10 309 a12) (1 : Int32) P))))))))))))) : cs_L_best E σ x0 x1 P :=
  cj_enter (k := 22) (lv := [(0, .ref x0), (1, .int x1)]) (by decide) (Nat.le_of_ble_eq_true rfl) rfl (by
    intro d hd p e s m args below meth c hcx H locs ls hW hS hl
    have hx := hcx.1
    have hb := hcx.2.1
    have hown := hcx.2.2.2.2.2.1
    have hts := hcx.2.2.2.2.2.2.1
    refine lv_aload_n (pc := 0) hx hb dX1_best_0 rfl (lv_at hl 0 rfl) ?_
    obtain ⟨g1, h⟩ := h
    refine cj_fld (pc := 1) hcx hW 0 g1 (by decide) rfl in_X1 7 (by decide) (by decide) q284 dX1_best_1 (v := .int (cj_F σ 107 x0)) rfl ?_
    refine lv_if_eq (pc := 4) (tgt := 17) hx hb dX1_best_4 (by decide) (fun c2 => ?_) (fun c2 => ?_)
    · have h := h.1 c2
      refine lv_iconst (pc := 17) (v := (-1 : Int32)) hx hb dX1_best_17 (by decide) ?_
      exact cj_reti (pc := 18) hcx hW hS rfl h (Nat.le_refl _) (Nat.le_refl _) dX1_best_18
    · have h := h.2 c2
      refine lv_iload_n (pc := 7) hx hb dX1_best_7 rfl (lv_at hl 1 rfl) ?_
      refine lv_i2l (pc := 8) hx hb dX1_best_8 rfl ?_
      refine lv_lconst (pc := 9) (v := (0 : Int64)) hx hb dX1_best_9 (by decide) ?_
      refine lv_lconst (pc := 10) (v := (1 : Int64)) hx hb dX1_best_10 (by decide) ?_
      refine cj_xi (pc := 11) (cj_runS hcx hW hS [.long (x1).toInt64, .long (0 : Int64), .long (1 : Int64)] h (Nat.le_trans (by decide) hd) (lw_S q349 q350 q122 q351) yd_L_isIn (by decide) rfl rfl (Nat.le_of_ble_eq_true rfl) hl.1 (Nat.le_refl _) (Nat.le_refl _) dX1_best_11) hS (fun r3 σ4 h H locs hW hS => ?_)
      refine lv_if_ne (pc := 14) (tgt := 19) hx hb dX1_best_14 (by decide) (fun c5 => ?_) (fun c5 => ?_)
      · have h := h.2 c5
        refine lv_iconst (pc := 19) (v := (0 : Int32)) hx hb dX1_best_19 (by decide) ?_
        refine lv_istore_n (pc := 20) (lv' := [(2, .int (0 : Int32)), (0, .ref x0), (1, .int x1)]) hx hb dX1_best_20 rfl hl (by decide) rfl (fun ls hl => ?_)
        refine lv_aload_n (pc := 21) hx hb dX1_best_21 rfl (lv_at hl 1 rfl) ?_
        obtain ⟨g6, h⟩ := h
        refine cj_fld (pc := 22) hcx hW 0 g6 (by decide) rfl in_X1 13 (by decide) (by decide) q290 dX1_best_22 (v := va_rf (cj_R σ4 113 x0)) rfl ?_
        refine lv_aload_n (pc := 25) hx hb dX1_best_25 rfl (lv_at hl 1 rfl) ?_
        refine cj_fld (pc := 26) hcx hW 0 g6 (by decide) rfl in_X1 9 (by decide) (by decide) q286 dX1_best_26 (v := va_rf (cj_R σ4 109 x0)) rfl ?_
        refine lv_iconst (pc := 29) (v := (0 : Int32)) hx hb dX1_best_29 (by decide) ?_
        obtain ⟨a7, e8, h⟩ := h
        refine cj_stk (st' := [.int (0 : Int32), va_rf (cj_R σ4 109 x0), .ref a7]) (by rw [e8]; rfl) ?_
        obtain ⟨g11, h⟩ := h
        refine cj_xq (pc := 30) (cj_runV hcx hW hS 2 g11 (by decide) rfl [va_rf (cj_R σ4 109 x0), .int (0 : Int32)] h (Nat.le_trans (by decide) hd) (lw_V q846 q847 q848 q124 q849) rfl yd_Jn_of (by decide) rfl rfl (Nat.le_of_ble_eq_true rfl) hl.1 (Nat.le_refl _) (Nat.le_refl _) dX1_best_30) hS (fun r9 σ10 h H locs hW hS => ?_)
        obtain ⟨a12, e13, h⟩ := h
        refine cj_stk (st' := [.ref a12]) (by rw [e13]; rfl) ?_
        obtain ⟨g14, h⟩ := h
        refine cj_fldN (pc := 33) hcx hW 2 g14 (by decide) rfl in_X3 9 (by decide) (by decide) (List.mem_of_getElem? (i := 8) rfl) dX1_best_33 (v := .int (cj_F σ10 309 a12)) rfl ?_
        refine lv_istore_n (pc := 36) (lv' := [(3, .int (cj_F σ10 309 a12)), (2, .int (0 : Int32)), (0, .ref x0), (1, .int x1)]) hx hb dX1_best_36 rfl hl (by decide) rfl (fun ls hl => ?_)
        refine lv_iconst (pc := 37) (v := (1 : Int32)) hx hb dX1_best_37 (by decide) ?_
        refine lv_istore (pc := 38) (lv' := [(4, .int (1 : Int32)), (3, .int (cj_F σ10 309 a12)), (2, .int (0 : Int32)), (0, .ref x0), (1, .int x1)]) hx hb dX1_best_38 hl (by decide) rfl (fun ls hl => ?_)
        exact h d hd p e s m args below meth c hcx H locs _ hW hS (lv_sub hl [3, 4, 2, 1, 0] rfl)
      · have h := h.1 c5
        refine lv_iconst (pc := 17) (v := (-1 : Int32)) hx hb dX1_best_17 (by decide) ?_
        exact cj_reti (pc := 18) hcx hW hS rfl h (Nat.le_refl _) (Nat.le_refl _) dX1_best_18)
/-! L_joined_2 -/
set_option maxHeartbeats 4000000 in
set_option maxRecDepth 100000 in
theorem cb_L_joined_2 {E : cj_E} {σ : cj_S} {x0 : Nat} {x1 : Option Nat} {P : Option Nat → cj_S → Prop} (h : (cj_T σ x0 = 1 ∧ (∃ a2, x1 = some a2 ∧ (cj_T σ a2 = 2 ∧ (∃ a5, (cj_R σ 113 x0) = some a5 ∧ (cj_T σ a5 = 3 ∧ cs_Jn_of E σ a5 (some a2) (cj_F σ 203 a2) (fun r7 σ8 => P r7 σ8))))))) : cs_L_joined_2 E σ x0 x1 P :=
  cj_enter (k := 22) (lv := [(0, .ref x0), (1, va_rf x1)]) (by decide) (by cases x1 <;> exact Nat.le_of_ble_eq_true rfl) (by cases x1 <;> rfl) (by
    intro d hd p e s m args below meth c hcx H locs ls hW hS hl
    have hx := hcx.1
    have hb := hcx.2.1
    have hown := hcx.2.2.2.2.2.1
    have hts := hcx.2.2.2.2.2.2.1
    refine lv_aload_n (pc := 0) hx hb dX1_joined_2_0 rfl (lv_at hl 0 rfl) ?_
    obtain ⟨g1, h⟩ := h
    refine cj_fld (pc := 1) hcx hW 0 g1 (by decide) rfl in_X1 13 (by decide) (by decide) q290 dX1_joined_2_1 (v := va_rf (cj_R σ 113 x0)) rfl ?_
    refine cj_aload_n (pc := 4) hx hb dX1_joined_2_4 rfl (lv_at hl 1 rfl) ?_
    refine cj_aload_n (pc := 5) hx hb dX1_joined_2_5 rfl (lv_at hl 1 rfl) ?_
    obtain ⟨a2, e3, h⟩ := h
    refine cj_stk (st' := [.ref a2, .ref a2, va_rf (cj_R σ 113 x0)]) (by rw [e3]; rfl) ?_
    obtain ⟨g4, h⟩ := h
    refine cj_fldN (pc := 6) hcx hW 1 g4 (by decide) rfl in_X2 3 (by decide) (by decide) (List.mem_of_getElem? (i := 3) rfl) dX1_joined_2_6 (v := .int (cj_F σ 203 a2)) rfl ?_
    obtain ⟨a5, e6, h⟩ := h
    refine cj_stk (st' := [.int (cj_F σ 203 a2), .ref a2, .ref a5]) (by rw [e6]; rfl) ?_
    obtain ⟨g9, h⟩ := h
    refine cj_xq (pc := 9) (cj_runV hcx hW hS 2 g9 (by decide) rfl [va_rf (some a2), .int (cj_F σ 203 a2)] h (Nat.le_trans (by decide) hd) (lw_V q846 q847 q848 q124 q849) rfl yd_Jn_of (by decide) rfl rfl (Nat.le_of_ble_eq_true rfl) hl.1 (Nat.le_refl _) (Nat.le_refl _) dX1_joined_2_9) hS (fun r7 σ8 h H locs hW hS => ?_)
    exact cj_retq (pc := 12) (r := r7) hcx hW hS (Or.inl ⟨_, rfl⟩) h (Nat.le_refl _) (Nat.le_refl _) dX1_joined_2_12)
/-! L_mostLeaps -/
set_option maxHeartbeats 4000000 in
set_option maxRecDepth 100000 in
theorem cb_L_mostLeaps_4 {E : cj_E} {σ : cj_S} {x0 : Nat} {x1 : Int32} {x2 : Int32} {P : Int32 → cj_S → Prop} (h : (((24 : Int32) ≤ x2 → P x1 σ) ∧ (¬ (24 : Int32) ≤ x2 → (cj_T σ x0 = 1 ∧ (∃ a3, (cj_R σ 113 x0) = some a3 ∧ (cj_T σ a3 = 3 ∧ cs_Jn_of E σ a3 (cj_R σ 109 x0) x2 (fun r5 σ6 => (∃ a8, r5 = some a8 ∧ (cj_T σ6 a8 = 3 ∧ cg_L_mostLeaps_4 E σ6 x0 (if x1 < (cj_F σ6 309 a8) then (cj_F σ6 309 a8) else x1) (x2 + (1 : Int32)) P))))))))) : cg_L_mostLeaps_4 E σ x0 x1 x2 P := by
  intro d hd p e s m args below meth c hcx H locs ls hW hS hl
  have hx := hcx.1
  have hb := hcx.2.1
  have hown := hcx.2.2.2.2.2.1
  have hts := hcx.2.2.2.2.2.2.1
  refine lv_iload_n (pc := 4) hx hb dX1_mostLeaps_4 rfl (lv_at hl 2 rfl) ?_
  refine lv_bipush (pc := 5) (v := (24 : Int32)) hx hb dX1_mostLeaps_5 (by decide) ?_
  refine lv_icmp_ge (pc := 7) (tgt := 36) hx hb dX1_mostLeaps_7 (by decide) (fun c1 => ?_) (fun c1 => ?_)
  · have h := h.1 c1
    refine lv_iload_n (pc := 36) hx hb dX1_mostLeaps_36 rfl (lv_at hl 1 rfl) ?_
    exact cj_reti (pc := 37) hcx hW hS rfl h (Nat.le_refl _) (Nat.le_refl _) dX1_mostLeaps_37
  · have h := h.2 c1
    refine lv_iload_n (pc := 10) hx hb dX1_mostLeaps_10 rfl (lv_at hl 1 rfl) ?_
    refine lv_aload_n (pc := 11) hx hb dX1_mostLeaps_11 rfl (lv_at hl 0 rfl) ?_
    obtain ⟨g2, h⟩ := h
    refine cj_fld (pc := 12) hcx hW 0 g2 (by decide) rfl in_X1 13 (by decide) (by decide) q290 dX1_mostLeaps_12 (v := va_rf (cj_R σ 113 x0)) rfl ?_
    refine lv_aload_n (pc := 15) hx hb dX1_mostLeaps_15 rfl (lv_at hl 0 rfl) ?_
    refine cj_fld (pc := 16) hcx hW 0 g2 (by decide) rfl in_X1 9 (by decide) (by decide) q286 dX1_mostLeaps_16 (v := va_rf (cj_R σ 109 x0)) rfl ?_
    refine lv_iload_n (pc := 19) hx hb dX1_mostLeaps_19 rfl (lv_at hl 2 rfl) ?_
    obtain ⟨a3, e4, h⟩ := h
    refine cj_stk (st' := [.int x2, va_rf (cj_R σ 109 x0), .ref a3, .int x1]) (by rw [e4]; rfl) ?_
    obtain ⟨g7, h⟩ := h
    refine cj_xq (pc := 20) (cj_runV hcx hW hS 2 g7 (by decide) rfl [va_rf (cj_R σ 109 x0), .int x2] h (Nat.le_trans (by decide) hd) (lw_V q846 q847 q848 q124 q849) rfl yd_Jn_of (by decide) rfl rfl (Nat.le_of_ble_eq_true rfl) hl.1 (Nat.le_refl _) (Nat.le_refl _) dX1_mostLeaps_20) hS (fun r5 σ6 h H locs hW hS => ?_)
    obtain ⟨a8, e9, h⟩ := h
    refine cj_stk (st' := [.ref a8, .int x1]) (by rw [e9]; rfl) ?_
    obtain ⟨g10, h⟩ := h
    refine cj_fldN (pc := 23) hcx hW 2 g10 (by decide) rfl in_X3 9 (by decide) (by decide) (List.mem_of_getElem? (i := 8) rfl) dX1_mostLeaps_23 (v := .int (cj_F σ6 309 a8)) rfl ?_
    refine cj_mmax (pc := 26) hcx hl.1 q1205 (Nat.le_add_left 1 _) (cj_lr (Nat.le_of_ble_eq_true rfl)) (Nat.le_refl _) (Nat.le_refl _) dX1_mostLeaps_26 ?_
    refine lv_istore_n (pc := 29) (lv' := [(1, .int (if x1 < (cj_F σ6 309 a8) then (cj_F σ6 309 a8) else x1)), (0, .ref x0), (2, .int x2)]) hx hb dX1_mostLeaps_29 rfl hl (by decide) rfl (fun ls hl => ?_)
    refine lv_iinc (pc := 30) (v := (x2 + (1 : Int32))) (lv' := [(2, .int (x2 + (1 : Int32))), (1, .int (if x1 < (cj_F σ6 309 a8) then (cj_F σ6 309 a8) else x1)), (0, .ref x0)]) hx hb dX1_mostLeaps_30 hl (k := 2) rfl rfl (by decide) rfl (fun ls hl => ?_)
    refine lv_goto (pc := 33) (tgt := 4) hx hb dX1_mostLeaps_33 (by decide) ?_
    exact h d hd p e s m args below meth c hcx H locs _ hW hS (lv_sub hl [2, 1, 0] rfl)
set_option maxHeartbeats 4000000 in
set_option maxRecDepth 100000 in
theorem cb_L_mostLeaps {E : cj_E} {σ : cj_S} {x0 : Nat} {P : Int32 → cj_S → Prop} (h : cg_L_mostLeaps_4 E σ x0 (0 : Int32) (0 : Int32) P) : cs_L_mostLeaps E σ x0 P :=
  cj_enter (k := 22) (lv := [(0, .ref x0)]) (by decide) (Nat.le_of_ble_eq_true rfl) rfl (by
    intro d hd p e s m args below meth c hcx H locs ls hW hS hl
    have hx := hcx.1
    have hb := hcx.2.1
    have hown := hcx.2.2.2.2.2.1
    have hts := hcx.2.2.2.2.2.2.1
    refine lv_iconst (pc := 0) (v := (0 : Int32)) hx hb dX1_mostLeaps_0 (by decide) ?_
    refine lv_istore_n (pc := 1) (lv' := [(1, .int (0 : Int32)), (0, .ref x0)]) hx hb dX1_mostLeaps_1 rfl hl (by decide) rfl (fun ls hl => ?_)
    refine lv_iconst (pc := 2) (v := (0 : Int32)) hx hb dX1_mostLeaps_2 (by decide) ?_
    refine lv_istore_n (pc := 3) (lv' := [(2, .int (0 : Int32)), (1, .int (0 : Int32)), (0, .ref x0)]) hx hb dX1_mostLeaps_3 rfl hl (by decide) rfl (fun ls hl => ?_)
    exact h d hd p e s m args below meth c hcx H locs _ hW hS (lv_sub hl [2, 1, 0] rfl))
/-! L_joined -/
set_option maxHeartbeats 4000000 in
set_option maxRecDepth 100000 in
theorem cb_L_joined {E : cj_E} {σ : cj_S} {x0 : Nat} {P : Option Nat → cj_S → Prop} (h : (cj_T σ x0 = 1 ∧ cs_L_joined_2 E σ x0 (cj_R σ 109 x0) (fun r2 σ3 => P r2 σ3))) : cs_L_joined E σ x0 P :=
  cj_enter (k := 23) (lv := [(0, .ref x0)]) (by decide) (Nat.le_of_ble_eq_true rfl) rfl (by
    intro d hd p e s m args below meth c hcx H locs ls hW hS hl
    have hx := hcx.1
    have hb := hcx.2.1
    have hown := hcx.2.2.2.2.2.1
    have hts := hcx.2.2.2.2.2.2.1
    refine lv_aload_n (pc := 0) hx hb dX1_joined_0 rfl (lv_at hl 0 rfl) ?_
    refine lv_aload_n (pc := 1) hx hb dX1_joined_1 rfl (lv_at hl 0 rfl) ?_
    obtain ⟨g1, h⟩ := h
    refine cj_fld (pc := 2) hcx hW 0 g1 (by decide) rfl in_X1 9 (by decide) (by decide) q286 dX1_joined_2 (v := va_rf (cj_R σ 109 x0)) rfl ?_
    refine cj_xq (pc := 5) (cj_runV hcx hW hS 0 g1 (by decide) rfl [va_rf (cj_R σ 109 x0)] h (Nat.le_trans (by decide) hd) (lw_V q842 q844 qs18 q122 q845) rfl yd_L_joined_2 (by decide) rfl rfl (Nat.le_of_ble_eq_true rfl) hl.1 (Nat.le_refl _) (Nat.le_refl _) dX1_joined_5) hS (fun r2 σ3 h H locs hW hS => ?_)
    exact cj_retq (pc := 8) (r := r2) hcx hW hS (Or.inl ⟨_, rfl⟩) h (Nat.le_refl _) (Nat.le_refl _) dX1_joined_8)
/-! L_run -/
set_option maxHeartbeats 4000000 in
set_option maxRecDepth 100000 in
theorem cb_L_run_49 {E : cj_E} {σ : cj_S} {x0 : Nat} {x2 : Int32} {x3 : Option Nat} {x4 : Int32} {cu : Nat} {su : Nat} {P : Int32 → cj_S → Prop} (h : (∃ a1, x3 = some a1 ∧ (cj_T σ a1 = 10 ∧ (((cj_F σ 1002 a1) ≤ x4 → cg_L_run_110 E σ x0 x2 x3 x4 cu su P) ∧ (¬ (cj_F σ 1002 a1) ≤ x4 → (cj_T σ x0 = 1 ∧ (∃ a6, (cj_R σ 1000 a1) = some a6 ∧ (cj_T σ a6 = 21 ∧ (vp_in x4 (cj_N σ a6) ∧ (cu ≤ 200 ∧ (su ≤ 3000 ∧ cs_Sc_number E σ a1 x4 (0 : Int32) (fun r12 σ13 => ((cu + 0) ≤ 200 ∧ ((su + 0) ≤ 3000 ∧ (cj_T σ13 a1 = 10 ∧ cs_Sc_number E σ13 a1 x4 (1 : Int32) (fun r16 σ17 => (((cu + 0) + 0) ≤ 200 ∧ (((su + 0) + 0) ≤ 3000 ∧ (cj_T σ17 a1 = 10 ∧ cs_Sc_number E σ17 a1 x4 (2 : Int32) (fun r21 σ22 => ((((cu + 0) + 0) + 0) ≤ 200 ∧ ((((su + 0) + 0) + 0) ≤ 3000 ∧ (cj_T σ22 a1 = 10 ∧ cs_Sc_number E σ22 a1 x4 (3 : Int32) (fun r26 σ27 => (∃ a29, (cj_R σ 111 x0) = some a29 ∧ (((((cu + 0) + 0) + 0) + 0) + 8 ≤ 200 ∧ (((((su + 0) + 0) + 0) + 0) + 72 ≤ 3000 ∧ (cj_T σ27 a29 = 2 ∧ cs_St_deed E σ27 a29 (cj_A σ a6 x4.toNatClampNeg) r12 r16 r21 r26 (fun r33 σ34 => ((r33 = (-1 : Int32) → cg_L_run_49 E σ34 x0 x2 x3 (x4 + (1 : Int32)) (((((cu + 0) + 0) + 0) + 0) + 8) (((((su + 0) + 0) + 0) + 0) + 72) P) ∧ (¬ r33 = (-1 : Int32) → cg_L_run_110 E σ34 x0 x2 x3 x4 (((((cu + 0) + 0) + 0) + 0) + 8) (((((su + 0) + 0) + 0) + 0) + 72) P))))))))))))))))))))))))))))))) : cg_L_run_49 E σ x0 x2 x3 x4 cu su P := by
  intro d hd p e s m args below meth c hcx H locs ls hW hS hl
  have hx := hcx.1
  have hb := hcx.2.1
  have hown := hcx.2.2.2.2.2.1
  have hts := hcx.2.2.2.2.2.2.1
  refine lv_iload (pc := 49) hx hb dX1_run_49 (lv_at hl 3 rfl) ?_
  refine cj_aload_n (pc := 51) hx hb dX1_run_51 rfl (lv_at hl 2 rfl) ?_
  obtain ⟨a1, e2, h⟩ := h
  refine cj_stk (st' := [.ref a1, .int x4]) (by rw [e2]; rfl) ?_
  obtain ⟨g3, h⟩ := h
  refine cj_fldN (pc := 52) hcx hW 9 g3 (by decide) rfl in_X12 2 (by decide) (by decide) (List.mem_of_getElem? (i := 15) rfl) dX1_run_52 (v := .int (cj_F σ 1002 a1)) rfl ?_
  refine lv_icmp_ge (pc := 55) (tgt := 110) hx hb dX1_run_55 (by decide) (fun c4 => ?_) (fun c4 => ?_)
  · have h := h.1 c4
    exact h d hd p e s m args below meth c hcx H locs _ hW hS (lv_sub hl [0, 1, 2, 3] rfl)
  · have h := h.2 c4
    refine lv_aload_n (pc := 58) hx hb dX1_run_58 rfl (lv_at hl 0 rfl) ?_
    obtain ⟨g5, h⟩ := h
    refine cj_fld (pc := 59) hcx hW 0 g5 (by decide) rfl in_X1 11 (by decide) (by decide) q288 dX1_run_59 (v := va_rf (cj_R σ 111 x0)) rfl ?_
    refine cj_aload_n (pc := 62) hx hb dX1_run_62 rfl (lv_at hl 2 rfl) ?_
    refine cj_stk (st' := [.ref a1, va_rf (cj_R σ 111 x0)]) (by rw [e2]; rfl) ?_
    refine cj_fldN (pc := 63) hcx hW 9 g3 (by decide) rfl in_X12 0 (by decide) (by decide) (List.mem_of_getElem? (i := 14) rfl) dX1_run_63 (v := va_rf (cj_R σ 1000 a1)) rfl ?_
    refine lv_iload (pc := 66) hx hb dX1_run_66 (lv_at hl 3 rfl) ?_
    obtain ⟨a6, e7, h⟩ := h
    refine cj_stk (st' := [.int x4, .ref a6, va_rf (cj_R σ 111 x0)]) (by rw [e7]; rfl) ?_
    obtain ⟨g8, h⟩ := h
    obtain ⟨g9, h⟩ := h
    refine cj_iald (pc := 68) hcx hW g8 g9 dX1_run_68 ?_
    refine cj_aload_n (pc := 69) hx hb dX1_run_69 rfl (lv_at hl 2 rfl) ?_
    refine lv_iload (pc := 70) hx hb dX1_run_70 (lv_at hl 3 rfl) ?_
    refine lv_iconst (pc := 72) (v := (0 : Int32)) hx hb dX1_run_72 (by decide) ?_
    refine cj_stk (st' := [.int (0 : Int32), .int x4, .ref a1, .int (cj_A σ a6 x4.toNatClampNeg), va_rf (cj_R σ 111 x0)]) (by rw [e2]; rfl) ?_
    obtain ⟨g10, h⟩ := h
    obtain ⟨g11, h⟩ := h
    refine cj_xi (pc := 73) (cj_runV hcx hW hS 9 g3 (by decide) rfl [.int x4, .int (0 : Int32)] h (Nat.le_trans (by decide) hd) (lw_V q1162 q1163 q1164 q136 q1165) rfl yd_Sc_number (by decide) rfl rfl (by generalize (cj_R σ 111 x0) = z0; cases z0 <;> exact Nat.le_of_ble_eq_true rfl) hl.1 g10 g11 dX1_run_73) hS (fun r12 σ13 h H locs hW hS => ?_)
    refine cj_aload_n (pc := 76) hx hb dX1_run_76 rfl (lv_at hl 2 rfl) ?_
    refine lv_iload (pc := 77) hx hb dX1_run_77 (lv_at hl 3 rfl) ?_
    refine lv_iconst (pc := 79) (v := (1 : Int32)) hx hb dX1_run_79 (by decide) ?_
    refine cj_stk (st' := [.int (1 : Int32), .int x4, .ref a1, .int r12, .int (cj_A σ a6 x4.toNatClampNeg), va_rf (cj_R σ 111 x0)]) (by rw [e2]; rfl) ?_
    obtain ⟨g14, h⟩ := h
    obtain ⟨g15, h⟩ := h
    obtain ⟨g18, h⟩ := h
    refine cj_xi (pc := 80) (cj_runV hcx hW hS 9 g18 (by decide) rfl [.int x4, .int (1 : Int32)] h (Nat.le_trans (by decide) hd) (lw_V q1162 q1163 q1164 q136 q1165) rfl yd_Sc_number (by decide) rfl rfl (by generalize (cj_R σ 111 x0) = z0; cases z0 <;> exact Nat.le_of_ble_eq_true rfl) hl.1 g14 g15 dX1_run_80) hS (fun r16 σ17 h H locs hW hS => ?_)
    refine cj_aload_n (pc := 83) hx hb dX1_run_83 rfl (lv_at hl 2 rfl) ?_
    refine lv_iload (pc := 84) hx hb dX1_run_84 (lv_at hl 3 rfl) ?_
    refine lv_iconst (pc := 86) (v := (2 : Int32)) hx hb dX1_run_86 (by decide) ?_
    refine cj_stk (st' := [.int (2 : Int32), .int x4, .ref a1, .int r16, .int r12, .int (cj_A σ a6 x4.toNatClampNeg), va_rf (cj_R σ 111 x0)]) (by rw [e2]; rfl) ?_
    obtain ⟨g19, h⟩ := h
    obtain ⟨g20, h⟩ := h
    obtain ⟨g23, h⟩ := h
    refine cj_xi (pc := 87) (cj_runV hcx hW hS 9 g23 (by decide) rfl [.int x4, .int (2 : Int32)] h (Nat.le_trans (by decide) hd) (lw_V q1162 q1163 q1164 q136 q1165) rfl yd_Sc_number (by decide) rfl rfl (by generalize (cj_R σ 111 x0) = z0; cases z0 <;> exact Nat.le_of_ble_eq_true rfl) hl.1 g19 g20 dX1_run_87) hS (fun r21 σ22 h H locs hW hS => ?_)
    refine cj_aload_n (pc := 90) hx hb dX1_run_90 rfl (lv_at hl 2 rfl) ?_
    refine lv_iload (pc := 91) hx hb dX1_run_91 (lv_at hl 3 rfl) ?_
    refine lv_iconst (pc := 93) (v := (3 : Int32)) hx hb dX1_run_93 (by decide) ?_
    refine cj_stk (st' := [.int (3 : Int32), .int x4, .ref a1, .int r21, .int r16, .int r12, .int (cj_A σ a6 x4.toNatClampNeg), va_rf (cj_R σ 111 x0)]) (by rw [e2]; rfl) ?_
    obtain ⟨g24, h⟩ := h
    obtain ⟨g25, h⟩ := h
    obtain ⟨g28, h⟩ := h
    refine cj_xi (pc := 94) (cj_runV hcx hW hS 9 g28 (by decide) rfl [.int x4, .int (3 : Int32)] h (Nat.le_trans (by decide) hd) (lw_V q1162 q1163 q1164 q136 q1165) rfl yd_Sc_number (by decide) rfl rfl (by generalize (cj_R σ 111 x0) = z0; cases z0 <;> exact Nat.le_of_ble_eq_true rfl) hl.1 g24 g25 dX1_run_94) hS (fun r26 σ27 h H locs hW hS => ?_)
    obtain ⟨a29, e30, h⟩ := h
    refine cj_stk (st' := [.int r26, .int r21, .int r16, .int r12, .int (cj_A σ a6 x4.toNatClampNeg), .ref a29]) (by rw [e30]; rfl) ?_
    obtain ⟨g31, h⟩ := h
    obtain ⟨g32, h⟩ := h
    obtain ⟨g35, h⟩ := h
    refine cj_xi (pc := 97) (cj_runV hcx hW hS 1 g35 (by decide) rfl [.int (cj_A σ a6 x4.toNatClampNeg), .int r12, .int r16, .int r21, .int r26] h (Nat.le_trans (by decide) hd) (lw_V q758 q759 q760 q123 q761) rfl yd_St_deed (by decide) rfl rfl (Nat.le_of_ble_eq_true rfl) hl.1 g31 g32 dX1_run_97) hS (fun r33 σ34 h H locs hW hS => ?_)
    refine lv_iconst (pc := 100) (v := (-1 : Int32)) hx hb dX1_run_100 (by decide) ?_
    refine lv_icmp_ne (pc := 101) (tgt := 110) hx hb dX1_run_101 (by decide) (fun c36 => ?_) (fun c36 => ?_)
    · have h := h.2 c36
      exact h d hd p e s m args below meth c hcx H locs _ hW hS (lv_sub hl [0, 1, 2, 3] rfl)
    · have h := h.1 c36
      refine lv_iinc (pc := 104) (v := (x4 + (1 : Int32))) (lv' := [(4, .int (x4 + (1 : Int32))), (0, .ref x0), (2, .int x2), (3, va_rf x3)]) hx hb dX1_run_104 hl (k := 3) rfl rfl (by decide) (by generalize x3 = z; cases z <;> rfl) (fun ls hl => ?_)
      refine lv_goto (pc := 107) (tgt := 49) hx hb dX1_run_107 (by decide) ?_
      exact h d hd p e s m args below meth c hcx H locs _ hW hS (lv_sub hl [1, 2, 3, 0] rfl)
set_option maxHeartbeats 4000000 in
set_option maxRecDepth 100000 in
theorem cb_L_run_110 {E : cj_E} {σ : cj_S} {x0 : Nat} {x2 : Int32} {x3 : Option Nat} {x4 : Int32} {cu : Nat} {su : Nat} {P : Int32 → cj_S → Prop} (h : ((x2 = (1 : Int32) → (cj_T σ x0 = 1 ∧ (cu ≤ 200 ∧ (su ≤ 3000 ∧ cs_L_joined_2 E σ x0 (cj_R σ 111 x0) (fun r13 σ14 => (∃ a15, r13 = some a15 ∧ (cj_T σ14 a15 = 3 ∧ ((cu + 0) ≤ 200 ∧ ((su + 0) ≤ 3000 ∧ P (cj_F σ14 308 a15) σ14))))))))) ∧ (¬ x2 = (1 : Int32) → (∃ a2, x3 = some a2 ∧ (cj_T σ a2 = 10 ∧ ((x4 = (cj_F σ 1002 a2) → (cu ≤ 200 ∧ (su ≤ 3000 ∧ P (-1 : Int32) σ))) ∧ (¬ x4 = (cj_F σ 1002 a2) → (cu ≤ 200 ∧ (su ≤ 3000 ∧ P x4 σ))))))))) : cg_L_run_110 E σ x0 x2 x3 x4 cu su P := by
  intro d hd p e s m args below meth c hcx H locs ls hW hS hl
  have hx := hcx.1
  have hb := hcx.2.1
  have hown := hcx.2.2.2.2.2.1
  have hts := hcx.2.2.2.2.2.2.1
  refine lv_iload_n (pc := 110) hx hb dX1_run_110 rfl (lv_at hl 1 rfl) ?_
  refine lv_iconst (pc := 111) (v := (1 : Int32)) hx hb dX1_run_111 (by decide) ?_
  refine lv_icmp_ne (pc := 112) (tgt := 129) hx hb dX1_run_112 (by decide) (fun c1 => ?_) (fun c1 => ?_)
  · have h := h.2 c1
    refine lv_iload (pc := 129) hx hb dX1_run_129 (lv_at hl 3 rfl) ?_
    refine cj_aload_n (pc := 131) hx hb dX1_run_131 rfl (lv_at hl 2 rfl) ?_
    obtain ⟨a2, e3, h⟩ := h
    refine cj_stk (st' := [.ref a2, .int x4]) (by rw [e3]; rfl) ?_
    obtain ⟨g4, h⟩ := h
    refine cj_fldN (pc := 132) hcx hW 9 g4 (by decide) rfl in_X12 2 (by decide) (by decide) (List.mem_of_getElem? (i := 15) rfl) dX1_run_132 (v := .int (cj_F σ 1002 a2)) rfl ?_
    refine lv_icmp_ne (pc := 135) (tgt := 142) hx hb dX1_run_135 (by decide) (fun c5 => ?_) (fun c5 => ?_)
    · have h := h.2 c5
      refine lv_iload (pc := 142) hx hb dX1_run_142 (lv_at hl 3 rfl) ?_
      obtain ⟨g6, h⟩ := h
      obtain ⟨g7, h⟩ := h
      exact cj_reti (pc := 144) hcx hW hS rfl h g6 g7 dX1_run_144
    · have h := h.1 c5
      refine lv_iconst (pc := 138) (v := (-1 : Int32)) hx hb dX1_run_138 (by decide) ?_
      refine lv_goto (pc := 139) (tgt := 144) hx hb dX1_run_139 (by decide) ?_
      obtain ⟨g8, h⟩ := h
      obtain ⟨g9, h⟩ := h
      exact cj_reti (pc := 144) hcx hW hS rfl h g8 g9 dX1_run_144
  · have h := h.1 c1
    refine lv_aload_n (pc := 115) hx hb dX1_run_115 rfl (lv_at hl 0 rfl) ?_
    refine lv_aload_n (pc := 116) hx hb dX1_run_116 rfl (lv_at hl 0 rfl) ?_
    obtain ⟨g10, h⟩ := h
    refine cj_fld (pc := 117) hcx hW 0 g10 (by decide) rfl in_X1 11 (by decide) (by decide) q288 dX1_run_117 (v := va_rf (cj_R σ 111 x0)) rfl ?_
    obtain ⟨g11, h⟩ := h
    obtain ⟨g12, h⟩ := h
    refine cj_xq (pc := 120) (cj_runV hcx hW hS 0 g10 (by decide) rfl [va_rf (cj_R σ 111 x0)] h (Nat.le_trans (by decide) hd) (lw_V q842 q844 qs18 q122 q845) rfl yd_L_joined_2 (by decide) rfl rfl (Nat.le_of_ble_eq_true rfl) hl.1 g11 g12 dX1_run_120) hS (fun r13 σ14 h H locs hW hS => ?_)
    obtain ⟨a15, e16, h⟩ := h
    refine cj_stk (st' := [.ref a15]) (by rw [e16]; rfl) ?_
    obtain ⟨g17, h⟩ := h
    refine cj_fldN (pc := 123) hcx hW 2 g17 (by decide) rfl in_X3 8 (by decide) (by decide) (List.mem_of_getElem? (i := 7) rfl) dX1_run_123 (v := .int (cj_F σ14 308 a15)) rfl ?_
    refine lv_goto (pc := 126) (tgt := 144) hx hb dX1_run_126 (by decide) ?_
    obtain ⟨g18, h⟩ := h
    obtain ⟨g19, h⟩ := h
    exact cj_reti (pc := 144) hcx hW hS rfl h g18 g19 dX1_run_144
set_option maxHeartbeats 4000000 in
set_option maxRecDepth 100000 in
theorem cb_L_run {E : cj_E} {σ : cj_S} {x0 : Nat} {x1 : Int32} {x2 : Int32} {P : Int32 → cj_S → Prop} (h : (cj_T σ x0 = 1 ∧ cs_L_isScript E σ x0 x1 (fun r1 σ2 => ((r1 = 0 → P (-1000000 : Int32) σ2) ∧ (¬ r1 = 0 → (cj_T σ2 x0 = 1 ∧ (((cj_F σ2 107 x0) = 0 → P (-1000000 : Int32) σ2) ∧ (¬ (cj_F σ2 107 x0) = 0 → cs_L_isIn E σ2 (x2).toInt64 (0 : Int64) (1 : Int64) (fun r7 σ8 => ((r7 = 0 → P (-1000000 : Int32) σ8) ∧ (¬ r7 = 0 → (cj_T σ8 x0 = 1 ∧ (∃ a11, (cj_R σ8 102 x0) = some a11 ∧ (cj_T σ8 a11 = 30 ∧ (vp_in x1 (cj_N σ8 a11) ∧ (∃ a15, (cj_R σ8 111 x0) = some a15 ∧ (cj_T σ8 a15 = 2 ∧ cs_St_sees E σ8 a15 (cj_R σ8 109 x0) (fun σ18 => cg_L_run_49 E σ18 x0 x2 (cj_B σ8 a11 x1.toNatClampNeg) (0 : Int32) 0 0 P)))))))))))))))))) : cs_L_run E σ x0 x1 x2 P :=
  cj_enter (k := 23) (lv := [(0, .ref x0), (1, .int x1), (2, .int x2)]) (by decide) (Nat.le_of_ble_eq_true rfl) rfl (by
    intro d hd p e s m args below meth c hcx H locs ls hW hS hl
    have hx := hcx.1
    have hb := hcx.2.1
    have hown := hcx.2.2.2.2.2.1
    have hts := hcx.2.2.2.2.2.2.1
    refine lv_aload_n (pc := 0) hx hb dX1_run_0 rfl (lv_at hl 0 rfl) ?_
    refine lv_iload_n (pc := 1) hx hb dX1_run_1 rfl (lv_at hl 1 rfl) ?_
    obtain ⟨g3, h⟩ := h
    refine cj_xi (pc := 2) (cj_runV hcx hW hS 0 g3 (by decide) rfl [.int x1] h (Nat.le_trans (by decide) hd) (lw_V q1157 q1159 qs39 q122 q1160) rfl yd_L_isScript (by decide) rfl rfl (Nat.le_of_ble_eq_true rfl) hl.1 (Nat.le_of_ble_eq_true rfl) (Nat.le_of_ble_eq_true rfl) dX1_run_2) hS (fun r1 σ2 h H locs hW hS => ?_)
    refine lv_if_eq (pc := 5) (tgt := 25) hx hb dX1_run_5 (by decide) (fun c4 => ?_) (fun c4 => ?_)
    · have h := h.1 c4
      refine lv_ldc (pc := 25) (v := (-1000000 : Int32)) hx hb hown (hts _ q946) dX1_run_25 ?_
      exact cj_reti (pc := 27) hcx hW hS rfl h (Nat.le_of_ble_eq_true rfl) (Nat.le_of_ble_eq_true rfl) dX1_run_27
    · have h := h.2 c4
      refine lv_aload_n (pc := 8) hx hb dX1_run_8 rfl (lv_at hl 0 rfl) ?_
      obtain ⟨g5, h⟩ := h
      refine cj_fld (pc := 9) hcx hW 0 g5 (by decide) rfl in_X1 7 (by decide) (by decide) q284 dX1_run_9 (v := .int (cj_F σ2 107 x0)) rfl ?_
      refine lv_if_eq (pc := 12) (tgt := 25) hx hb dX1_run_12 (by decide) (fun c6 => ?_) (fun c6 => ?_)
      · have h := h.1 c6
        refine lv_ldc (pc := 25) (v := (-1000000 : Int32)) hx hb hown (hts _ q946) dX1_run_25 ?_
        exact cj_reti (pc := 27) hcx hW hS rfl h (Nat.le_of_ble_eq_true rfl) (Nat.le_of_ble_eq_true rfl) dX1_run_27
      · have h := h.2 c6
        refine lv_iload_n (pc := 15) hx hb dX1_run_15 rfl (lv_at hl 2 rfl) ?_
        refine lv_i2l (pc := 16) hx hb dX1_run_16 rfl ?_
        refine lv_lconst (pc := 17) (v := (0 : Int64)) hx hb dX1_run_17 (by decide) ?_
        refine lv_lconst (pc := 18) (v := (1 : Int64)) hx hb dX1_run_18 (by decide) ?_
        refine cj_xi (pc := 19) (cj_runS hcx hW hS [.long (x2).toInt64, .long (0 : Int64), .long (1 : Int64)] h (Nat.le_trans (by decide) hd) (lw_S q349 q350 q122 q351) yd_L_isIn (by decide) rfl rfl (Nat.le_of_ble_eq_true rfl) hl.1 (Nat.le_of_ble_eq_true rfl) (Nat.le_of_ble_eq_true rfl) dX1_run_19) hS (fun r7 σ8 h H locs hW hS => ?_)
        refine lv_if_ne (pc := 22) (tgt := 28) hx hb dX1_run_22 (by decide) (fun c9 => ?_) (fun c9 => ?_)
        · have h := h.2 c9
          refine lv_aload_n (pc := 28) hx hb dX1_run_28 rfl (lv_at hl 0 rfl) ?_
          obtain ⟨g10, h⟩ := h
          refine cj_fld (pc := 29) hcx hW 0 g10 (by decide) rfl in_X1 2 (by decide) (by decide) q276 dX1_run_29 (v := va_rf (cj_R σ8 102 x0)) rfl ?_
          refine lv_iload_n (pc := 32) hx hb dX1_run_32 rfl (lv_at hl 1 rfl) ?_
          obtain ⟨a11, e12, h⟩ := h
          refine cj_stk (st' := [.int x1, .ref a11]) (by rw [e12]; rfl) ?_
          obtain ⟨g13, h⟩ := h
          obtain ⟨g14, h⟩ := h
          refine cj_aald (pc := 33) hcx hW g13 (by unfold cj_rt; decide) g14 dX1_run_33 ?_
          refine cj_astore_n (pc := 34) (lv' := [(3, va_rf (cj_B σ8 a11 x1.toNatClampNeg)), (0, .ref x0), (1, .int x1), (2, .int x2)]) hx hb dX1_run_34 rfl hl (by decide) rfl (fun ls hl => ?_)
          refine lv_aload_n (pc := 35) hx hb dX1_run_35 rfl (lv_at hl 1 rfl) ?_
          refine cj_fld (pc := 36) hcx hW 0 g10 (by decide) rfl in_X1 11 (by decide) (by decide) q288 dX1_run_36 (v := va_rf (cj_R σ8 111 x0)) rfl ?_
          refine lv_aload_n (pc := 39) hx hb dX1_run_39 rfl (lv_at hl 1 rfl) ?_
          refine cj_fld (pc := 40) hcx hW 0 g10 (by decide) rfl in_X1 9 (by decide) (by decide) q286 dX1_run_40 (v := va_rf (cj_R σ8 109 x0)) rfl ?_
          obtain ⟨a15, e16, h⟩ := h
          refine cj_stk (st' := [va_rf (cj_R σ8 109 x0), .ref a15]) (by rw [e16]; rfl) ?_
          obtain ⟨g19, h⟩ := h
          refine cj_xv (pc := 43) (cj_runV hcx hW hS 1 g19 (by decide) rfl [va_rf (cj_R σ8 109 x0)] h (Nat.le_trans (by decide) hd) (lw_V q1039 q754 q755 q123 q756) rfl yd_St_sees (by decide) rfl rfl (Nat.le_of_ble_eq_true rfl) hl.1 (Nat.le_of_ble_eq_true rfl) (Nat.le_of_ble_eq_true rfl) dX1_run_43) hS (fun σ18 h H locs hW hS => ?_)
          refine lv_iconst (pc := 46) (v := (0 : Int32)) hx hb dX1_run_46 (by decide) ?_
          refine lv_istore (pc := 47) (lv' := [(4, .int (0 : Int32)), (3, va_rf (cj_B σ8 a11 x1.toNatClampNeg)), (0, .ref x0), (1, .int x1), (2, .int x2)]) hx hb dX1_run_47 hl (by decide) (by generalize (cj_B σ8 a11 x1.toNatClampNeg) = z; cases z <;> rfl) (fun ls hl => ?_)
          exact h d hd p e s m args below meth c hcx H locs _ hW hS (lv_sub hl [2, 4, 1, 0] rfl)
        · have h := h.1 c9
          refine lv_ldc (pc := 25) (v := (-1000000 : Int32)) hx hb hown (hts _ q946) dX1_run_25 ?_
          exact cj_reti (pc := 27) hcx hW hS rfl h (Nat.le_of_ble_eq_true rfl) (Nat.le_of_ble_eq_true rfl) dX1_run_27)
/-! L_without -/
set_option maxHeartbeats 4000000 in
set_option maxRecDepth 100000 in
theorem cb_L_without {E : cj_E} {σ : cj_S} {x0 : Nat} {x1 : Int32} {P : Int32 → cj_S → Prop} (h : (cj_T σ x0 = 1 ∧ cs_L_isTable E σ x0 x1 (fun r1 σ2 => ((r1 = 0 → P (-1 : Int32) σ2) ∧ (¬ r1 = 0 → (cj_T σ2 x0 = 1 ∧ (∃ a6, (cj_R σ2 109 x0) = some a6 ∧ (cj_T σ2 a6 = 2 ∧ (((cj_F σ2 202 a6) = ((1 : Int32) <<< (x1 &&& 31)) → P (-1 : Int32) σ2) ∧ (¬ (cj_F σ2 202 a6) = ((1 : Int32) <<< (x1 &&& 31)) → (∃ a10, (cj_R σ2 111 x0) = some a10 ∧ (cj_T σ2 a10 = 2 ∧ cs_St_sees E σ2 a10 (cj_R σ2 109 x0) (fun σ13 => (cj_T σ13 x0 = 1 ∧ (∃ a16, (cj_R σ13 111 x0) = some a16 ∧ (cj_T σ13 a16 = 2 ∧ cs_L_joined_2 E (cj_sF σ13 202 a16 ((cj_F σ13 202 a16) &&& (((1 : Int32) <<< (x1 &&& 31)) ^^^ (-1 : Int32)))) x0 (cj_R σ13 111 x0) (fun r19 σ20 => (∃ a21, r19 = some a21 ∧ (cj_T σ20 a21 = 3 ∧ P (cj_F σ20 308 a21) σ20))))))))))))))))))) : cs_L_without E σ x0 x1 P :=
  cj_enter (k := 23) (lv := [(0, .ref x0), (1, .int x1)]) (by decide) (Nat.le_of_ble_eq_true rfl) rfl (by
    intro d hd p e s m args below meth c hcx H locs ls hW hS hl
    have hx := hcx.1
    have hb := hcx.2.1
    have hown := hcx.2.2.2.2.2.1
    have hts := hcx.2.2.2.2.2.2.1
    refine lv_aload_n (pc := 0) hx hb dX1_without_0 rfl (lv_at hl 0 rfl) ?_
    refine lv_iload_n (pc := 1) hx hb dX1_without_1 rfl (lv_at hl 1 rfl) ?_
    obtain ⟨g3, h⟩ := h
    refine cj_xi (pc := 2) (cj_runV hcx hW hS 0 g3 (by decide) rfl [.int x1] h (Nat.le_trans (by decide) hd) (lw_V q976 q978 qs32 q122 q979) rfl yd_L_isTable (by decide) rfl rfl (Nat.le_of_ble_eq_true rfl) hl.1 (Nat.le_refl _) (Nat.le_refl _) dX1_without_2) hS (fun r1 σ2 h H locs hW hS => ?_)
    refine lv_if_eq (pc := 5) (tgt := 21) hx hb dX1_without_5 (by decide) (fun c4 => ?_) (fun c4 => ?_)
    · have h := h.1 c4
      refine lv_iconst (pc := 21) (v := (-1 : Int32)) hx hb dX1_without_21 (by decide) ?_
      exact cj_reti (pc := 22) hcx hW hS rfl h (Nat.le_refl _) (Nat.le_refl _) dX1_without_22
    · have h := h.2 c4
      refine lv_aload_n (pc := 8) hx hb dX1_without_8 rfl (lv_at hl 0 rfl) ?_
      obtain ⟨g5, h⟩ := h
      refine cj_fld (pc := 9) hcx hW 0 g5 (by decide) rfl in_X1 9 (by decide) (by decide) q286 dX1_without_9 (v := va_rf (cj_R σ2 109 x0)) rfl ?_
      obtain ⟨a6, e7, h⟩ := h
      refine cj_stk (st' := [.ref a6]) (by rw [e7]; rfl) ?_
      obtain ⟨g8, h⟩ := h
      refine cj_fldN (pc := 12) hcx hW 1 g8 (by decide) rfl in_X2 2 (by decide) (by decide) (List.mem_of_getElem? (i := 2) rfl) dX1_without_12 (v := .int (cj_F σ2 202 a6)) rfl ?_
      refine lv_iconst (pc := 15) (v := (1 : Int32)) hx hb dX1_without_15 (by decide) ?_
      refine lv_iload_n (pc := 16) hx hb dX1_without_16 rfl (lv_at hl 1 rfl) ?_
      refine lv_ishl (pc := 17) hx hb dX1_without_17 ?_
      refine lv_icmp_ne (pc := 18) (tgt := 23) hx hb dX1_without_18 (by decide) (fun c9 => ?_) (fun c9 => ?_)
      · have h := h.2 c9
        refine lv_aload_n (pc := 23) hx hb dX1_without_23 rfl (lv_at hl 0 rfl) ?_
        refine cj_fld (pc := 24) hcx hW 0 g5 (by decide) rfl in_X1 11 (by decide) (by decide) q288 dX1_without_24 (v := va_rf (cj_R σ2 111 x0)) rfl ?_
        refine lv_aload_n (pc := 27) hx hb dX1_without_27 rfl (lv_at hl 0 rfl) ?_
        refine cj_fld (pc := 28) hcx hW 0 g5 (by decide) rfl in_X1 9 (by decide) (by decide) q286 dX1_without_28 (v := va_rf (cj_R σ2 109 x0)) rfl ?_
        obtain ⟨a10, e11, h⟩ := h
        refine cj_stk (st' := [va_rf (cj_R σ2 109 x0), .ref a10]) (by rw [e11]; rfl) ?_
        obtain ⟨g14, h⟩ := h
        refine cj_xv (pc := 31) (cj_runV hcx hW hS 1 g14 (by decide) rfl [va_rf (cj_R σ2 109 x0)] h (Nat.le_trans (by decide) hd) (lw_V q1039 q754 q755 q123 q756) rfl yd_St_sees (by decide) rfl rfl (Nat.le_of_ble_eq_true rfl) hl.1 (Nat.le_refl _) (Nat.le_refl _) dX1_without_31) hS (fun σ13 h H locs hW hS => ?_)
        refine lv_aload_n (pc := 34) hx hb dX1_without_34 rfl (lv_at hl 0 rfl) ?_
        obtain ⟨g15, h⟩ := h
        refine cj_fld (pc := 35) hcx hW 0 g15 (by decide) rfl in_X1 11 (by decide) (by decide) q288 dX1_without_35 (v := va_rf (cj_R σ13 111 x0)) rfl ?_
        refine lv_dup (pc := 38) hx hb dX1_without_38 (cj_cat _) ?_
        obtain ⟨a16, e17, h⟩ := h
        refine cj_stk (st' := [.ref a16, .ref a16]) (by rw [e17]; rfl) ?_
        obtain ⟨g18, h⟩ := h
        refine cj_fldN (pc := 39) hcx hW 1 g18 (by decide) rfl in_X2 2 (by decide) (by decide) (List.mem_of_getElem? (i := 2) rfl) dX1_without_39 (v := .int (cj_F σ13 202 a16)) rfl ?_
        refine lv_iconst (pc := 42) (v := (1 : Int32)) hx hb dX1_without_42 (by decide) ?_
        refine lv_iload_n (pc := 43) hx hb dX1_without_43 rfl (lv_at hl 1 rfl) ?_
        refine lv_ishl (pc := 44) hx hb dX1_without_44 ?_
        refine lv_iconst (pc := 45) (v := (-1 : Int32)) hx hb dX1_without_45 (by decide) ?_
        refine lv_ixor (pc := 46) hx hb dX1_without_46 ?_
        refine lv_iand (pc := 47) hx hb dX1_without_47 ?_
        refine cj_putN (pc := 48) (σ1 := (cj_sF σ13 202 a16 ((cj_F σ13 202 a16) &&& (((1 : Int32) <<< (x1 &&& 31)) ^^^ (-1 : Int32))))) hcx hW hS 1 g18 (by decide) rfl in_X2 tyX2_ok nmX2 2 (by decide) (by decide) rfl rfl rfl (cj_pI rfl) (List.mem_of_getElem? (i := 2) rfl) dX1_without_48 (fun H locs hW hS => ?_)
        refine lv_aload_n (pc := 51) hx hb dX1_without_51 rfl (lv_at hl 0 rfl) ?_
        refine lv_aload_n (pc := 52) hx hb dX1_without_52 rfl (lv_at hl 0 rfl) ?_
        refine cj_fld (pc := 53) hcx hW 0 g15 (by decide) rfl in_X1 11 (by decide) (by decide) q288 dX1_without_53 (v := va_rf (cj_R σ13 111 x0)) rfl ?_
        refine cj_xq (pc := 56) (cj_runV hcx hW hS 0 g15 (by decide) rfl [va_rf (cj_R σ13 111 x0)] h (Nat.le_trans (by decide) hd) (lw_V q842 q844 qs18 q122 q845) rfl yd_L_joined_2 (by decide) rfl rfl (Nat.le_of_ble_eq_true rfl) hl.1 (Nat.le_refl _) (Nat.le_refl _) dX1_without_56) hS (fun r19 σ20 h H locs hW hS => ?_)
        obtain ⟨a21, e22, h⟩ := h
        refine cj_stk (st' := [.ref a21]) (by rw [e22]; rfl) ?_
        obtain ⟨g23, h⟩ := h
        refine cj_fldN (pc := 59) hcx hW 2 g23 (by decide) rfl in_X3 8 (by decide) (by decide) (List.mem_of_getElem? (i := 7) rfl) dX1_without_59 (v := .int (cj_F σ20 308 a21)) rfl ?_
        exact cj_reti (pc := 62) hcx hW hS rfl h (Nat.le_refl _) (Nat.le_refl _) dX1_without_62
      · have h := h.1 c9
        refine lv_iconst (pc := 21) (v := (-1 : Int32)) hx hb dX1_without_21 (by decide) ?_
        exact cj_reti (pc := 22) hcx hW hS rfl h (Nat.le_refl _) (Nat.le_refl _) dX1_without_22)
/-! L_would -/
set_option maxHeartbeats 4000000 in
set_option maxRecDepth 100000 in
theorem cb_L_would {E : cj_E} {σ : cj_S} {x0 : Nat} {x1 : Int32} {x2 : Int32} {x3 : Int32} {x4 : Int32} {x5 : Int32} {P : Int32 → cj_S → Prop} (h : (cj_T σ x0 = 1 ∧ (((cj_F σ 107 x0) = 0 → P (-1 : Int32) σ) ∧ (¬ (cj_F σ 107 x0) = 0 → cs_L_isIn E σ (x5).toInt64 (0 : Int64) (1 : Int64) (fun r3 σ4 => ((r3 = 0 → P (-1 : Int32) σ4) ∧ (¬ r3 = 0 → (cj_T σ4 x0 = 1 ∧ (∃ a7, (cj_R σ4 111 x0) = some a7 ∧ (cj_T σ4 a7 = 2 ∧ cs_St_sees E σ4 a7 (cj_R σ4 109 x0) (fun σ10 => (cj_T σ10 x0 = 1 ∧ (∃ a13, (cj_R σ10 111 x0) = some a13 ∧ (cj_T σ10 a13 = 2 ∧ cs_St_deed E σ10 a13 (0 : Int32) x1 x2 x3 x4 (fun r15 σ16 => ((r15 = (-1 : Int32) → (cj_T σ16 x0 = 1 ∧ cs_L_joined_2 E σ16 x0 (cj_R σ16 111 x0) (fun r20 σ21 => ((x5 = 0 → (∃ a26, r20 = some a26 ∧ (cj_T σ21 a26 = 3 ∧ P (cj_F σ21 308 a26) σ21))) ∧ (¬ x5 = 0 → (∃ a23, r20 = some a23 ∧ (cj_T σ21 a23 = 3 ∧ P (cj_F σ21 309 a23) σ21))))))) ∧ (¬ r15 = (-1 : Int32) → P (-1 : Int32) σ16))))))))))))))))) : cs_L_would E σ x0 x1 x2 x3 x4 x5 P :=
  cj_enter (k := 23) (lv := [(0, .ref x0), (1, .int x1), (2, .int x2), (3, .int x3), (4, .int x4), (5, .int x5)]) (by decide) (Nat.le_of_ble_eq_true rfl) rfl (by
    intro d hd p e s m args below meth c hcx H locs ls hW hS hl
    have hx := hcx.1
    have hb := hcx.2.1
    have hown := hcx.2.2.2.2.2.1
    have hts := hcx.2.2.2.2.2.2.1
    refine lv_aload_n (pc := 0) hx hb dX1_would_0 rfl (lv_at hl 0 rfl) ?_
    obtain ⟨g1, h⟩ := h
    refine cj_fld (pc := 1) hcx hW 0 g1 (by decide) rfl in_X1 7 (by decide) (by decide) q284 dX1_would_1 (v := .int (cj_F σ 107 x0)) rfl ?_
    refine lv_if_eq (pc := 4) (tgt := 18) hx hb dX1_would_4 (by decide) (fun c2 => ?_) (fun c2 => ?_)
    · have h := h.1 c2
      refine lv_iconst (pc := 18) (v := (-1 : Int32)) hx hb dX1_would_18 (by decide) ?_
      exact cj_reti (pc := 19) hcx hW hS rfl h (Nat.le_of_ble_eq_true rfl) (Nat.le_of_ble_eq_true rfl) dX1_would_19
    · have h := h.2 c2
      refine lv_iload (pc := 7) hx hb dX1_would_7 (lv_at hl 5 rfl) ?_
      refine lv_i2l (pc := 9) hx hb dX1_would_9 rfl ?_
      refine lv_lconst (pc := 10) (v := (0 : Int64)) hx hb dX1_would_10 (by decide) ?_
      refine lv_lconst (pc := 11) (v := (1 : Int64)) hx hb dX1_would_11 (by decide) ?_
      refine cj_xi (pc := 12) (cj_runS hcx hW hS [.long (x5).toInt64, .long (0 : Int64), .long (1 : Int64)] h (Nat.le_trans (by decide) hd) (lw_S q349 q350 q122 q351) yd_L_isIn (by decide) rfl rfl (Nat.le_of_ble_eq_true rfl) hl.1 (Nat.le_of_ble_eq_true rfl) (Nat.le_of_ble_eq_true rfl) dX1_would_12) hS (fun r3 σ4 h H locs hW hS => ?_)
      refine lv_if_ne (pc := 15) (tgt := 20) hx hb dX1_would_15 (by decide) (fun c5 => ?_) (fun c5 => ?_)
      · have h := h.2 c5
        refine lv_aload_n (pc := 20) hx hb dX1_would_20 rfl (lv_at hl 0 rfl) ?_
        obtain ⟨g6, h⟩ := h
        refine cj_fld (pc := 21) hcx hW 0 g6 (by decide) rfl in_X1 11 (by decide) (by decide) q288 dX1_would_21 (v := va_rf (cj_R σ4 111 x0)) rfl ?_
        refine lv_aload_n (pc := 24) hx hb dX1_would_24 rfl (lv_at hl 0 rfl) ?_
        refine cj_fld (pc := 25) hcx hW 0 g6 (by decide) rfl in_X1 9 (by decide) (by decide) q286 dX1_would_25 (v := va_rf (cj_R σ4 109 x0)) rfl ?_
        obtain ⟨a7, e8, h⟩ := h
        refine cj_stk (st' := [va_rf (cj_R σ4 109 x0), .ref a7]) (by rw [e8]; rfl) ?_
        obtain ⟨g11, h⟩ := h
        refine cj_xv (pc := 28) (cj_runV hcx hW hS 1 g11 (by decide) rfl [va_rf (cj_R σ4 109 x0)] h (Nat.le_trans (by decide) hd) (lw_V q1039 q754 q755 q123 q756) rfl yd_St_sees (by decide) rfl rfl (Nat.le_of_ble_eq_true rfl) hl.1 (Nat.le_of_ble_eq_true rfl) (Nat.le_of_ble_eq_true rfl) dX1_would_28) hS (fun σ10 h H locs hW hS => ?_)
        refine lv_aload_n (pc := 31) hx hb dX1_would_31 rfl (lv_at hl 0 rfl) ?_
        obtain ⟨g12, h⟩ := h
        refine cj_fld (pc := 32) hcx hW 0 g12 (by decide) rfl in_X1 11 (by decide) (by decide) q288 dX1_would_32 (v := va_rf (cj_R σ10 111 x0)) rfl ?_
        refine lv_iconst (pc := 35) (v := (0 : Int32)) hx hb dX1_would_35 (by decide) ?_
        refine lv_iload_n (pc := 36) hx hb dX1_would_36 rfl (lv_at hl 1 rfl) ?_
        refine lv_iload_n (pc := 37) hx hb dX1_would_37 rfl (lv_at hl 2 rfl) ?_
        refine lv_iload_n (pc := 38) hx hb dX1_would_38 rfl (lv_at hl 3 rfl) ?_
        refine lv_iload (pc := 39) hx hb dX1_would_39 (lv_at hl 4 rfl) ?_
        obtain ⟨a13, e14, h⟩ := h
        refine cj_stk (st' := [.int x4, .int x3, .int x2, .int x1, .int (0 : Int32), .ref a13]) (by rw [e14]; rfl) ?_
        obtain ⟨g17, h⟩ := h
        refine cj_xi (pc := 41) (cj_runV hcx hW hS 1 g17 (by decide) rfl [.int (0 : Int32), .int x1, .int x2, .int x3, .int x4] h (Nat.le_trans (by decide) hd) (lw_V q758 q759 q760 q123 q761) rfl yd_St_deed (by decide) rfl rfl (Nat.le_of_ble_eq_true rfl) hl.1 (Nat.le_of_ble_eq_true rfl) (Nat.le_of_ble_eq_true rfl) dX1_would_41) hS (fun r15 σ16 h H locs hW hS => ?_)
        refine lv_iconst (pc := 44) (v := (-1 : Int32)) hx hb dX1_would_44 (by decide) ?_
        refine lv_icmp_eq (pc := 45) (tgt := 50) hx hb dX1_would_45 (by decide) (fun c18 => ?_) (fun c18 => ?_)
        · have h := h.1 c18
          refine lv_aload_n (pc := 50) hx hb dX1_would_50 rfl (lv_at hl 0 rfl) ?_
          refine lv_aload_n (pc := 51) hx hb dX1_would_51 rfl (lv_at hl 0 rfl) ?_
          obtain ⟨g19, h⟩ := h
          refine cj_fld (pc := 52) hcx hW 0 g19 (by decide) rfl in_X1 11 (by decide) (by decide) q288 dX1_would_52 (v := va_rf (cj_R σ16 111 x0)) rfl ?_
          refine cj_xq (pc := 55) (cj_runV hcx hW hS 0 g19 (by decide) rfl [va_rf (cj_R σ16 111 x0)] h (Nat.le_trans (by decide) hd) (lw_V q842 q844 qs18 q122 q845) rfl yd_L_joined_2 (by decide) rfl rfl (Nat.le_of_ble_eq_true rfl) hl.1 (Nat.le_of_ble_eq_true rfl) (Nat.le_of_ble_eq_true rfl) dX1_would_55) hS (fun r20 σ21 h H locs hW hS => ?_)
          refine cj_astore (pc := 58) (lv' := [(6, va_rf r20), (0, .ref x0), (1, .int x1), (2, .int x2), (3, .int x3), (4, .int x4), (5, .int x5)]) hx hb dX1_would_58 hl (by decide) rfl (fun ls hl => ?_)
          refine lv_iload (pc := 60) hx hb dX1_would_60 (lv_at hl 6 rfl) ?_
          refine lv_if_ne (pc := 62) (tgt := 73) hx hb dX1_would_62 (by decide) (fun c22 => ?_) (fun c22 => ?_)
          · have h := h.2 c22
            refine cj_aload (pc := 73) hx hb dX1_would_73 (lv_at hl 0 rfl) ?_
            obtain ⟨a23, e24, h⟩ := h
            refine cj_stk (st' := [.ref a23]) (by rw [e24]; rfl) ?_
            obtain ⟨g25, h⟩ := h
            refine cj_fldN (pc := 75) hcx hW 2 g25 (by decide) rfl in_X3 9 (by decide) (by decide) (List.mem_of_getElem? (i := 8) rfl) dX1_would_75 (v := .int (cj_F σ21 309 a23)) rfl ?_
            exact cj_reti (pc := 78) hcx hW hS rfl h (Nat.le_of_ble_eq_true rfl) (Nat.le_of_ble_eq_true rfl) dX1_would_78
          · have h := h.1 c22
            refine cj_aload (pc := 65) hx hb dX1_would_65 (lv_at hl 0 rfl) ?_
            obtain ⟨a26, e27, h⟩ := h
            refine cj_stk (st' := [.ref a26]) (by rw [e27]; rfl) ?_
            obtain ⟨g28, h⟩ := h
            refine cj_fldN (pc := 67) hcx hW 2 g28 (by decide) rfl in_X3 8 (by decide) (by decide) (List.mem_of_getElem? (i := 7) rfl) dX1_would_67 (v := .int (cj_F σ21 308 a26)) rfl ?_
            refine lv_goto (pc := 70) (tgt := 78) hx hb dX1_would_70 (by decide) ?_
            exact cj_reti (pc := 78) hcx hW hS rfl h (Nat.le_of_ble_eq_true rfl) (Nat.le_of_ble_eq_true rfl) dX1_would_78
        · have h := h.2 c18
          refine lv_iconst (pc := 48) (v := (-1 : Int32)) hx hb dX1_would_48 (by decide) ?_
          exact cj_reti (pc := 49) hcx hW hS rfl h (Nat.le_of_ble_eq_true rfl) (Nat.le_of_ble_eq_true rfl) dX1_would_49
      · have h := h.1 c5
        refine lv_iconst (pc := 18) (v := (-1 : Int32)) hx hb dX1_would_18 (by decide) ?_
        exact cj_reti (pc := 19) hcx hW hS rfl h (Nat.le_of_ble_eq_true rfl) (Nat.le_of_ble_eq_true rfl) dX1_would_19)
/-! L_acts -/
set_option maxHeartbeats 4000000 in
set_option maxRecDepth 100000 in
theorem cb_L_acts_65 {E : cj_E} {σ : cj_S} {x0 : Nat} {x1 : Int32} {x2 : Int32} {cu : Nat} {su : Nat} {P : Int32 → cj_S → Prop} (h : (cj_T σ x0 = 1 ∧ (∃ a2, (cj_R σ 114 x0) = some a2 ∧ (cj_T σ a2 = 22 ∧ (vp_in (cj_F σ 116 x0) (cj_N σ a2) ∧ (∃ a6, (cj_B σ a2 (cj_F σ 116 x0).toNatClampNeg) = some a6 ∧ (cu ≤ 11 ∧ (su ≤ 263 ∧ (cj_T σ a6 = 2 ∧ cs_St_becomes E σ a6 (cj_R σ 112 x0) (fun σ11 => (cj_T σ11 x0 = 1 ∧ ((cu + 0) ≤ 11 ∧ ((su + 0) ≤ 263 ∧ ((cu + 0) ≤ 11 ∧ ((su + 0) ≤ 263 ∧ cs_L_joined E (cj_sF (cj_sF σ11 116 x0 (((cj_F σ11 116 x0) + (1 : Int32)) - ((cj_F σ11 116 x0) + (1 : Int32)) / (40 : Int32) * (40 : Int32))) 115 x0 (if ((cj_F σ11 115 x0) + (1 : Int32)) < (40 : Int32) then ((cj_F σ11 115 x0) + (1 : Int32)) else (40 : Int32))) x0 (fun r18 σ19 => (∃ a20, r18 = some a20 ∧ (cj_T σ19 a20 = 3 ∧ (∃ a23, (cj_R σ11 109 x0) = some a23 ∧ (((cu + 0) + 0) ≤ 11 ∧ (((su + 0) + 0) ≤ 263 ∧ (cj_T σ19 a23 = 2 ∧ cs_St_notes E σ19 a23 x1 x2 (cj_F σ19 308 a20) (fun σ28 => ((((cu + 0) + 0) + 0) ≤ 11 ∧ ((((su + 0) + 0) + 0) ≤ 263 ∧ P (-1 : Int32) σ28))))))))))))))))))))))))) : cg_L_acts_65 E σ x0 x1 x2 cu su P := by
  intro d hd p e s m args below meth c hcx H locs ls hW hS hl
  have hx := hcx.1
  have hb := hcx.2.1
  have hown := hcx.2.2.2.2.2.1
  have hts := hcx.2.2.2.2.2.2.1
  refine lv_aload_n (pc := 65) hx hb dX1_acts_65 rfl (lv_at hl 0 rfl) ?_
  obtain ⟨g1, h⟩ := h
  refine cj_fld (pc := 66) hcx hW 0 g1 (by decide) rfl in_X1 14 (by decide) (by decide) q291 dX1_acts_66 (v := va_rf (cj_R σ 114 x0)) rfl ?_
  refine lv_aload_n (pc := 69) hx hb dX1_acts_69 rfl (lv_at hl 0 rfl) ?_
  refine cj_fld (pc := 70) hcx hW 0 g1 (by decide) rfl in_X1 16 (by decide) (by decide) q293 dX1_acts_70 (v := .int (cj_F σ 116 x0)) rfl ?_
  obtain ⟨a2, e3, h⟩ := h
  refine cj_stk (st' := [.int (cj_F σ 116 x0), .ref a2]) (by rw [e3]; rfl) ?_
  obtain ⟨g4, h⟩ := h
  obtain ⟨g5, h⟩ := h
  refine cj_aald (pc := 73) hcx hW g4 (by unfold cj_rt; decide) g5 dX1_acts_73 ?_
  refine lv_aload_n (pc := 74) hx hb dX1_acts_74 rfl (lv_at hl 0 rfl) ?_
  refine cj_fld (pc := 75) hcx hW 0 g1 (by decide) rfl in_X1 12 (by decide) (by decide) q289 dX1_acts_75 (v := va_rf (cj_R σ 112 x0)) rfl ?_
  obtain ⟨a6, e7, h⟩ := h
  refine cj_stk (st' := [va_rf (cj_R σ 112 x0), .ref a6]) (by rw [e7]; rfl) ?_
  obtain ⟨g8, h⟩ := h
  obtain ⟨g9, h⟩ := h
  obtain ⟨g12, h⟩ := h
  refine cj_xv (pc := 78) (cj_runV hcx hW hS 1 g12 (by decide) rfl [va_rf (cj_R σ 112 x0)] h (Nat.le_trans (by decide) hd) (lw_V q749 q750 q751 q123 q752) rfl yd_St_becomes (by decide) rfl rfl (Nat.le_of_ble_eq_true rfl) hl.1 g8 g9 dX1_acts_78) hS (fun σ11 h H locs hW hS => ?_)
  refine lv_aload_n (pc := 81) hx hb dX1_acts_81 rfl (lv_at hl 0 rfl) ?_
  refine lv_aload_n (pc := 82) hx hb dX1_acts_82 rfl (lv_at hl 0 rfl) ?_
  obtain ⟨g13, h⟩ := h
  refine cj_fld (pc := 83) hcx hW 0 g13 (by decide) rfl in_X1 16 (by decide) (by decide) q293 dX1_acts_83 (v := .int (cj_F σ11 116 x0)) rfl ?_
  refine lv_iconst (pc := 86) (v := (1 : Int32)) hx hb dX1_acts_86 (by decide) ?_
  refine lv_iadd (pc := 87) hx hb dX1_acts_87 ?_
  refine lv_bipush (pc := 88) (v := (40 : Int32)) hx hb dX1_acts_88 (by decide) ?_
  refine lv_irem (pc := 90) hx hb dX1_acts_90 (by decide) ?_
  refine cj_put (pc := 91) (σ1 := (cj_sF σ11 116 x0 (((cj_F σ11 116 x0) + (1 : Int32)) - ((cj_F σ11 116 x0) + (1 : Int32)) / (40 : Int32) * (40 : Int32)))) hcx hW hS 0 g13 (by decide) rfl in_X1 tyX1_ok nmX1 16 (by decide) (by decide) rfl rfl rfl (cj_pI rfl) q293 dX1_acts_91 (fun H locs hW hS => ?_)
  refine lv_aload_n (pc := 94) hx hb dX1_acts_94 rfl (lv_at hl 0 rfl) ?_
  refine lv_bipush (pc := 95) (v := (40 : Int32)) hx hb dX1_acts_95 (by decide) ?_
  refine lv_aload_n (pc := 97) hx hb dX1_acts_97 rfl (lv_at hl 0 rfl) ?_
  refine cj_fld (pc := 98) hcx hW 0 g13 (by decide) rfl in_X1 15 (by decide) (by decide) q292 dX1_acts_98 (v := .int (cj_F σ11 115 x0)) rfl ?_
  refine lv_iconst (pc := 101) (v := (1 : Int32)) hx hb dX1_acts_101 (by decide) ?_
  refine lv_iadd (pc := 102) hx hb dX1_acts_102 ?_
  obtain ⟨g14, h⟩ := h
  obtain ⟨g15, h⟩ := h
  refine cj_mmin (pc := 103) hcx hl.1 q837 (Nat.le_add_left 1 _) (cj_lr (Nat.le_of_ble_eq_true rfl)) g14 g15 dX1_acts_103 ?_
  refine cj_put (pc := 106) (σ1 := (cj_sF (cj_sF σ11 116 x0 (((cj_F σ11 116 x0) + (1 : Int32)) - ((cj_F σ11 116 x0) + (1 : Int32)) / (40 : Int32) * (40 : Int32))) 115 x0 (if ((cj_F σ11 115 x0) + (1 : Int32)) < (40 : Int32) then ((cj_F σ11 115 x0) + (1 : Int32)) else (40 : Int32)))) hcx hW hS 0 g13 (by decide) rfl in_X1 tyX1_ok nmX1 15 (by decide) (by decide) rfl rfl rfl (cj_pI rfl) q292 dX1_acts_106 (fun H locs hW hS => ?_)
  refine lv_aload_n (pc := 109) hx hb dX1_acts_109 rfl (lv_at hl 0 rfl) ?_
  refine cj_fld (pc := 110) hcx hW 0 g13 (by decide) rfl in_X1 9 (by decide) (by decide) q286 dX1_acts_110 (v := va_rf (cj_R σ11 109 x0)) rfl ?_
  refine lv_iload_n (pc := 113) hx hb dX1_acts_113 rfl (lv_at hl 1 rfl) ?_
  refine lv_iload_n (pc := 114) hx hb dX1_acts_114 rfl (lv_at hl 2 rfl) ?_
  refine lv_aload_n (pc := 115) hx hb dX1_acts_115 rfl (lv_at hl 0 rfl) ?_
  obtain ⟨g16, h⟩ := h
  obtain ⟨g17, h⟩ := h
  refine cj_xq (pc := 116) (cj_runV hcx hW hS 0 g13 (by decide) rfl [] h (Nat.le_trans (by decide) hd) (lw_V q838 q840 qs17 q122 q841) rfl yd_L_joined (by decide) rfl rfl (by generalize (cj_R σ11 109 x0) = z0; cases z0 <;> exact Nat.le_of_ble_eq_true rfl) hl.1 g16 g17 dX1_acts_116) hS (fun r18 σ19 h H locs hW hS => ?_)
  obtain ⟨a20, e21, h⟩ := h
  refine cj_stk (st' := [.ref a20, .int x2, .int x1, va_rf (cj_R σ11 109 x0)]) (by rw [e21]; rfl) ?_
  obtain ⟨g22, h⟩ := h
  refine cj_fldN (pc := 119) hcx hW 2 g22 (by decide) rfl in_X3 8 (by decide) (by decide) (List.mem_of_getElem? (i := 7) rfl) dX1_acts_119 (v := .int (cj_F σ19 308 a20)) rfl ?_
  obtain ⟨a23, e24, h⟩ := h
  refine cj_stk (st' := [.int (cj_F σ19 308 a20), .int x2, .int x1, .ref a23]) (by rw [e24]; rfl) ?_
  obtain ⟨g25, h⟩ := h
  obtain ⟨g26, h⟩ := h
  obtain ⟨g29, h⟩ := h
  refine cj_xv (pc := 122) (cj_runV hcx hW hS 1 g29 (by decide) rfl [.int x1, .int x2, .int (cj_F σ19 308 a20)] h (Nat.le_trans (by decide) hd) (lw_V q916 q917 q918 q123 q919) rfl yd_St_notes (by decide) rfl rfl (Nat.le_of_ble_eq_true rfl) hl.1 g25 g26 dX1_acts_122) hS (fun σ28 h H locs hW hS => ?_)
  refine lv_iconst (pc := 125) (v := (-1 : Int32)) hx hb dX1_acts_125 (by decide) ?_
  obtain ⟨g30, h⟩ := h
  obtain ⟨g31, h⟩ := h
  exact cj_reti (pc := 126) hcx hW hS rfl h g30 g31 dX1_acts_126
set_option maxHeartbeats 4000000 in
set_option maxRecDepth 100000 in
theorem cb_L_acts {E : cj_E} {σ : cj_S} {x0 : Nat} {x1 : Int32} {x2 : Int32} {x3 : Int32} {x4 : Int32} {x5 : Int32} {P : Int32 → cj_S → Prop} (h : (cj_T σ x0 = 1 ∧ (∃ a2, (cj_R σ 112 x0) = some a2 ∧ (cj_T σ a2 = 2 ∧ cs_St_becomes E σ a2 (cj_R σ 109 x0) (fun σ5 => (cj_T σ5 x0 = 1 ∧ (∃ a8, (cj_R σ5 109 x0) = some a8 ∧ (cj_T σ5 a8 = 2 ∧ cs_St_deed E σ5 a8 x1 x2 x3 x4 x5 (fun r10 σ11 => ((r10 = (-1 : Int32) → (cj_T σ11 x0 = 1 ∧ (∃ a15, (cj_R σ11 114 x0) = some a15 ∧ (cj_T σ11 a15 = 22 ∧ (vp_in (cj_F σ11 116 x0) (cj_N σ11 a15) ∧ (((cj_B σ11 a15 (cj_F σ11 116 x0).toNatClampNeg) = none → (∀ q20, cj_T σ11 q20 = 0 → cs_St_init E (cj_new σ11 q20 2) q20 (some x0) (fun σ23 => (cj_T σ23 a15 = 22 ∧ (cj_T σ23 q20 = 2 ∧ (vp_in (cj_F σ11 116 x0) (cj_N σ23 a15) ∧ cg_L_acts_65 E (cj_sB σ23 a15 (cj_F σ11 116 x0).toNatClampNeg (some q20)) x0 x1 x2 11 263 P)))))) ∧ (¬ (cj_B σ11 a15 (cj_F σ11 116 x0).toNatClampNeg) = none → cg_L_acts_65 E σ11 x0 x1 x2 8 72 P))))))) ∧ (¬ r10 = (-1 : Int32) → P r10 σ11))))))))))) : cs_L_acts E σ x0 x1 x2 x3 x4 x5 P :=
  cj_enter (k := 24) (lv := [(0, .ref x0), (1, .int x1), (2, .int x2), (3, .int x3), (4, .int x4), (5, .int x5)]) (by decide) (Nat.le_of_ble_eq_true rfl) rfl (by
    intro d hd p e s m args below meth c hcx H locs ls hW hS hl
    have hx := hcx.1
    have hb := hcx.2.1
    have hown := hcx.2.2.2.2.2.1
    have hts := hcx.2.2.2.2.2.2.1
    refine lv_aload_n (pc := 0) hx hb dX1_acts_0 rfl (lv_at hl 0 rfl) ?_
    obtain ⟨g1, h⟩ := h
    refine cj_fld (pc := 1) hcx hW 0 g1 (by decide) rfl in_X1 12 (by decide) (by decide) q289 dX1_acts_1 (v := va_rf (cj_R σ 112 x0)) rfl ?_
    refine lv_aload_n (pc := 4) hx hb dX1_acts_4 rfl (lv_at hl 0 rfl) ?_
    refine cj_fld (pc := 5) hcx hW 0 g1 (by decide) rfl in_X1 9 (by decide) (by decide) q286 dX1_acts_5 (v := va_rf (cj_R σ 109 x0)) rfl ?_
    obtain ⟨a2, e3, h⟩ := h
    refine cj_stk (st' := [va_rf (cj_R σ 109 x0), .ref a2]) (by rw [e3]; rfl) ?_
    obtain ⟨g6, h⟩ := h
    refine cj_xv (pc := 8) (cj_runV hcx hW hS 1 g6 (by decide) rfl [va_rf (cj_R σ 109 x0)] h (Nat.le_trans (by decide) hd) (lw_V q749 q750 q751 q123 q752) rfl yd_St_becomes (by decide) rfl rfl (Nat.le_of_ble_eq_true rfl) hl.1 (Nat.le_of_ble_eq_true rfl) (Nat.le_of_ble_eq_true rfl) dX1_acts_8) hS (fun σ5 h H locs hW hS => ?_)
    refine lv_aload_n (pc := 11) hx hb dX1_acts_11 rfl (lv_at hl 0 rfl) ?_
    obtain ⟨g7, h⟩ := h
    refine cj_fld (pc := 12) hcx hW 0 g7 (by decide) rfl in_X1 9 (by decide) (by decide) q286 dX1_acts_12 (v := va_rf (cj_R σ5 109 x0)) rfl ?_
    refine lv_iload_n (pc := 15) hx hb dX1_acts_15 rfl (lv_at hl 1 rfl) ?_
    refine lv_iload_n (pc := 16) hx hb dX1_acts_16 rfl (lv_at hl 2 rfl) ?_
    refine lv_iload_n (pc := 17) hx hb dX1_acts_17 rfl (lv_at hl 3 rfl) ?_
    refine lv_iload (pc := 18) hx hb dX1_acts_18 (lv_at hl 4 rfl) ?_
    refine lv_iload (pc := 20) hx hb dX1_acts_20 (lv_at hl 5 rfl) ?_
    obtain ⟨a8, e9, h⟩ := h
    refine cj_stk (st' := [.int x5, .int x4, .int x3, .int x2, .int x1, .ref a8]) (by rw [e9]; rfl) ?_
    obtain ⟨g12, h⟩ := h
    refine cj_xi (pc := 22) (cj_runV hcx hW hS 1 g12 (by decide) rfl [.int x1, .int x2, .int x3, .int x4, .int x5] h (Nat.le_trans (by decide) hd) (lw_V q758 q759 q760 q123 q761) rfl yd_St_deed (by decide) rfl rfl (Nat.le_of_ble_eq_true rfl) hl.1 (Nat.le_of_ble_eq_true rfl) (Nat.le_of_ble_eq_true rfl) dX1_acts_22) hS (fun r10 σ11 h H locs hW hS => ?_)
    refine lv_istore (pc := 25) (lv' := [(6, .int r10), (0, .ref x0), (1, .int x1), (2, .int x2), (3, .int x3), (4, .int x4), (5, .int x5)]) hx hb dX1_acts_25 hl (by decide) rfl (fun ls hl => ?_)
    refine lv_iload (pc := 27) hx hb dX1_acts_27 (lv_at hl 0 rfl) ?_
    refine lv_iconst (pc := 29) (v := (-1 : Int32)) hx hb dX1_acts_29 (by decide) ?_
    refine lv_icmp_eq (pc := 30) (tgt := 36) hx hb dX1_acts_30 (by decide) (fun c13 => ?_) (fun c13 => ?_)
    · have h := h.1 c13
      refine lv_aload_n (pc := 36) hx hb dX1_acts_36 rfl (lv_at hl 1 rfl) ?_
      obtain ⟨g14, h⟩ := h
      refine cj_fld (pc := 37) hcx hW 0 g14 (by decide) rfl in_X1 14 (by decide) (by decide) q291 dX1_acts_37 (v := va_rf (cj_R σ11 114 x0)) rfl ?_
      refine lv_aload_n (pc := 40) hx hb dX1_acts_40 rfl (lv_at hl 1 rfl) ?_
      refine cj_fld (pc := 41) hcx hW 0 g14 (by decide) rfl in_X1 16 (by decide) (by decide) q293 dX1_acts_41 (v := .int (cj_F σ11 116 x0)) rfl ?_
      obtain ⟨a15, e16, h⟩ := h
      refine cj_stk (st' := [.int (cj_F σ11 116 x0), .ref a15]) (by rw [e16]; rfl) ?_
      obtain ⟨g17, h⟩ := h
      obtain ⟨g18, h⟩ := h
      refine cj_aald (pc := 44) hcx hW g17 (by unfold cj_rt; decide) g18 dX1_acts_44 ?_
      refine cj_ifnonnull (pc := 45) (r := (cj_B σ11 a15 (cj_F σ11 116 x0).toNatClampNeg)) (tgt := 65) hx hb dX1_acts_45 (by decide) (fun c19 => ?_) (fun c19 => ?_)
      · have h := h.2 c19
        exact h d hd p e s m args below meth c hcx H locs _ hW hS (lv_sub hl [1, 2, 3] rfl)
      · have h := h.1 c19
        refine lv_aload_n (pc := 48) hx hb dX1_acts_48 rfl (lv_at hl 1 rfl) ?_
        refine cj_fld (pc := 49) hcx hW 0 g14 (by decide) rfl in_X1 14 (by decide) (by decide) q291 dX1_acts_49 (v := va_rf (cj_R σ11 114 x0)) rfl ?_
        refine lv_aload_n (pc := 52) hx hb dX1_acts_52 rfl (lv_at hl 1 rfl) ?_
        refine cj_fld (pc := 53) hcx hW 0 g14 (by decide) rfl in_X1 16 (by decide) (by decide) q293 dX1_acts_53 (v := .int (cj_F σ11 116 x0)) rfl ?_
        refine cj_newo (pc := 56) hcx hW hS 1 (by decide) rfl in_X2 tyX2_ok rfl rfl q177 q178 q123 (Nat.le_of_ble_eq_true rfl) (Nat.le_of_ble_eq_true rfl) dX1_acts_56 (fun q20 H z21 hW hS => ?_)
        have h := h q20 z21
        refine lv_dup (pc := 59) hx hb dX1_acts_59 rfl ?_
        refine lv_aload_n (pc := 60) hx hb dX1_acts_60 rfl (lv_at hl 1 rfl) ?_
        refine cj_xv (pc := 61) (cj_runIN hcx hW hS [va_rf (some x0)] h (Nat.le_trans (by decide) hd) (List.mem_of_getElem? (i := 0) rfl) q180 q123 q181 rfl yd_St_init (by decide) rfl rfl (by generalize (cj_R σ11 114 x0) = z0; cases z0 <;> exact Nat.le_of_ble_eq_true rfl) hl.1 (Nat.le_of_ble_eq_true rfl) (Nat.le_of_ble_eq_true rfl) dX1_acts_61) hS (fun σ23 h H locs hW hS => ?_)
        refine cj_stk (st' := [.ref q20, .int (cj_F σ11 116 x0), .ref a15]) (by rw [e16]; rfl) ?_
        obtain ⟨g24, h⟩ := h
        obtain ⟨g25, h⟩ := h
        obtain ⟨g26, h⟩ := h
        refine cj_aast (pc := 64) hcx hW hS (cj_okt (t := 2) g25 (by unfold cj_ok_; decide)) (cj_eqt (t := 2) g24 g25) g26 dX1_acts_64 (fun H locs hW hS => ?_)
        exact h d hd p e s m args below meth c hcx H locs _ hW hS (lv_sub hl [1, 2, 3] rfl)
    · have h := h.2 c13
      refine lv_iload (pc := 33) hx hb dX1_acts_33 (lv_at hl 0 rfl) ?_
      exact cj_reti (pc := 35) hcx hW hS rfl h (Nat.le_of_ble_eq_true rfl) (Nat.le_of_ble_eq_true rfl) dX1_acts_35)
