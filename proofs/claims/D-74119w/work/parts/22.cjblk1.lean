/-! Tb_set -/
set_option maxHeartbeats 4000000 in
set_option maxRecDepth 100000 in
theorem cb_Tb_set_13 {E : cj_E} {σ : cj_S} {x1 : Int32} {x2 : Option Nat} {x3 : Int32} {x4 : Int32} {P : Int32 → cj_S → Prop} (h : ((x3 ≤ x4 → P x1 σ) ∧ (¬ x3 ≤ x4 → (∃ a2, x2 = some a2 ∧ (cj_T σ a2 = 21 ∧ (vp_in x4 (cj_N σ a2) ∧ cg_Tb_set_13 E σ (x1 ||| ((1 : Int32) <<< ((cj_A σ a2 x4.toNatClampNeg) &&& 31))) x2 x3 (x4 + (1 : Int32)) P)))))) : cg_Tb_set_13 E σ x1 x2 x3 x4 P := by
  intro d hd p e s m args below meth c hcx H locs ls hW hS hl
  have hx := hcx.1
  have hb := hcx.2.1
  have hown := hcx.2.2.2.2.2.1
  have hts := hcx.2.2.2.2.2.2.1
  refine lv_iload (pc := 13) hx hb dX7_set_13 (lv_at hl 3 rfl) ?_
  refine lv_iload_n (pc := 15) hx hb dX7_set_15 rfl (lv_at hl 2 rfl) ?_
  refine lv_icmp_ge (pc := 16) (tgt := 38) hx hb dX7_set_16 (by decide) (fun c1 => ?_) (fun c1 => ?_)
  · have h := h.1 c1
    refine lv_iload_n (pc := 38) hx hb dX7_set_38 rfl (lv_at hl 0 rfl) ?_
    exact cj_reti (pc := 39) hcx hW hS rfl h (Nat.le_refl _) (Nat.le_refl _) dX7_set_39
  · have h := h.2 c1
    refine cj_aload_n (pc := 19) hx hb dX7_set_19 rfl (lv_at hl 1 rfl) ?_
    refine lv_iload (pc := 20) hx hb dX7_set_20 (lv_at hl 3 rfl) ?_
    obtain ⟨a2, e3, h⟩ := h
    refine cj_stk (st' := [.int x4, .ref a2]) (by rw [e3]; rfl) ?_
    obtain ⟨g4, h⟩ := h
    obtain ⟨g5, h⟩ := h
    refine cj_iald (pc := 22) hcx hW g4 g5 dX7_set_22 ?_
    refine lv_istore (pc := 23) (lv' := [(5, .int (cj_A σ a2 x4.toNatClampNeg)), (1, .int x1), (2, va_rf x2), (3, .int x3), (4, .int x4)]) hx hb dX7_set_23 hl (by decide) rfl (fun ls hl => ?_)
    refine lv_iload_n (pc := 25) hx hb dX7_set_25 rfl (lv_at hl 1 rfl) ?_
    refine lv_iconst (pc := 26) (v := (1 : Int32)) hx hb dX7_set_26 (by decide) ?_
    refine lv_iload (pc := 27) hx hb dX7_set_27 (lv_at hl 0 rfl) ?_
    refine lv_ishl (pc := 29) hx hb dX7_set_29 ?_
    refine lv_ior (pc := 30) hx hb dX7_set_30 ?_
    refine lv_istore_n (pc := 31) (lv' := [(1, .int (x1 ||| ((1 : Int32) <<< ((cj_A σ a2 x4.toNatClampNeg) &&& 31)))), (5, .int (cj_A σ a2 x4.toNatClampNeg)), (2, va_rf x2), (3, .int x3), (4, .int x4)]) hx hb dX7_set_31 rfl hl (by decide) rfl (fun ls hl => ?_)
    refine lv_iinc (pc := 32) (v := (x4 + (1 : Int32))) (lv' := [(4, .int (x4 + (1 : Int32))), (1, .int (x1 ||| ((1 : Int32) <<< ((cj_A σ a2 x4.toNatClampNeg) &&& 31)))), (5, .int (cj_A σ a2 x4.toNatClampNeg)), (2, va_rf x2), (3, .int x3)]) hx hb dX7_set_32 hl (k := 4) rfl rfl (by decide) rfl (fun ls hl => ?_)
    refine lv_goto (pc := 35) (tgt := 13) hx hb dX7_set_35 (by decide) ?_
    exact h d hd p e s m args below meth c hcx H locs _ hW hS (lv_sub hl [1, 3, 4, 0] rfl)
set_option maxHeartbeats 4000000 in
set_option maxRecDepth 100000 in
theorem cb_Tb_set {E : cj_E} {σ : cj_S} {x0 : Nat} {P : Int32 → cj_S → Prop} (h : (cj_T σ x0 = 6 ∧ (∃ a2, (cj_R σ 600 x0) = some a2 ∧ (cj_T σ a2 = 21 ∧ cg_Tb_set_13 E σ (0 : Int32) (cj_R σ 600 x0) (nI (cj_N σ a2)) (0 : Int32) P)))) : cs_Tb_set E σ x0 P :=
  cj_enter (k := 0) (lv := [(0, .ref x0)]) (by decide) (Nat.le_of_ble_eq_true rfl) rfl (by
    intro d hd p e s m args below meth c hcx H locs ls hW hS hl
    have hx := hcx.1
    have hb := hcx.2.1
    have hown := hcx.2.2.2.2.2.1
    have hts := hcx.2.2.2.2.2.2.1
    refine lv_iconst (pc := 0) (v := (0 : Int32)) hx hb dX7_set_0 (by decide) ?_
    refine lv_istore_n (pc := 1) (lv' := [(1, .int (0 : Int32)), (0, .ref x0)]) hx hb dX7_set_1 rfl hl (by decide) rfl (fun ls hl => ?_)
    refine lv_aload_n (pc := 2) hx hb dX7_set_2 rfl (lv_at hl 1 rfl) ?_
    obtain ⟨g1, h⟩ := h
    refine cj_fld (pc := 3) hcx hW 5 g1 (by decide) rfl in_X7 0 (by decide) (by decide) q484 dX7_set_3 (v := va_rf (cj_R σ 600 x0)) rfl ?_
    refine cj_astore_n (pc := 6) (lv' := [(2, va_rf (cj_R σ 600 x0)), (1, .int (0 : Int32)), (0, .ref x0)]) hx hb dX7_set_6 rfl hl (by decide) rfl (fun ls hl => ?_)
    refine cj_aload_n (pc := 7) hx hb dX7_set_7 rfl (lv_at hl 0 rfl) ?_
    obtain ⟨a2, e3, h⟩ := h
    refine cj_stk (st' := [.ref a2]) (by rw [e3]; rfl) ?_
    obtain ⟨g4, h⟩ := h
    refine cj_alen (pc := 8) hcx hW g4 (by unfold cj_at_ cj_rt; decide) dX7_set_8 ?_
    refine lv_istore_n (pc := 9) (lv' := [(3, .int (nI (cj_N σ a2))), (2, va_rf (cj_R σ 600 x0)), (1, .int (0 : Int32)), (0, .ref x0)]) hx hb dX7_set_9 rfl hl (by decide) (by generalize (cj_R σ 600 x0) = z; cases z <;> rfl) (fun ls hl => ?_)
    refine lv_iconst (pc := 10) (v := (0 : Int32)) hx hb dX7_set_10 (by decide) ?_
    refine lv_istore (pc := 11) (lv' := [(4, .int (0 : Int32)), (3, .int (nI (cj_N σ a2))), (2, va_rf (cj_R σ 600 x0)), (1, .int (0 : Int32)), (0, .ref x0)]) hx hb dX7_set_11 hl (by decide) rfl (fun ls hl => ?_)
    exact h d hd p e s m args below meth c hcx H locs _ hW hS (lv_sub hl [3, 2, 1, 0] rfl))
/-! Th_at -/
set_option maxHeartbeats 4000000 in
set_option maxRecDepth 100000 in
theorem cb_Th_at {E : cj_E} {σ : cj_S} {x0 : Nat} {x1 : Int32} {P : Int32 → cj_S → Prop} (h : (cj_T σ x0 = 9 ∧ (∃ a2, (cj_R σ 900 x0) = some a2 ∧ (cj_T σ a2 = 21 ∧ (vp_in x1 (cj_N σ a2) ∧ P (cj_A σ a2 x1.toNatClampNeg) σ))))) : cs_Th_at E σ x0 x1 P :=
  cj_enter (k := 0) (lv := [(0, .ref x0), (1, .int x1)]) (by decide) (Nat.le_of_ble_eq_true rfl) rfl (by
    intro d hd p e s m args below meth c hcx H locs ls hW hS hl
    have hx := hcx.1
    have hb := hcx.2.1
    have hown := hcx.2.2.2.2.2.1
    have hts := hcx.2.2.2.2.2.2.1
    refine lv_aload_n (pc := 0) hx hb dX11_at_0 rfl (lv_at hl 0 rfl) ?_
    obtain ⟨g1, h⟩ := h
    refine cj_fld (pc := 1) hcx hW 8 g1 (by decide) rfl in_X11 0 (by decide) (by decide) q562 dX11_at_1 (v := va_rf (cj_R σ 900 x0)) rfl ?_
    refine lv_iload_n (pc := 4) hx hb dX11_at_4 rfl (lv_at hl 1 rfl) ?_
    obtain ⟨a2, e3, h⟩ := h
    refine cj_stk (st' := [.int x1, .ref a2]) (by rw [e3]; rfl) ?_
    obtain ⟨g4, h⟩ := h
    obtain ⟨g5, h⟩ := h
    refine cj_iald (pc := 5) hcx hW g4 g5 dX11_at_5 ?_
    exact cj_reti (pc := 6) hcx hW hS rfl h (Nat.le_refl _) (Nat.le_refl _) dX11_at_6)
/-! Th_width -/
set_option maxHeartbeats 4000000 in
set_option maxRecDepth 100000 in
theorem cb_Th_width {E : cj_E} {σ : cj_S} {x0 : Nat} {P : Int32 → cj_S → Prop} (h : P (3 : Int32) σ) : cs_Th_width E σ x0 P :=
  cj_enter (k := 0) (lv := [(0, .ref x0)]) (by decide) (Nat.le_of_ble_eq_true rfl) rfl (by
    intro d hd p e s m args below meth c hcx H locs ls hW hS hl
    have hx := hcx.1
    have hb := hcx.2.1
    have hown := hcx.2.2.2.2.2.1
    have hts := hcx.2.2.2.2.2.2.1
    refine lv_iconst (pc := 0) (v := (3 : Int32)) hx hb dX11_width_0 (by decide) ?_
    exact cj_reti (pc := 1) hcx hW hS rfl h (Nat.le_refl _) (Nat.le_refl _) dX11_width_1)
/-! Thr_init -/
set_option maxHeartbeats 4000000 in
set_option maxRecDepth 100000 in
theorem cb_Thr_init {E : cj_E} {σ : cj_S} {x0 : Nat} {x1 : Option Nat} {x2 : Option Nat} {x3 : Int32} {x4 : Int32} {P : cj_S → Prop} (h : (cj_T σ x0 = 5 ∧ (∀ r2 : Option Nat, (∀ r3 : Option Nat, ((x4 = 0 → ((x3 = 0 → P (cj_sR (cj_sR (cj_sR (cj_sR (cj_sR (cj_sR (cj_sR σ 500 x0 (some x0)) 501 x0 r2) 502 x0 r3) 501 x0 none) 503 x0 x1) 500 x0 x2) 502 x0 none)) ∧ (¬ x3 = 0 → P (cj_sR (cj_sR (cj_sR (cj_sR (cj_sR (cj_sR σ 500 x0 (some x0)) 501 x0 r2) 502 x0 r3) 501 x0 none) 503 x0 x1) 500 x0 x2)))) ∧ (¬ x4 = 0 → False)))))) : cs_Thr_init E σ x0 x1 x2 x3 x4 P :=
  cj_enter (k := 0) (lv := [(0, .ref x0), (1, va_rf x1), (2, va_rf x2), (3, .int x3), (4, .int x4)]) (by decide) (by cases x1 <;> cases x2 <;> exact Nat.le_of_ble_eq_true rfl) (by cases x1 <;> cases x2 <;> rfl) (by
    intro d hd p e s m args below meth c hcx H locs ls hW hS hl
    have hx := hcx.1
    have hb := hcx.2.1
    have hown := hcx.2.2.2.2.2.1
    have hts := hcx.2.2.2.2.2.2.1
    refine lv_aload_n (pc := 0) hx hb dJ0_init_2_0 rfl (lv_at hl 0 rfl) ?_
    refine cj_objInit (pc := 1) hcx hl.1 q416 q171 q172 dJ0_init_2_1 (Nat.le_add_left 1 _) (cj_lr (Nat.le_of_ble_eq_true rfl)) ?_
    refine lv_aload_n (pc := 4) hx hb dJ0_init_2_4 rfl (lv_at hl 0 rfl) ?_
    refine lv_aload_n (pc := 5) hx hb dJ0_init_2_5 rfl (lv_at hl 0 rfl) ?_
    obtain ⟨g1, h⟩ := h
    refine cj_put (pc := 6) (σ1 := (cj_sR σ 500 x0 (some x0))) hcx hW hS 4 g1 (by decide) rfl in_X6 tyX6_ok nmX6 0 (by decide) (by decide) rfl (cj_nR _ (some x0)) (cj_fR _ (some x0)) (cj_pR (x := (some x0)) rfl) q445 dJ0_init_2_6 (fun H locs hW hS => ?_)
    refine lv_aload_n (pc := 9) hx hb dJ0_init_2_9 rfl (lv_at hl 0 rfl) ?_
    refine cj_gets (pc := 10) hcx hW hS hcx.2.2.2.2.2.2.2.1.2.2.2.2.2.2.1 q417 dJ0_init_2_10 (fun r2 => ?_)
    have h := h r2
    refine cj_put (pc := 13) (σ1 := (cj_sR (cj_sR σ 500 x0 (some x0)) 501 x0 r2)) hcx hW hS 4 g1 (by decide) rfl in_X6 tyX6_ok nmX6 1 (by decide) (by decide) rfl (cj_nRa _ r2) (cj_fRa _ r2) (cj_pR (x := r2) rfl) q446 dJ0_init_2_13 (fun H locs hW hS => ?_)
    refine lv_aload_n (pc := 16) hx hb dJ0_init_2_16 rfl (lv_at hl 0 rfl) ?_
    refine cj_gets (pc := 17) hcx hW hS hcx.2.2.2.2.2.2.2.1.2.2.2.2.2.2.2.1 q419 dJ0_init_2_17 (fun r3 => ?_)
    have h := h r3
    refine cj_put (pc := 20) (σ1 := (cj_sR (cj_sR (cj_sR σ 500 x0 (some x0)) 501 x0 r2) 502 x0 r3)) hcx hW hS 4 g1 (by decide) rfl in_X6 tyX6_ok nmX6 2 (by decide) (by decide) rfl (cj_nR _ r3) (cj_fR _ r3) (cj_pR (x := r3) rfl) q447 dJ0_init_2_20 (fun H locs hW hS => ?_)
    refine lv_iload (pc := 23) hx hb dJ0_init_2_23 (lv_at hl 4 rfl) ?_
    refine lv_if_eq (pc := 25) (tgt := 36) hx hb dJ0_init_2_25 (by decide) (fun c4 => ?_) (fun c4 => ?_)
    · have h := h.1 c4
      refine lv_aload_n (pc := 36) hx hb dJ0_init_2_36 rfl (lv_at hl 0 rfl) ?_
      refine lv_null (pc := 37) hx hb dJ0_init_2_37 ?_
      refine cj_put (pc := 38) (σ1 := (cj_sR (cj_sR (cj_sR (cj_sR σ 500 x0 (some x0)) 501 x0 r2) 502 x0 r3) 501 x0 none)) hcx hW hS 4 g1 (by decide) rfl in_X6 tyX6_ok nmX6 1 (by decide) (by decide) rfl (cj_nRa _ none) (cj_fRa _ none) (cj_pR (x := none) rfl) q446 dJ0_init_2_38 (fun H locs hW hS => ?_)
      refine lv_aload_n (pc := 41) hx hb dJ0_init_2_41 rfl (lv_at hl 0 rfl) ?_
      refine cj_aload_n (pc := 42) hx hb dJ0_init_2_42 rfl (lv_at hl 1 rfl) ?_
      refine cj_put (pc := 43) (σ1 := (cj_sR (cj_sR (cj_sR (cj_sR (cj_sR σ 500 x0 (some x0)) 501 x0 r2) 502 x0 r3) 501 x0 none) 503 x0 x1)) hcx hW hS 4 g1 (by decide) rfl in_X6 tyX6_ok nmX6 3 (by decide) (by decide) rfl (cj_nR _ x1) (cj_fR _ x1) (cj_pR (x := x1) rfl) q444 dJ0_init_2_43 (fun H locs hW hS => ?_)
      refine lv_aload_n (pc := 46) hx hb dJ0_init_2_46 rfl (lv_at hl 0 rfl) ?_
      refine cj_aload_n (pc := 47) hx hb dJ0_init_2_47 rfl (lv_at hl 2 rfl) ?_
      refine cj_put (pc := 48) (σ1 := (cj_sR (cj_sR (cj_sR (cj_sR (cj_sR (cj_sR σ 500 x0 (some x0)) 501 x0 r2) 502 x0 r3) 501 x0 none) 503 x0 x1) 500 x0 x2)) hcx hW hS 4 g1 (by decide) rfl in_X6 tyX6_ok nmX6 0 (by decide) (by decide) rfl (cj_nR _ x2) (cj_fR _ x2) (cj_pR (x := x2) rfl) q445 dJ0_init_2_48 (fun H locs hW hS => ?_)
      refine lv_iload_n (pc := 51) hx hb dJ0_init_2_51 rfl (lv_at hl 3 rfl) ?_
      refine lv_if_ne (pc := 52) (tgt := 60) hx hb dJ0_init_2_52 (by decide) (fun c5 => ?_) (fun c5 => ?_)
      · have h := h.2 c5
        exact cj_retv (pc := 60) hcx hW hS h (Nat.le_refl _) (Nat.le_refl _) dJ0_init_2_60
      · have h := h.1 c5
        refine lv_aload_n (pc := 55) hx hb dJ0_init_2_55 rfl (lv_at hl 0 rfl) ?_
        refine lv_null (pc := 56) hx hb dJ0_init_2_56 ?_
        refine cj_put (pc := 57) (σ1 := (cj_sR (cj_sR (cj_sR (cj_sR (cj_sR (cj_sR (cj_sR σ 500 x0 (some x0)) 501 x0 r2) 502 x0 r3) 501 x0 none) 503 x0 x1) 500 x0 x2) 502 x0 none)) hcx hW hS 4 g1 (by decide) rfl in_X6 tyX6_ok nmX6 2 (by decide) (by decide) rfl (cj_nR _ none) (cj_fR _ none) (cj_pR (x := none) rfl) q447 dJ0_init_2_57 (fun H locs hW hS => ?_)
        exact cj_retv (pc := 60) hcx hW hS h (Nat.le_refl _) (Nat.le_refl _) dJ0_init_2_60
    · have h := h.2 c4
      refine lv_aload_n (pc := 28) hx hb dJ0_init_2_28 rfl (lv_at hl 0 rfl) ?_
      exact h.elim)
/-! Tw_at -/
set_option maxHeartbeats 4000000 in
set_option maxRecDepth 100000 in
theorem cb_Tw_at {E : cj_E} {σ : cj_S} {x0 : Nat} {x1 : Int32} {P : Int32 → cj_S → Prop} (h : ((x1 = 0 → (cj_T σ x0 = 8 ∧ P (cj_F σ 800 x0) σ)) ∧ (¬ x1 = 0 → (cj_T σ x0 = 8 ∧ P (cj_F σ 801 x0) σ)))) : cs_Tw_at E σ x0 x1 P :=
  cj_enter (k := 0) (lv := [(0, .ref x0), (1, .int x1)]) (by decide) (Nat.le_of_ble_eq_true rfl) rfl (by
    intro d hd p e s m args below meth c hcx H locs ls hW hS hl
    have hx := hcx.1
    have hb := hcx.2.1
    have hown := hcx.2.2.2.2.2.1
    have hts := hcx.2.2.2.2.2.2.1
    refine lv_iload_n (pc := 0) hx hb dX10_at_0 rfl (lv_at hl 1 rfl) ?_
    refine lv_if_ne (pc := 1) (tgt := 11) hx hb dX10_at_1 (by decide) (fun c1 => ?_) (fun c1 => ?_)
    · have h := h.2 c1
      refine lv_aload_n (pc := 11) hx hb dX10_at_11 rfl (lv_at hl 0 rfl) ?_
      obtain ⟨g2, h⟩ := h
      refine cj_fld (pc := 12) hcx hW 7 g2 (by decide) rfl in_X10 1 (by decide) (by decide) q546 dX10_at_12 (v := .int (cj_F σ 801 x0)) rfl ?_
      exact cj_reti (pc := 15) hcx hW hS rfl h (Nat.le_refl _) (Nat.le_refl _) dX10_at_15
    · have h := h.1 c1
      refine lv_aload_n (pc := 4) hx hb dX10_at_4 rfl (lv_at hl 0 rfl) ?_
      obtain ⟨g3, h⟩ := h
      refine cj_fld (pc := 5) hcx hW 7 g3 (by decide) rfl in_X10 0 (by decide) (by decide) q545 dX10_at_5 (v := .int (cj_F σ 800 x0)) rfl ?_
      refine lv_goto (pc := 8) (tgt := 15) hx hb dX10_at_8 (by decide) ?_
      exact cj_reti (pc := 15) hcx hW hS rfl h (Nat.le_refl _) (Nat.le_refl _) dX10_at_15)
/-! Tw_width -/
set_option maxHeartbeats 4000000 in
set_option maxRecDepth 100000 in
theorem cb_Tw_width {E : cj_E} {σ : cj_S} {x0 : Nat} {P : Int32 → cj_S → Prop} (h : P (2 : Int32) σ) : cs_Tw_width E σ x0 P :=
  cj_enter (k := 0) (lv := [(0, .ref x0)]) (by decide) (Nat.le_of_ble_eq_true rfl) rfl (by
    intro d hd p e s m args below meth c hcx H locs ls hW hS hl
    have hx := hcx.1
    have hb := hcx.2.1
    have hown := hcx.2.2.2.2.2.1
    have hts := hcx.2.2.2.2.2.2.1
    refine lv_iconst (pc := 0) (v := (2 : Int32)) hx hb dX10_width_0 (by decide) ?_
    exact cj_reti (pc := 1) hcx hW hS rfl h (Nat.le_refl _) (Nat.le_refl _) dX10_width_1)
/-! Exc_init -/
set_option maxHeartbeats 4000000 in
set_option maxRecDepth 100000 in
theorem cb_Exc_init {E : cj_E} {σ : cj_S} {x0 : Nat} {x1 : Option Nat} {x2 : Option Nat} {x3 : Int32} {x4 : Int32} {P : cj_S → Prop} (h : cs_Thr_init E σ x0 x1 x2 x3 x4 (fun σ2 => P σ2)) : cs_Exc_init E σ x0 x1 x2 x3 x4 P :=
  cj_enter (k := 1) (lv := [(0, .ref x0), (1, va_rf x1), (2, va_rf x2), (3, .int x3), (4, .int x4)]) (by decide) (by cases x1 <;> cases x2 <;> exact Nat.le_of_ble_eq_true rfl) (by cases x1 <;> cases x2 <;> rfl) (by
    intro d hd p e s m args below meth c hcx H locs ls hW hS hl
    have hx := hcx.1
    have hb := hcx.2.1
    have hown := hcx.2.2.2.2.2.1
    have hts := hcx.2.2.2.2.2.2.1
    refine lv_aload_n (pc := 0) hx hb dJ1_init_0 rfl (lv_at hl 0 rfl) ?_
    refine cj_aload_n (pc := 1) hx hb dJ1_init_1 rfl (lv_at hl 1 rfl) ?_
    refine cj_aload_n (pc := 2) hx hb dJ1_init_2 rfl (lv_at hl 2 rfl) ?_
    refine lv_iload_n (pc := 3) hx hb dJ1_init_3 rfl (lv_at hl 3 rfl) ?_
    refine lv_iload (pc := 4) hx hb dJ1_init_4 (lv_at hl 4 rfl) ?_
    refine cj_xv (pc := 6) (cj_runI hcx hW hS [va_rf x1, va_rf x2, .int x3, .int x4] h (Nat.le_trans (by decide) hd) q438 q439 q127 q440 rfl yd_Thr_init (by decide) rfl rfl (Nat.le_of_ble_eq_true rfl) hl.1 (Nat.le_refl _) (Nat.le_refl _) dJ1_init_6) hS (fun σ2 h H locs hW hS => ?_)
    exact cj_retv (pc := 9) hcx hW hS h (Nat.le_refl _) (Nat.le_refl _) dJ1_init_9)
/-! Jn_against -/
set_option maxHeartbeats 4000000 in
set_option maxRecDepth 100000 in
theorem cb_Jn_against_2 {E : cj_E} {σ : cj_S} {x0 : Nat} {x1 : Int32} {x2 : Option Nat} {x3 : Int32} {P : Int32 → cj_S → Prop} (h : (cj_T σ x0 = 3 ∧ (((cj_F σ 310 x0) ≤ x3 → P (0 : Int32) σ) ∧ (¬ (cj_F σ 310 x0) ≤ x3 → (∃ a3, (cj_R σ 302 x0) = some a3 ∧ (cj_T σ a3 = 21 ∧ (vp_in x3 (cj_N σ a3) ∧ cs_Jn_at E σ x0 x1 (cj_A σ a3 x3.toNatClampNeg) (fun r7 σ8 => (cj_T σ8 x0 = 3 ∧ (∃ a10, (cj_R σ8 302 x0) = some a10 ∧ (cj_T σ8 a10 = 21 ∧ (vp_in x3 (cj_N σ8 a10) ∧ (∃ a14, x2 = some a14 ∧ (cj_T σ8 a14 = 21 ∧ (vp_in (cj_A σ8 a10 x3.toNatClampNeg) (cj_N σ8 a14) ∧ ((r7 = (cj_A σ8 a14 (cj_A σ8 a10 x3.toNatClampNeg).toNatClampNeg) → cg_Jn_against_2 E σ8 x0 x1 x2 (x3 + (1 : Int32)) P) ∧ (¬ r7 = (cj_A σ8 a14 (cj_A σ8 a10 x3.toNatClampNeg).toNatClampNeg) → (vp_in x3 (cj_N σ8 a10) ∧ cs_Jn_at E σ8 x0 x1 (cj_A σ8 a10 x3.toNatClampNeg) (fun r20 σ21 => (cj_T σ21 x0 = 3 ∧ (∃ a23, (cj_R σ21 302 x0) = some a23 ∧ (cj_T σ21 a23 = 21 ∧ (vp_in x3 (cj_N σ21 a23) ∧ (cj_T σ21 a14 = 21 ∧ (vp_in (cj_A σ21 a23 x3.toNatClampNeg) (cj_N σ21 a14) ∧ (((cj_A σ21 a14 (cj_A σ21 a23 x3.toNatClampNeg).toNatClampNeg) ≤ r20 → P (1 : Int32) σ21) ∧ (¬ (cj_A σ21 a14 (cj_A σ21 a23 x3.toNatClampNeg).toNatClampNeg) ≤ r20 → P (-1 : Int32) σ21))))))))))))))))))))))))))) : cg_Jn_against_2 E σ x0 x1 x2 x3 P := by
  intro d hd p e s m args below meth c hcx H locs ls hW hS hl
  have hx := hcx.1
  have hb := hcx.2.1
  have hown := hcx.2.2.2.2.2.1
  have hts := hcx.2.2.2.2.2.2.1
  refine lv_iload_n (pc := 2) hx hb dX3_against_2 rfl (lv_at hl 3 rfl) ?_
  refine lv_aload_n (pc := 3) hx hb dX3_against_3 rfl (lv_at hl 0 rfl) ?_
  obtain ⟨g1, h⟩ := h
  refine cj_fld (pc := 4) hcx hW 2 g1 (by decide) rfl in_X3 10 (by decide) (by decide) q240 dX3_against_4 (v := .int (cj_F σ 310 x0)) rfl ?_
  refine lv_icmp_ge (pc := 7) (tgt := 66) hx hb dX3_against_7 (by decide) (fun c2 => ?_) (fun c2 => ?_)
  · have h := h.1 c2
    refine lv_iconst (pc := 66) (v := (0 : Int32)) hx hb dX3_against_66 (by decide) ?_
    exact cj_reti (pc := 67) hcx hW hS rfl h (Nat.le_refl _) (Nat.le_refl _) dX3_against_67
  · have h := h.2 c2
    refine lv_aload_n (pc := 10) hx hb dX3_against_10 rfl (lv_at hl 0 rfl) ?_
    refine lv_iload_n (pc := 11) hx hb dX3_against_11 rfl (lv_at hl 1 rfl) ?_
    refine lv_aload_n (pc := 12) hx hb dX3_against_12 rfl (lv_at hl 0 rfl) ?_
    refine cj_fld (pc := 13) hcx hW 2 g1 (by decide) rfl in_X3 2 (by decide) (by decide) q229 dX3_against_13 (v := va_rf (cj_R σ 302 x0)) rfl ?_
    refine lv_iload_n (pc := 16) hx hb dX3_against_16 rfl (lv_at hl 3 rfl) ?_
    obtain ⟨a3, e4, h⟩ := h
    refine cj_stk (st' := [.int x3, .ref a3, .int x1, .ref x0]) (by rw [e4]; rfl) ?_
    obtain ⟨g5, h⟩ := h
    obtain ⟨g6, h⟩ := h
    refine cj_iald (pc := 17) hcx hW g5 g6 dX3_against_17 ?_
    refine cj_xi (pc := 18) (cj_runV hcx hW hS 2 g1 (by decide) rfl [.int x1, .int (cj_A σ a3 x3.toNatClampNeg)] h (Nat.le_trans (by decide) hd) (lw_V q1058 q995 q996 q124 q997) rfl yd_Jn_at (by decide) rfl rfl (Nat.le_of_ble_eq_true rfl) hl.1 (Nat.le_refl _) (Nat.le_refl _) dX3_against_18) hS (fun r7 σ8 h H locs hW hS => ?_)
    refine cj_aload_n (pc := 21) hx hb dX3_against_21 rfl (lv_at hl 2 rfl) ?_
    refine lv_aload_n (pc := 22) hx hb dX3_against_22 rfl (lv_at hl 0 rfl) ?_
    obtain ⟨g9, h⟩ := h
    refine cj_fld (pc := 23) hcx hW 2 g9 (by decide) rfl in_X3 2 (by decide) (by decide) q229 dX3_against_23 (v := va_rf (cj_R σ8 302 x0)) rfl ?_
    refine lv_iload_n (pc := 26) hx hb dX3_against_26 rfl (lv_at hl 3 rfl) ?_
    obtain ⟨a10, e11, h⟩ := h
    refine cj_stk (st' := [.int x3, .ref a10, va_rf x2, .int r7]) (by rw [e11]; rfl) ?_
    obtain ⟨g12, h⟩ := h
    obtain ⟨g13, h⟩ := h
    refine cj_iald (pc := 27) hcx hW g12 g13 dX3_against_27 ?_
    obtain ⟨a14, e15, h⟩ := h
    refine cj_stk (st' := [.int (cj_A σ8 a10 x3.toNatClampNeg), .ref a14, .int r7]) (by rw [e15]; rfl) ?_
    obtain ⟨g16, h⟩ := h
    obtain ⟨g17, h⟩ := h
    refine cj_iald (pc := 28) hcx hW g16 g17 dX3_against_28 ?_
    refine lv_icmp_eq (pc := 29) (tgt := 60) hx hb dX3_against_29 (by decide) (fun c18 => ?_) (fun c18 => ?_)
    · have h := h.1 c18
      refine lv_iinc (pc := 60) (v := (x3 + (1 : Int32))) (lv' := [(3, .int (x3 + (1 : Int32))), (0, .ref x0), (1, .int x1), (2, va_rf x2)]) hx hb dX3_against_60 hl (k := 3) rfl rfl (by decide) (by generalize x2 = z; cases z <;> rfl) (fun ls hl => ?_)
      refine lv_goto (pc := 63) (tgt := 2) hx hb dX3_against_63 (by decide) ?_
      exact h d hd p e s m args below meth c hcx H locs _ hW hS (lv_sub hl [1, 2, 3, 0] rfl)
    · have h := h.2 c18
      refine lv_aload_n (pc := 32) hx hb dX3_against_32 rfl (lv_at hl 0 rfl) ?_
      refine lv_iload_n (pc := 33) hx hb dX3_against_33 rfl (lv_at hl 1 rfl) ?_
      refine lv_aload_n (pc := 34) hx hb dX3_against_34 rfl (lv_at hl 0 rfl) ?_
      refine cj_fld (pc := 35) hcx hW 2 g9 (by decide) rfl in_X3 2 (by decide) (by decide) q229 dX3_against_35 (v := va_rf (cj_R σ8 302 x0)) rfl ?_
      refine lv_iload_n (pc := 38) hx hb dX3_against_38 rfl (lv_at hl 3 rfl) ?_
      refine cj_stk (st' := [.int x3, .ref a10, .int x1, .ref x0]) (by rw [e11]; rfl) ?_
      obtain ⟨g19, h⟩ := h
      refine cj_iald (pc := 39) hcx hW g12 g19 dX3_against_39 ?_
      refine cj_xi (pc := 40) (cj_runV hcx hW hS 2 g9 (by decide) rfl [.int x1, .int (cj_A σ8 a10 x3.toNatClampNeg)] h (Nat.le_trans (by decide) hd) (lw_V q1058 q995 q996 q124 q997) rfl yd_Jn_at (by decide) rfl rfl (Nat.le_of_ble_eq_true rfl) hl.1 (Nat.le_refl _) (Nat.le_refl _) dX3_against_40) hS (fun r20 σ21 h H locs hW hS => ?_)
      refine cj_aload_n (pc := 43) hx hb dX3_against_43 rfl (lv_at hl 2 rfl) ?_
      refine lv_aload_n (pc := 44) hx hb dX3_against_44 rfl (lv_at hl 0 rfl) ?_
      obtain ⟨g22, h⟩ := h
      refine cj_fld (pc := 45) hcx hW 2 g22 (by decide) rfl in_X3 2 (by decide) (by decide) q229 dX3_against_45 (v := va_rf (cj_R σ21 302 x0)) rfl ?_
      refine lv_iload_n (pc := 48) hx hb dX3_against_48 rfl (lv_at hl 3 rfl) ?_
      obtain ⟨a23, e24, h⟩ := h
      refine cj_stk (st' := [.int x3, .ref a23, va_rf x2, .int r20]) (by rw [e24]; rfl) ?_
      obtain ⟨g25, h⟩ := h
      obtain ⟨g26, h⟩ := h
      refine cj_iald (pc := 49) hcx hW g25 g26 dX3_against_49 ?_
      refine cj_stk (st' := [.int (cj_A σ21 a23 x3.toNatClampNeg), .ref a14, .int r20]) (by rw [e15]; rfl) ?_
      obtain ⟨g27, h⟩ := h
      obtain ⟨g28, h⟩ := h
      refine cj_iald (pc := 50) hcx hW g27 g28 dX3_against_50 ?_
      refine lv_icmp_ge (pc := 51) (tgt := 58) hx hb dX3_against_51 (by decide) (fun c29 => ?_) (fun c29 => ?_)
      · have h := h.1 c29
        refine lv_iconst (pc := 58) (v := (1 : Int32)) hx hb dX3_against_58 (by decide) ?_
        exact cj_reti (pc := 59) hcx hW hS rfl h (Nat.le_refl _) (Nat.le_refl _) dX3_against_59
      · have h := h.2 c29
        refine lv_iconst (pc := 54) (v := (-1 : Int32)) hx hb dX3_against_54 (by decide) ?_
        refine lv_goto (pc := 55) (tgt := 59) hx hb dX3_against_55 (by decide) ?_
        exact cj_reti (pc := 59) hcx hW hS rfl h (Nat.le_refl _) (Nat.le_refl _) dX3_against_59
set_option maxHeartbeats 4000000 in
set_option maxRecDepth 100000 in
theorem cb_Jn_against {E : cj_E} {σ : cj_S} {x0 : Nat} {x1 : Int32} {x2 : Option Nat} {P : Int32 → cj_S → Prop} (h : cg_Jn_against_2 E σ x0 x1 x2 (0 : Int32) P) : cs_Jn_against E σ x0 x1 x2 P :=
  cj_enter (k := 1) (lv := [(0, .ref x0), (1, .int x1), (2, va_rf x2)]) (by decide) (by cases x2 <;> exact Nat.le_of_ble_eq_true rfl) (by cases x2 <;> rfl) (by
    intro d hd p e s m args below meth c hcx H locs ls hW hS hl
    have hx := hcx.1
    have hb := hcx.2.1
    have hown := hcx.2.2.2.2.2.1
    have hts := hcx.2.2.2.2.2.2.1
    refine lv_iconst (pc := 0) (v := (0 : Int32)) hx hb dX3_against_0 (by decide) ?_
    refine lv_istore_n (pc := 1) (lv' := [(3, .int (0 : Int32)), (0, .ref x0), (1, .int x1), (2, va_rf x2)]) hx hb dX3_against_1 rfl hl (by decide) (by generalize x2 = z; cases z <;> rfl) (fun ls hl => ?_)
    exact h d hd p e s m args below meth c hcx H locs _ hW hS (lv_sub hl [1, 2, 3, 0] rfl))
/-! Jn_isHere -/
set_option maxHeartbeats 4000000 in
set_option maxRecDepth 100000 in
theorem cb_Jn_isHere {E : cj_E} {σ : cj_S} {x0 : Nat} {x1 : Int32} {x2 : Int32} {P : Int32 → cj_S → Prop} (h : (cj_T σ x0 = 3 ∧ (∃ a2, (cj_R σ 307 x0) = some a2 ∧ (cj_T σ a2 = 2 ∧ cs_L_has E σ (cj_F σ 202 a2) x2 (fun r5 σ6 => ((r5 = 0 → P (0 : Int32) σ6) ∧ (¬ r5 = 0 → (cj_T σ6 x0 = 3 ∧ (∃ a9, (cj_R σ6 307 x0) = some a9 ∧ (cj_T σ6 a9 = 2 ∧ (∃ a12, (cj_R σ6 200 a9) = some a12 ∧ (cj_T σ6 a12 = 26 ∧ (vp_in x2 (cj_N σ6 a12) ∧ (∃ a16, (cj_B σ6 a12 x2.toNatClampNeg) = some a16 ∧ (cj_T σ6 a16 = 6 ∧ cs_Tb_set E σ6 a16 (fun r18 σ19 => (cj_T σ19 x0 = 3 ∧ (∃ a22, (cj_R σ19 302 x0) = some a22 ∧ (cj_T σ19 a22 = 21 ∧ (vp_in x1 (cj_N σ19 a22) ∧ cs_L_has E σ19 r18 (cj_A σ19 a22 x1.toNatClampNeg) (fun r26 σ27 => ((r26 = 0 → P (0 : Int32) σ27) ∧ (¬ r26 = 0 → P (1 : Int32) σ27))))))))))))))))))))))) : cs_Jn_isHere E σ x0 x1 x2 P :=
  cj_enter (k := 1) (lv := [(0, .ref x0), (1, .int x1), (2, .int x2)]) (by decide) (Nat.le_of_ble_eq_true rfl) rfl (by
    intro d hd p e s m args below meth c hcx H locs ls hW hS hl
    have hx := hcx.1
    have hb := hcx.2.1
    have hown := hcx.2.2.2.2.2.1
    have hts := hcx.2.2.2.2.2.2.1
    refine lv_aload_n (pc := 0) hx hb dX3_isHere_0 rfl (lv_at hl 0 rfl) ?_
    obtain ⟨g1, h⟩ := h
    refine cj_fld (pc := 1) hcx hW 2 g1 (by decide) rfl in_X3 7 (by decide) (by decide) q235 dX3_isHere_1 (v := va_rf (cj_R σ 307 x0)) rfl ?_
    obtain ⟨a2, e3, h⟩ := h
    refine cj_stk (st' := [.ref a2]) (by rw [e3]; rfl) ?_
    obtain ⟨g4, h⟩ := h
    refine cj_fldN (pc := 4) hcx hW 1 g4 (by decide) rfl in_X2 2 (by decide) (by decide) (List.mem_of_getElem? (i := 20) rfl) dX3_isHere_4 (v := .int (cj_F σ 202 a2)) rfl ?_
    refine lv_iload_n (pc := 7) hx hb dX3_isHere_7 rfl (lv_at hl 2 rfl) ?_
    refine cj_xi (pc := 8) (cj_runSN hcx hW hS [.int (cj_F σ 202 a2), .int x2] h (Nat.le_trans (by decide) hd) (List.mem_of_getElem? (i := 7) rfl) q387 q122 q388 yd_L_has (by decide) rfl rfl (Nat.le_of_ble_eq_true rfl) hl.1 (Nat.le_refl _) (Nat.le_refl _) dX3_isHere_8) hS (fun r5 σ6 h H locs hW hS => ?_)
    refine lv_if_eq (pc := 11) (tgt := 42) hx hb dX3_isHere_11 (by decide) (fun c7 => ?_) (fun c7 => ?_)
    · have h := h.1 c7
      refine lv_iconst (pc := 42) (v := (0 : Int32)) hx hb dX3_isHere_42 (by decide) ?_
      exact cj_reti (pc := 43) hcx hW hS rfl h (Nat.le_refl _) (Nat.le_refl _) dX3_isHere_43
    · have h := h.2 c7
      refine lv_aload_n (pc := 14) hx hb dX3_isHere_14 rfl (lv_at hl 0 rfl) ?_
      obtain ⟨g8, h⟩ := h
      refine cj_fld (pc := 15) hcx hW 2 g8 (by decide) rfl in_X3 7 (by decide) (by decide) q235 dX3_isHere_15 (v := va_rf (cj_R σ6 307 x0)) rfl ?_
      obtain ⟨a9, e10, h⟩ := h
      refine cj_stk (st' := [.ref a9]) (by rw [e10]; rfl) ?_
      obtain ⟨g11, h⟩ := h
      refine cj_fldN (pc := 18) hcx hW 1 g11 (by decide) rfl in_X2 0 (by decide) (by decide) (List.mem_of_getElem? (i := 19) rfl) dX3_isHere_18 (v := va_rf (cj_R σ6 200 a9)) rfl ?_
      refine lv_iload_n (pc := 21) hx hb dX3_isHere_21 rfl (lv_at hl 2 rfl) ?_
      obtain ⟨a12, e13, h⟩ := h
      refine cj_stk (st' := [.int x2, .ref a12]) (by rw [e13]; rfl) ?_
      obtain ⟨g14, h⟩ := h
      obtain ⟨g15, h⟩ := h
      refine cj_aald (pc := 22) hcx hW g14 (by unfold cj_rt; decide) g15 dX3_isHere_22 ?_
      obtain ⟨a16, e17, h⟩ := h
      refine cj_stk (st' := [.ref a16]) (by rw [e17]; rfl) ?_
      obtain ⟨g20, h⟩ := h
      refine cj_xi (pc := 23) (cj_runV hcx hW hS 5 g20 (by decide) rfl [] h (Nat.le_trans (by decide) hd) (lw_V q876 q856 q857 q131 q858) rfl yd_Tb_set (by decide) rfl rfl (Nat.le_of_ble_eq_true rfl) hl.1 (Nat.le_refl _) (Nat.le_refl _) dX3_isHere_23) hS (fun r18 σ19 h H locs hW hS => ?_)
      refine lv_aload_n (pc := 26) hx hb dX3_isHere_26 rfl (lv_at hl 0 rfl) ?_
      obtain ⟨g21, h⟩ := h
      refine cj_fld (pc := 27) hcx hW 2 g21 (by decide) rfl in_X3 2 (by decide) (by decide) q229 dX3_isHere_27 (v := va_rf (cj_R σ19 302 x0)) rfl ?_
      refine lv_iload_n (pc := 30) hx hb dX3_isHere_30 rfl (lv_at hl 1 rfl) ?_
      obtain ⟨a22, e23, h⟩ := h
      refine cj_stk (st' := [.int x1, .ref a22, .int r18]) (by rw [e23]; rfl) ?_
      obtain ⟨g24, h⟩ := h
      obtain ⟨g25, h⟩ := h
      refine cj_iald (pc := 31) hcx hW g24 g25 dX3_isHere_31 ?_
      refine cj_xi (pc := 32) (cj_runSN hcx hW hS [.int r18, .int (cj_A σ19 a22 x1.toNatClampNeg)] h (Nat.le_trans (by decide) hd) (List.mem_of_getElem? (i := 7) rfl) q387 q122 q388 yd_L_has (by decide) rfl rfl (Nat.le_of_ble_eq_true rfl) hl.1 (Nat.le_refl _) (Nat.le_refl _) dX3_isHere_32) hS (fun r26 σ27 h H locs hW hS => ?_)
      refine lv_if_eq (pc := 35) (tgt := 42) hx hb dX3_isHere_35 (by decide) (fun c28 => ?_) (fun c28 => ?_)
      · have h := h.1 c28
        refine lv_iconst (pc := 42) (v := (0 : Int32)) hx hb dX3_isHere_42 (by decide) ?_
        exact cj_reti (pc := 43) hcx hW hS rfl h (Nat.le_refl _) (Nat.le_refl _) dX3_isHere_43
      · have h := h.2 c28
        refine lv_iconst (pc := 38) (v := (1 : Int32)) hx hb dX3_isHere_38 (by decide) ?_
        refine lv_goto (pc := 39) (tgt := 43) hx hb dX3_isHere_39 (by decide) ?_
        exact cj_reti (pc := 43) hcx hW hS rfl h (Nat.le_refl _) (Nat.le_refl _) dX3_isHere_43)
/-! Jn_leaps -/
set_option maxHeartbeats 4000000 in
set_option maxRecDepth 100000 in
theorem cb_Jn_leaps_10 {E : cj_E} {σ : cj_S} {x0 : Nat} {x1 : Int32} {x2 : Int32} {x3 : Int32} {P : Int32 → cj_S → Prop} (h : (cj_T σ x0 = 3 ∧ (∃ a2, (cj_R σ 306 x0) = some a2 ∧ (cj_T σ a2 = 23 ∧ (vp_in x1 (cj_N σ a2) ∧ (∃ a6, (cj_B σ a2 x1.toNatClampNeg) = some a6 ∧ (cj_T σ a6 = 21 ∧ (vp_in x2 (cj_N σ a6) ∧ (∃ a10, (cj_R σ 305 x0) = some a10 ∧ (cj_T σ a10 = 23 ∧ (vp_in x1 (cj_N σ a10) ∧ (∃ a14, (cj_B σ a10 x1.toNatClampNeg) = some a14 ∧ (cj_T σ a14 = 21 ∧ (vp_in x2 (cj_N σ a14) ∧ (((cj_A σ a14 x2.toNatClampNeg) ≤ (cj_A σ a6 x2.toNatClampNeg) → cg_Jn_leaps_54 E σ x0 x1 x2 P) ∧ (¬ (cj_A σ a14 x2.toNatClampNeg) ≤ (cj_A σ a6 x2.toNatClampNeg) → cs_Jn_keyOf E σ x0 x1 x2 (fun r19 σ20 => ((x3 ≤ r19 → cg_Jn_leaps_54 E σ20 x0 x1 x2 P) ∧ (¬ x3 ≤ r19 → (cj_T σ20 x0 = 3 ∧ (∃ a23, (cj_R σ20 306 x0) = some a23 ∧ (cj_T σ20 a23 = 23 ∧ (vp_in x1 (cj_N σ20 a23) ∧ (∃ a27, (cj_B σ20 a23 x1.toNatClampNeg) = some a27 ∧ (cj_T σ20 a27 = 21 ∧ (vp_in x2 (cj_N σ20 a27) ∧ (vp_in x2 (cj_N σ20 a27) ∧ cg_Jn_leaps_10 E (cj_sA σ20 a27 x2.toNatClampNeg ((cj_A σ20 a27 x2.toNatClampNeg) + (1 : Int32))) x0 x1 x2 x3 P))))))))))))))))))))))))))) : cg_Jn_leaps_10 E σ x0 x1 x2 x3 P := by
  intro d hd p e s m args below meth c hcx H locs ls hW hS hl
  have hx := hcx.1
  have hb := hcx.2.1
  have hown := hcx.2.2.2.2.2.1
  have hts := hcx.2.2.2.2.2.2.1
  refine lv_aload_n (pc := 10) hx hb dX3_leaps_10 rfl (lv_at hl 0 rfl) ?_
  obtain ⟨g1, h⟩ := h
  refine cj_fld (pc := 11) hcx hW 2 g1 (by decide) rfl in_X3 6 (by decide) (by decide) q234 dX3_leaps_11 (v := va_rf (cj_R σ 306 x0)) rfl ?_
  refine lv_iload_n (pc := 14) hx hb dX3_leaps_14 rfl (lv_at hl 1 rfl) ?_
  obtain ⟨a2, e3, h⟩ := h
  refine cj_stk (st' := [.int x1, .ref a2]) (by rw [e3]; rfl) ?_
  obtain ⟨g4, h⟩ := h
  obtain ⟨g5, h⟩ := h
  refine cj_aald (pc := 15) hcx hW g4 (by unfold cj_rt; decide) g5 dX3_leaps_15 ?_
  refine lv_iload_n (pc := 16) hx hb dX3_leaps_16 rfl (lv_at hl 2 rfl) ?_
  obtain ⟨a6, e7, h⟩ := h
  refine cj_stk (st' := [.int x2, .ref a6]) (by rw [e7]; rfl) ?_
  obtain ⟨g8, h⟩ := h
  obtain ⟨g9, h⟩ := h
  refine cj_iald (pc := 17) hcx hW g8 g9 dX3_leaps_17 ?_
  refine lv_aload_n (pc := 18) hx hb dX3_leaps_18 rfl (lv_at hl 0 rfl) ?_
  refine cj_fld (pc := 19) hcx hW 2 g1 (by decide) rfl in_X3 5 (by decide) (by decide) q233 dX3_leaps_19 (v := va_rf (cj_R σ 305 x0)) rfl ?_
  refine lv_iload_n (pc := 22) hx hb dX3_leaps_22 rfl (lv_at hl 1 rfl) ?_
  obtain ⟨a10, e11, h⟩ := h
  refine cj_stk (st' := [.int x1, .ref a10, .int (cj_A σ a6 x2.toNatClampNeg)]) (by rw [e11]; rfl) ?_
  obtain ⟨g12, h⟩ := h
  obtain ⟨g13, h⟩ := h
  refine cj_aald (pc := 23) hcx hW g12 (by unfold cj_rt; decide) g13 dX3_leaps_23 ?_
  refine lv_iload_n (pc := 24) hx hb dX3_leaps_24 rfl (lv_at hl 2 rfl) ?_
  obtain ⟨a14, e15, h⟩ := h
  refine cj_stk (st' := [.int x2, .ref a14, .int (cj_A σ a6 x2.toNatClampNeg)]) (by rw [e15]; rfl) ?_
  obtain ⟨g16, h⟩ := h
  obtain ⟨g17, h⟩ := h
  refine cj_iald (pc := 25) hcx hW g16 g17 dX3_leaps_25 ?_
  refine lv_icmp_ge (pc := 26) (tgt := 54) hx hb dX3_leaps_26 (by decide) (fun c18 => ?_) (fun c18 => ?_)
  · have h := h.1 c18
    exact h d hd p e s m args below meth c hcx H locs _ hW hS (lv_sub hl [0, 1, 2] rfl)
  · have h := h.2 c18
    refine lv_aload_n (pc := 29) hx hb dX3_leaps_29 rfl (lv_at hl 0 rfl) ?_
    refine lv_iload_n (pc := 30) hx hb dX3_leaps_30 rfl (lv_at hl 1 rfl) ?_
    refine lv_iload_n (pc := 31) hx hb dX3_leaps_31 rfl (lv_at hl 2 rfl) ?_
    refine cj_xi (pc := 32) (cj_runV hcx hW hS 2 g1 (by decide) rfl [.int x1, .int x2] h (Nat.le_trans (by decide) hd) (lw_V q895 q897 qs25 q124 q898) rfl yd_Jn_keyOf (by decide) rfl rfl (Nat.le_of_ble_eq_true rfl) hl.1 (Nat.le_refl _) (Nat.le_refl _) dX3_leaps_32) hS (fun r19 σ20 h H locs hW hS => ?_)
    refine lv_iload_n (pc := 35) hx hb dX3_leaps_35 rfl (lv_at hl 3 rfl) ?_
    refine lv_icmp_ge (pc := 36) (tgt := 54) hx hb dX3_leaps_36 (by decide) (fun c21 => ?_) (fun c21 => ?_)
    · have h := h.1 c21
      exact h d hd p e s m args below meth c hcx H locs _ hW hS (lv_sub hl [0, 1, 2] rfl)
    · have h := h.2 c21
      refine lv_aload_n (pc := 39) hx hb dX3_leaps_39 rfl (lv_at hl 0 rfl) ?_
      obtain ⟨g22, h⟩ := h
      refine cj_fld (pc := 40) hcx hW 2 g22 (by decide) rfl in_X3 6 (by decide) (by decide) q234 dX3_leaps_40 (v := va_rf (cj_R σ20 306 x0)) rfl ?_
      refine lv_iload_n (pc := 43) hx hb dX3_leaps_43 rfl (lv_at hl 1 rfl) ?_
      obtain ⟨a23, e24, h⟩ := h
      refine cj_stk (st' := [.int x1, .ref a23]) (by rw [e24]; rfl) ?_
      obtain ⟨g25, h⟩ := h
      obtain ⟨g26, h⟩ := h
      refine cj_aald (pc := 44) hcx hW g25 (by unfold cj_rt; decide) g26 dX3_leaps_44 ?_
      refine lv_iload_n (pc := 45) hx hb dX3_leaps_45 rfl (lv_at hl 2 rfl) ?_
      refine lv_dup2_11 (pc := 46) hx hb dX3_leaps_46 rfl (cj_cat _) ?_
      obtain ⟨a27, e28, h⟩ := h
      refine cj_stk (st' := [.int x2, .ref a27, .int x2, .ref a27]) (by rw [e28]; rfl) ?_
      obtain ⟨g29, h⟩ := h
      obtain ⟨g30, h⟩ := h
      refine cj_iald (pc := 47) hcx hW g29 g30 dX3_leaps_47 ?_
      refine lv_iconst (pc := 48) (v := (1 : Int32)) hx hb dX3_leaps_48 (by decide) ?_
      refine lv_iadd (pc := 49) hx hb dX3_leaps_49 ?_
      obtain ⟨g31, h⟩ := h
      refine cj_iast (pc := 50) hcx hW hS g29 g31 dX3_leaps_50 (fun H locs hW hS => ?_)
      refine lv_goto (pc := 51) (tgt := 10) hx hb dX3_leaps_51 (by decide) ?_
      exact h d hd p e s m args below meth c hcx H locs _ hW hS (lv_sub hl [0, 1, 2, 3] rfl)
set_option maxHeartbeats 4000000 in
set_option maxRecDepth 100000 in
theorem cb_Jn_leaps_54 {E : cj_E} {σ : cj_S} {x0 : Nat} {x1 : Int32} {x2 : Int32} {P : Int32 → cj_S → Prop} (h : (cj_T σ x0 = 3 ∧ (∃ a2, (cj_R σ 306 x0) = some a2 ∧ (cj_T σ a2 = 23 ∧ (vp_in x1 (cj_N σ a2) ∧ (∃ a6, (cj_B σ a2 x1.toNatClampNeg) = some a6 ∧ (cj_T σ a6 = 21 ∧ (vp_in x2 (cj_N σ a6) ∧ (∃ a10, (cj_R σ 305 x0) = some a10 ∧ (cj_T σ a10 = 23 ∧ (vp_in x1 (cj_N σ a10) ∧ (∃ a14, (cj_B σ a10 x1.toNatClampNeg) = some a14 ∧ (cj_T σ a14 = 21 ∧ (vp_in x2 (cj_N σ a14) ∧ (((cj_A σ a14 x2.toNatClampNeg) ≤ (cj_A σ a6 x2.toNatClampNeg) → P (0 : Int32) σ) ∧ (¬ (cj_A σ a14 x2.toNatClampNeg) ≤ (cj_A σ a6 x2.toNatClampNeg) → P (1 : Int32) σ)))))))))))))))) : cg_Jn_leaps_54 E σ x0 x1 x2 P := by
  intro d hd p e s m args below meth c hcx H locs ls hW hS hl
  have hx := hcx.1
  have hb := hcx.2.1
  have hown := hcx.2.2.2.2.2.1
  have hts := hcx.2.2.2.2.2.2.1
  refine lv_aload_n (pc := 54) hx hb dX3_leaps_54 rfl (lv_at hl 0 rfl) ?_
  obtain ⟨g1, h⟩ := h
  refine cj_fld (pc := 55) hcx hW 2 g1 (by decide) rfl in_X3 6 (by decide) (by decide) q234 dX3_leaps_55 (v := va_rf (cj_R σ 306 x0)) rfl ?_
  refine lv_iload_n (pc := 58) hx hb dX3_leaps_58 rfl (lv_at hl 1 rfl) ?_
  obtain ⟨a2, e3, h⟩ := h
  refine cj_stk (st' := [.int x1, .ref a2]) (by rw [e3]; rfl) ?_
  obtain ⟨g4, h⟩ := h
  obtain ⟨g5, h⟩ := h
  refine cj_aald (pc := 59) hcx hW g4 (by unfold cj_rt; decide) g5 dX3_leaps_59 ?_
  refine lv_iload_n (pc := 60) hx hb dX3_leaps_60 rfl (lv_at hl 2 rfl) ?_
  obtain ⟨a6, e7, h⟩ := h
  refine cj_stk (st' := [.int x2, .ref a6]) (by rw [e7]; rfl) ?_
  obtain ⟨g8, h⟩ := h
  obtain ⟨g9, h⟩ := h
  refine cj_iald (pc := 61) hcx hW g8 g9 dX3_leaps_61 ?_
  refine lv_aload_n (pc := 62) hx hb dX3_leaps_62 rfl (lv_at hl 0 rfl) ?_
  refine cj_fld (pc := 63) hcx hW 2 g1 (by decide) rfl in_X3 5 (by decide) (by decide) q233 dX3_leaps_63 (v := va_rf (cj_R σ 305 x0)) rfl ?_
  refine lv_iload_n (pc := 66) hx hb dX3_leaps_66 rfl (lv_at hl 1 rfl) ?_
  obtain ⟨a10, e11, h⟩ := h
  refine cj_stk (st' := [.int x1, .ref a10, .int (cj_A σ a6 x2.toNatClampNeg)]) (by rw [e11]; rfl) ?_
  obtain ⟨g12, h⟩ := h
  obtain ⟨g13, h⟩ := h
  refine cj_aald (pc := 67) hcx hW g12 (by unfold cj_rt; decide) g13 dX3_leaps_67 ?_
  refine lv_iload_n (pc := 68) hx hb dX3_leaps_68 rfl (lv_at hl 2 rfl) ?_
  obtain ⟨a14, e15, h⟩ := h
  refine cj_stk (st' := [.int x2, .ref a14, .int (cj_A σ a6 x2.toNatClampNeg)]) (by rw [e15]; rfl) ?_
  obtain ⟨g16, h⟩ := h
  obtain ⟨g17, h⟩ := h
  refine cj_iald (pc := 69) hcx hW g16 g17 dX3_leaps_69 ?_
  refine lv_icmp_ge (pc := 70) (tgt := 77) hx hb dX3_leaps_70 (by decide) (fun c18 => ?_) (fun c18 => ?_)
  · have h := h.1 c18
    refine lv_iconst (pc := 77) (v := (0 : Int32)) hx hb dX3_leaps_77 (by decide) ?_
    exact cj_reti (pc := 78) hcx hW hS rfl h (Nat.le_refl _) (Nat.le_refl _) dX3_leaps_78
  · have h := h.2 c18
    refine lv_iconst (pc := 73) (v := (1 : Int32)) hx hb dX3_leaps_73 (by decide) ?_
    refine lv_goto (pc := 74) (tgt := 78) hx hb dX3_leaps_74 (by decide) ?_
    exact cj_reti (pc := 78) hcx hW hS rfl h (Nat.le_refl _) (Nat.le_refl _) dX3_leaps_78
set_option maxHeartbeats 4000000 in
set_option maxRecDepth 100000 in
theorem cb_Jn_leaps {E : cj_E} {σ : cj_S} {x0 : Nat} {x1 : Int32} {x2 : Int32} {x3 : Int32} {P : Int32 → cj_S → Prop} (h : (cj_T σ x0 = 3 ∧ cg_Jn_leaps_10 E (cj_sF σ 309 x0 ((cj_F σ 309 x0) + (1 : Int32))) x0 x1 x2 x3 P)) : cs_Jn_leaps E σ x0 x1 x2 x3 P :=
  cj_enter (k := 1) (lv := [(0, .ref x0), (1, .int x1), (2, .int x2), (3, .int x3)]) (by decide) (Nat.le_of_ble_eq_true rfl) rfl (by
    intro d hd p e s m args below meth c hcx H locs ls hW hS hl
    have hx := hcx.1
    have hb := hcx.2.1
    have hown := hcx.2.2.2.2.2.1
    have hts := hcx.2.2.2.2.2.2.1
    refine lv_aload_n (pc := 0) hx hb dX3_leaps_0 rfl (lv_at hl 0 rfl) ?_
    refine lv_dup (pc := 1) hx hb dX3_leaps_1 rfl ?_
    obtain ⟨g1, h⟩ := h
    refine cj_fld (pc := 2) hcx hW 2 g1 (by decide) rfl in_X3 9 (by decide) (by decide) q238 dX3_leaps_2 (v := .int (cj_F σ 309 x0)) rfl ?_
    refine lv_iconst (pc := 5) (v := (1 : Int32)) hx hb dX3_leaps_5 (by decide) ?_
    refine lv_iadd (pc := 6) hx hb dX3_leaps_6 ?_
    refine cj_put (pc := 7) (σ1 := (cj_sF σ 309 x0 ((cj_F σ 309 x0) + (1 : Int32)))) hcx hW hS 2 g1 (by decide) rfl in_X3 tyX3_ok nmX3 9 (by decide) (by decide) rfl rfl rfl (cj_pI rfl) q238 dX3_leaps_7 (fun H locs hW hS => ?_)
    exact h d hd p e s m args below meth c hcx H locs _ hW hS (lv_sub hl [0, 1, 2, 3] rfl))
/-! Jn_nth -/
set_option maxHeartbeats 4000000 in
set_option maxRecDepth 100000 in
theorem cb_Jn_nth_5 {E : cj_E} {σ : cj_S} {x1 : Int32} {x3 : Int32} {x4 : Int32} {P : Int32 → cj_S → Prop} (h : cs_L_has E σ x1 x4 (fun r1 σ2 => ((r1 = 0 → cs_L_has E σ2 x1 x4 (fun r4 σ5 => ((r4 = 0 → cg_Jn_nth_5 E σ5 x1 x3 (x4 + (1 : Int32)) P) ∧ (¬ r4 = 0 → cg_Jn_nth_5 E σ5 x1 (x3 + (-1 : Int32)) (x4 + (1 : Int32)) P)))) ∧ (¬ r1 = 0 → ((x3 ≤ 0 → P x4 σ2) ∧ (¬ x3 ≤ 0 → cs_L_has E σ2 x1 x4 (fun r8 σ9 => ((r8 = 0 → cg_Jn_nth_5 E σ9 x1 x3 (x4 + (1 : Int32)) P) ∧ (¬ r8 = 0 → cg_Jn_nth_5 E σ9 x1 (x3 + (-1 : Int32)) (x4 + (1 : Int32)) P))))))))) : cg_Jn_nth_5 E σ x1 x3 x4 P := by
  intro d hd p e s m args below meth c hcx H locs ls hW hS hl
  have hx := hcx.1
  have hb := hcx.2.1
  have hown := hcx.2.2.2.2.2.1
  have hts := hcx.2.2.2.2.2.2.1
  refine lv_iload_n (pc := 5) hx hb dX3_nth_5 rfl (lv_at hl 0 rfl) ?_
  refine lv_iload (pc := 6) hx hb dX3_nth_6 (lv_at hl 2 rfl) ?_
  refine cj_xi (pc := 8) (cj_runSN hcx hW hS [.int x1, .int x4] h (Nat.le_trans (by decide) hd) (List.mem_of_getElem? (i := 7) rfl) q387 q122 q388 yd_L_has (by decide) rfl rfl (Nat.le_of_ble_eq_true rfl) hl.1 (Nat.le_refl _) (Nat.le_refl _) dX3_nth_8) hS (fun r1 σ2 h H locs hW hS => ?_)
  refine lv_if_eq (pc := 11) (tgt := 18) hx hb dX3_nth_11 (by decide) (fun c3 => ?_) (fun c3 => ?_)
  · have h := h.1 c3
    refine lv_iload_n (pc := 18) hx hb dX3_nth_18 rfl (lv_at hl 0 rfl) ?_
    refine lv_iload (pc := 19) hx hb dX3_nth_19 (lv_at hl 2 rfl) ?_
    refine cj_xi (pc := 21) (cj_runSN hcx hW hS [.int x1, .int x4] h (Nat.le_trans (by decide) hd) (List.mem_of_getElem? (i := 7) rfl) q387 q122 q388 yd_L_has (by decide) rfl rfl (Nat.le_of_ble_eq_true rfl) hl.1 (Nat.le_refl _) (Nat.le_refl _) dX3_nth_21) hS (fun r4 σ5 h H locs hW hS => ?_)
    refine lv_if_eq (pc := 24) (tgt := 30) hx hb dX3_nth_24 (by decide) (fun c6 => ?_) (fun c6 => ?_)
    · have h := h.1 c6
      refine lv_iinc (pc := 30) (v := (x4 + (1 : Int32))) (lv' := [(4, .int (x4 + (1 : Int32))), (1, .int x1), (3, .int x3)]) hx hb dX3_nth_30 hl (k := 2) rfl rfl (by decide) rfl (fun ls hl => ?_)
      refine lv_goto (pc := 33) (tgt := 5) hx hb dX3_nth_33 (by decide) ?_
      exact h d hd p e s m args below meth c hcx H locs _ hW hS (lv_sub hl [1, 2, 0] rfl)
    · have h := h.2 c6
      refine lv_iinc (pc := 27) (v := (x3 + (-1 : Int32))) (lv' := [(3, .int (x3 + (-1 : Int32))), (1, .int x1), (4, .int x4)]) hx hb dX3_nth_27 hl (k := 1) rfl rfl (by decide) rfl (fun ls hl => ?_)
      refine lv_iinc (pc := 30) (v := (x4 + (1 : Int32))) (lv' := [(4, .int (x4 + (1 : Int32))), (3, .int (x3 + (-1 : Int32))), (1, .int x1)]) hx hb dX3_nth_30 hl (k := 2) rfl rfl (by decide) rfl (fun ls hl => ?_)
      refine lv_goto (pc := 33) (tgt := 5) hx hb dX3_nth_33 (by decide) ?_
      exact h d hd p e s m args below meth c hcx H locs _ hW hS (lv_sub hl [2, 1, 0] rfl)
  · have h := h.2 c3
    refine lv_iload_n (pc := 14) hx hb dX3_nth_14 rfl (lv_at hl 1 rfl) ?_
    refine lv_if_le (pc := 15) (tgt := 36) hx hb dX3_nth_15 (by decide) (fun c7 => ?_) (fun c7 => ?_)
    · have h := h.1 c7
      refine lv_iload (pc := 36) hx hb dX3_nth_36 (lv_at hl 2 rfl) ?_
      exact cj_reti (pc := 38) hcx hW hS rfl h (Nat.le_refl _) (Nat.le_refl _) dX3_nth_38
    · have h := h.2 c7
      refine lv_iload_n (pc := 18) hx hb dX3_nth_18 rfl (lv_at hl 0 rfl) ?_
      refine lv_iload (pc := 19) hx hb dX3_nth_19 (lv_at hl 2 rfl) ?_
      refine cj_xi (pc := 21) (cj_runSN hcx hW hS [.int x1, .int x4] h (Nat.le_trans (by decide) hd) (List.mem_of_getElem? (i := 7) rfl) q387 q122 q388 yd_L_has (by decide) rfl rfl (Nat.le_of_ble_eq_true rfl) hl.1 (Nat.le_refl _) (Nat.le_refl _) dX3_nth_21) hS (fun r8 σ9 h H locs hW hS => ?_)
      refine lv_if_eq (pc := 24) (tgt := 30) hx hb dX3_nth_24 (by decide) (fun c10 => ?_) (fun c10 => ?_)
      · have h := h.1 c10
        refine lv_iinc (pc := 30) (v := (x4 + (1 : Int32))) (lv' := [(4, .int (x4 + (1 : Int32))), (1, .int x1), (3, .int x3)]) hx hb dX3_nth_30 hl (k := 2) rfl rfl (by decide) rfl (fun ls hl => ?_)
        refine lv_goto (pc := 33) (tgt := 5) hx hb dX3_nth_33 (by decide) ?_
        exact h d hd p e s m args below meth c hcx H locs _ hW hS (lv_sub hl [1, 2, 0] rfl)
      · have h := h.2 c10
        refine lv_iinc (pc := 27) (v := (x3 + (-1 : Int32))) (lv' := [(3, .int (x3 + (-1 : Int32))), (1, .int x1), (4, .int x4)]) hx hb dX3_nth_27 hl (k := 1) rfl rfl (by decide) rfl (fun ls hl => ?_)
        refine lv_iinc (pc := 30) (v := (x4 + (1 : Int32))) (lv' := [(4, .int (x4 + (1 : Int32))), (3, .int (x3 + (-1 : Int32))), (1, .int x1)]) hx hb dX3_nth_30 hl (k := 2) rfl rfl (by decide) rfl (fun ls hl => ?_)
        refine lv_goto (pc := 33) (tgt := 5) hx hb dX3_nth_33 (by decide) ?_
        exact h d hd p e s m args below meth c hcx H locs _ hW hS (lv_sub hl [2, 1, 0] rfl)
set_option maxHeartbeats 4000000 in
set_option maxRecDepth 100000 in
theorem cb_Jn_nth {E : cj_E} {σ : cj_S} {x0 : Nat} {x1 : Int32} {x2 : Int32} {P : Int32 → cj_S → Prop} (h : cg_Jn_nth_5 E σ x1 x2 (0 : Int32) P) : cs_Jn_nth E σ x0 x1 x2 P :=
  cj_enter (k := 1) (lv := [(0, .ref x0), (1, .int x1), (2, .int x2)]) (by decide) (Nat.le_of_ble_eq_true rfl) rfl (by
    intro d hd p e s m args below meth c hcx H locs ls hW hS hl
    have hx := hcx.1
    have hb := hcx.2.1
    have hown := hcx.2.2.2.2.2.1
    have hts := hcx.2.2.2.2.2.2.1
    refine lv_iload_n (pc := 0) hx hb dX3_nth_0 rfl (lv_at hl 2 rfl) ?_
    refine lv_istore_n (pc := 1) (lv' := [(3, .int x2), (0, .ref x0), (1, .int x1), (2, .int x2)]) hx hb dX3_nth_1 rfl hl (by decide) rfl (fun ls hl => ?_)
    refine lv_iconst (pc := 2) (v := (0 : Int32)) hx hb dX3_nth_2 (by decide) ?_
    refine lv_istore (pc := 3) (lv' := [(4, .int (0 : Int32)), (3, .int x2), (0, .ref x0), (1, .int x1), (2, .int x2)]) hx hb dX3_nth_3 hl (by decide) rfl (fun ls hl => ?_)
    exact h d hd p e s m args below meth c hcx H locs _ hW hS (lv_sub hl [3, 1, 0] rfl))
/-! Jn_sum -/
set_option maxHeartbeats 4000000 in
set_option maxRecDepth 100000 in
theorem cb_Jn_sum_5 {E : cj_E} {σ : cj_S} {x0 : Nat} {x1 : Int32} {x2 : UInt64} {x4 : Int32} {P : UInt64 → cj_S → Prop} (h : (cj_T σ x0 = 3 ∧ (((cj_F σ 308 x0) ≤ x4 → P x2 σ) ∧ (¬ (cj_F σ 308 x0) ≤ x4 → cs_Jn_at E σ x0 x4 x1 (fun r3 σ4 => (vf_n64 (FP.dadd x2 (FP.i2d r3)) ∧ cg_Jn_sum_5 E σ4 x0 x1 (FP.dadd x2 (FP.i2d r3)) (x4 + (1 : Int32)) P)))))) : cg_Jn_sum_5 E σ x0 x1 x2 x4 P := by
  intro d hd p e s m args below meth c hcx H locs ls hW hS hl
  have hx := hcx.1
  have hb := hcx.2.1
  have hown := hcx.2.2.2.2.2.1
  have hts := hcx.2.2.2.2.2.2.1
  refine lv_iload (pc := 5) hx hb dX3_sum_5 (lv_at hl 3 rfl) ?_
  refine lv_aload_n (pc := 7) hx hb dX3_sum_7 rfl (lv_at hl 0 rfl) ?_
  obtain ⟨g1, h⟩ := h
  refine cj_fld (pc := 8) hcx hW 2 g1 (by decide) rfl in_X3 8 (by decide) (by decide) q236 dX3_sum_8 (v := .int (cj_F σ 308 x0)) rfl ?_
  refine lv_icmp_ge (pc := 11) (tgt := 31) hx hb dX3_sum_11 (by decide) (fun c2 => ?_) (fun c2 => ?_)
  · have h := h.1 c2
    refine lv_dload_n (pc := 31) hx hb dX3_sum_31 rfl (lv_at hl 2 rfl) ?_
    exact cj_retd (pc := 32) hcx hW hS h (Nat.le_refl _) (Nat.le_refl _) dX3_sum_32
  · have h := h.2 c2
    refine lv_dload_n (pc := 14) hx hb dX3_sum_14 rfl (lv_at hl 2 rfl) ?_
    refine lv_aload_n (pc := 15) hx hb dX3_sum_15 rfl (lv_at hl 0 rfl) ?_
    refine lv_iload (pc := 16) hx hb dX3_sum_16 (lv_at hl 3 rfl) ?_
    refine lv_iload_n (pc := 18) hx hb dX3_sum_18 rfl (lv_at hl 1 rfl) ?_
    refine cj_xi (pc := 19) (cj_runV hcx hW hS 2 g1 (by decide) rfl [.int x4, .int x1] h (Nat.le_trans (by decide) hd) (lw_V q1058 q995 q996 q124 q997) rfl yd_Jn_at (by decide) rfl rfl (Nat.le_of_ble_eq_true rfl) hl.1 (Nat.le_refl _) (Nat.le_refl _) dX3_sum_19) hS (fun r3 σ4 h H locs hW hS => ?_)
    refine lv_i2d (pc := 22) hx hb dX3_sum_22 ?_
    obtain ⟨g5, h⟩ := h
    refine lv_dadd (pc := 23) hx hb dX3_sum_23 g5 ?_
    refine lv_dstore_n (pc := 24) (lv' := [(2, .double (FP.dadd x2 (FP.i2d r3))), (0, .ref x0), (1, .int x1), (4, .int x4)]) hx hb dX3_sum_24 rfl hl (by decide) rfl (fun ls hl => ?_)
    refine lv_iinc (pc := 25) (v := (x4 + (1 : Int32))) (lv' := [(4, .int (x4 + (1 : Int32))), (2, .double (FP.dadd x2 (FP.i2d r3))), (0, .ref x0), (1, .int x1)]) hx hb dX3_sum_25 hl (k := 3) rfl rfl (by decide) rfl (fun ls hl => ?_)
    refine lv_goto (pc := 28) (tgt := 5) hx hb dX3_sum_28 (by decide) ?_
    exact h d hd p e s m args below meth c hcx H locs _ hW hS (lv_sub hl [2, 3, 1, 0] rfl)
set_option maxHeartbeats 4000000 in
set_option maxRecDepth 100000 in
theorem cb_Jn_sum {E : cj_E} {σ : cj_S} {x0 : Nat} {x1 : Int32} {P : UInt64 → cj_S → Prop} (h : cg_Jn_sum_5 E σ x0 x1 FP.dconst0 (0 : Int32) P) : cs_Jn_sum E σ x0 x1 P :=
  cj_enter (k := 1) (lv := [(0, .ref x0), (1, .int x1)]) (by decide) (Nat.le_of_ble_eq_true rfl) rfl (by
    intro d hd p e s m args below meth c hcx H locs ls hW hS hl
    have hx := hcx.1
    have hb := hcx.2.1
    have hown := hcx.2.2.2.2.2.1
    have hts := hcx.2.2.2.2.2.2.1
    refine lv_dconst0 (pc := 0) hx hb dX3_sum_0 ?_
    refine lv_dstore_n (pc := 1) (lv' := [(2, .double FP.dconst0), (0, .ref x0), (1, .int x1)]) hx hb dX3_sum_1 rfl hl (by decide) rfl (fun ls hl => ?_)
    refine lv_iconst (pc := 2) (v := (0 : Int32)) hx hb dX3_sum_2 (by decide) ?_
    refine lv_istore (pc := 3) (lv' := [(4, .int (0 : Int32)), (2, .double FP.dconst0), (0, .ref x0), (1, .int x1)]) hx hb dX3_sum_3 hl (by decide) rfl (fun ls hl => ?_)
    exact h d hd p e s m args below meth c hcx H locs _ hW hS (lv_sub hl [2, 3, 1, 0] rfl))
/-! Jn_tallies -/
set_option maxHeartbeats 4000000 in
set_option maxRecDepth 100000 in
theorem cb_Jn_tallies_2 {E : cj_E} {σ : cj_S} {x0 : Nat} {x1 : Int32} {x2 : Int32} {P : Option Nat → cj_S → Prop} (h : (((100 : Int32) ≤ x2 → cg_Jn_tallies_23 E σ x0 x1 (0 : Int32) P) ∧ (¬ (100 : Int32) ≤ x2 → (cj_T σ x0 = 3 ∧ (∃ a3, (cj_R σ 311 x0) = some a3 ∧ (cj_T σ a3 = 21 ∧ (vp_in x2 (cj_N σ a3) ∧ cg_Jn_tallies_2 E (cj_sA σ a3 x2.toNatClampNeg (0 : Int32)) x0 x1 (x2 + (1 : Int32)) P))))))) : cg_Jn_tallies_2 E σ x0 x1 x2 P := by
  intro d hd p e s m args below meth c hcx H locs ls hW hS hl
  have hx := hcx.1
  have hb := hcx.2.1
  have hown := hcx.2.2.2.2.2.1
  have hts := hcx.2.2.2.2.2.2.1
  refine lv_iload_n (pc := 2) hx hb dX3_tallies_2 rfl (lv_at hl 2 rfl) ?_
  refine lv_bipush (pc := 3) (v := (100 : Int32)) hx hb dX3_tallies_3 (by decide) ?_
  refine lv_icmp_ge (pc := 5) (tgt := 21) hx hb dX3_tallies_5 (by decide) (fun c1 => ?_) (fun c1 => ?_)
  · have h := h.1 c1
    refine lv_iconst (pc := 21) (v := (0 : Int32)) hx hb dX3_tallies_21 (by decide) ?_
    refine lv_istore_n (pc := 22) (lv' := [(2, .int (0 : Int32)), (0, .ref x0), (1, .int x1)]) hx hb dX3_tallies_22 rfl hl (by decide) rfl (fun ls hl => ?_)
    exact h d hd p e s m args below meth c hcx H locs _ hW hS (lv_sub hl [1, 2, 0] rfl)
  · have h := h.2 c1
    refine lv_aload_n (pc := 8) hx hb dX3_tallies_8 rfl (lv_at hl 0 rfl) ?_
    obtain ⟨g2, h⟩ := h
    refine cj_fld (pc := 9) hcx hW 2 g2 (by decide) rfl in_X3 11 (by decide) (by decide) q242 dX3_tallies_9 (v := va_rf (cj_R σ 311 x0)) rfl ?_
    refine lv_iload_n (pc := 12) hx hb dX3_tallies_12 rfl (lv_at hl 2 rfl) ?_
    refine lv_iconst (pc := 13) (v := (0 : Int32)) hx hb dX3_tallies_13 (by decide) ?_
    obtain ⟨a3, e4, h⟩ := h
    refine cj_stk (st' := [.int (0 : Int32), .int x2, .ref a3]) (by rw [e4]; rfl) ?_
    obtain ⟨g5, h⟩ := h
    obtain ⟨g6, h⟩ := h
    refine cj_iast (pc := 14) hcx hW hS g5 g6 dX3_tallies_14 (fun H locs hW hS => ?_)
    refine lv_iinc (pc := 15) (v := (x2 + (1 : Int32))) (lv' := [(2, .int (x2 + (1 : Int32))), (0, .ref x0), (1, .int x1)]) hx hb dX3_tallies_15 hl (k := 2) rfl rfl (by decide) rfl (fun ls hl => ?_)
    refine lv_goto (pc := 18) (tgt := 2) hx hb dX3_tallies_18 (by decide) ?_
    exact h d hd p e s m args below meth c hcx H locs _ hW hS (lv_sub hl [1, 2, 0] rfl)
set_option maxHeartbeats 4000000 in
set_option maxRecDepth 100000 in
theorem cb_Jn_tallies_23 {E : cj_E} {σ : cj_S} {x0 : Nat} {x1 : Int32} {x2 : Int32} {P : Option Nat → cj_S → Prop} (h : (cj_T σ x0 = 3 ∧ (((cj_F σ 308 x0) ≤ x2 → P (cj_R σ 311 x0) σ) ∧ (¬ (cj_F σ 308 x0) ≤ x2 → cs_Jn_at E σ x0 x2 x1 (fun r3 σ4 => (∃ a5, (cj_R σ 311 x0) = some a5 ∧ (cj_T σ4 a5 = 21 ∧ (vp_in r3 (cj_N σ4 a5) ∧ (vp_in r3 (cj_N σ4 a5) ∧ cg_Jn_tallies_23 E (cj_sA σ4 a5 r3.toNatClampNeg ((cj_A σ4 a5 r3.toNatClampNeg) + (1 : Int32))) x0 x1 (x2 + (1 : Int32)) P))))))))) : cg_Jn_tallies_23 E σ x0 x1 x2 P := by
  intro d hd p e s m args below meth c hcx H locs ls hW hS hl
  have hx := hcx.1
  have hb := hcx.2.1
  have hown := hcx.2.2.2.2.2.1
  have hts := hcx.2.2.2.2.2.2.1
  refine lv_iload_n (pc := 23) hx hb dX3_tallies_23 rfl (lv_at hl 2 rfl) ?_
  refine lv_aload_n (pc := 24) hx hb dX3_tallies_24 rfl (lv_at hl 0 rfl) ?_
  obtain ⟨g1, h⟩ := h
  refine cj_fld (pc := 25) hcx hW 2 g1 (by decide) rfl in_X3 8 (by decide) (by decide) q236 dX3_tallies_25 (v := .int (cj_F σ 308 x0)) rfl ?_
  refine lv_icmp_ge (pc := 28) (tgt := 52) hx hb dX3_tallies_28 (by decide) (fun c2 => ?_) (fun c2 => ?_)
  · have h := h.1 c2
    refine lv_aload_n (pc := 52) hx hb dX3_tallies_52 rfl (lv_at hl 0 rfl) ?_
    refine cj_fld (pc := 53) hcx hW 2 g1 (by decide) rfl in_X3 11 (by decide) (by decide) q242 dX3_tallies_53 (v := va_rf (cj_R σ 311 x0)) rfl ?_
    exact cj_retq (pc := 56) (r := (cj_R σ 311 x0)) hcx hW hS (Or.inr ⟨_, rfl⟩) h (Nat.le_refl _) (Nat.le_refl _) dX3_tallies_56
  · have h := h.2 c2
    refine lv_aload_n (pc := 31) hx hb dX3_tallies_31 rfl (lv_at hl 0 rfl) ?_
    refine cj_fld (pc := 32) hcx hW 2 g1 (by decide) rfl in_X3 11 (by decide) (by decide) q242 dX3_tallies_32 (v := va_rf (cj_R σ 311 x0)) rfl ?_
    refine lv_aload_n (pc := 35) hx hb dX3_tallies_35 rfl (lv_at hl 0 rfl) ?_
    refine lv_iload_n (pc := 36) hx hb dX3_tallies_36 rfl (lv_at hl 2 rfl) ?_
    refine lv_iload_n (pc := 37) hx hb dX3_tallies_37 rfl (lv_at hl 1 rfl) ?_
    refine cj_xi (pc := 38) (cj_runV hcx hW hS 2 g1 (by decide) rfl [.int x2, .int x1] h (Nat.le_trans (by decide) hd) (lw_V q1058 q995 q996 q124 q997) rfl yd_Jn_at (by decide) rfl rfl (by generalize (cj_R σ 311 x0) = z0; cases z0 <;> exact Nat.le_of_ble_eq_true rfl) hl.1 (Nat.le_refl _) (Nat.le_refl _) dX3_tallies_38) hS (fun r3 σ4 h H locs hW hS => ?_)
    refine lv_dup2_11 (pc := 41) hx hb dX3_tallies_41 rfl (cj_cat _) ?_
    obtain ⟨a5, e6, h⟩ := h
    refine cj_stk (st' := [.int r3, .ref a5, .int r3, .ref a5]) (by rw [e6]; rfl) ?_
    obtain ⟨g7, h⟩ := h
    obtain ⟨g8, h⟩ := h
    refine cj_iald (pc := 42) hcx hW g7 g8 dX3_tallies_42 ?_
    refine lv_iconst (pc := 43) (v := (1 : Int32)) hx hb dX3_tallies_43 (by decide) ?_
    refine lv_iadd (pc := 44) hx hb dX3_tallies_44 ?_
    obtain ⟨g9, h⟩ := h
    refine cj_iast (pc := 45) hcx hW hS g7 g9 dX3_tallies_45 (fun H locs hW hS => ?_)
    refine lv_iinc (pc := 46) (v := (x2 + (1 : Int32))) (lv' := [(2, .int (x2 + (1 : Int32))), (0, .ref x0), (1, .int x1)]) hx hb dX3_tallies_46 hl (k := 2) rfl rfl (by decide) rfl (fun ls hl => ?_)
    refine lv_goto (pc := 49) (tgt := 23) hx hb dX3_tallies_49 (by decide) ?_
    exact h d hd p e s m args below meth c hcx H locs _ hW hS (lv_sub hl [1, 2, 0] rfl)
set_option maxHeartbeats 4000000 in
set_option maxRecDepth 100000 in
theorem cb_Jn_tallies {E : cj_E} {σ : cj_S} {x0 : Nat} {x1 : Int32} {P : Option Nat → cj_S → Prop} (h : cg_Jn_tallies_2 E σ x0 x1 (0 : Int32) P) : cs_Jn_tallies E σ x0 x1 P :=
  cj_enter (k := 1) (lv := [(0, .ref x0), (1, .int x1)]) (by decide) (Nat.le_of_ble_eq_true rfl) rfl (by
    intro d hd p e s m args below meth c hcx H locs ls hW hS hl
    have hx := hcx.1
    have hb := hcx.2.1
    have hown := hcx.2.2.2.2.2.1
    have hts := hcx.2.2.2.2.2.2.1
    refine lv_iconst (pc := 0) (v := (0 : Int32)) hx hb dX3_tallies_0 (by decide) ?_
    refine lv_istore_n (pc := 1) (lv' := [(2, .int (0 : Int32)), (0, .ref x0), (1, .int x1)]) hx hb dX3_tallies_1 rfl hl (by decide) rfl (fun ls hl => ?_)
    exact h d hd p e s m args below meth c hcx H locs _ hW hS (lv_sub hl [1, 2, 0] rfl))
/-! L_feed -/
set_option maxHeartbeats 4000000 in
set_option maxRecDepth 100000 in
theorem cb_L_feed {E : cj_E} {σ : cj_S} {x0 : Nat} {x1 : Int32} {x2 : Int32} {x3 : Int32} {x4 : Int32} {x5 : Int32} {P : Int32 → cj_S → Prop} (h : cs_L_bytes E σ x1 (fun r1 σ2 => cs_L_bytes E σ2 x2 (fun r3 σ4 => cs_L_bytes E σ4 x3 (fun r5 σ6 => cs_L_bytes E σ6 x4 (fun r7 σ8 => cs_L_bytes E σ8 x5 (fun r9 σ10 => (cj_T σ10 x0 = 1 ∧ ((((cj_F σ10 101 x0) + ((((r1 + r3) + r5) + r7) + r9)) ≤ (400 : Int32) → cs_L_bring E σ10 x0 x1 (fun σ14 => (cj_T σ14 x0 = 1 ∧ cs_L_bring E σ14 x0 x2 (fun σ16 => (cj_T σ16 x0 = 1 ∧ cs_L_bring E σ16 x0 x3 (fun σ19 => (cj_T σ19 x0 = 1 ∧ cs_L_bring E σ19 x0 x4 (fun σ22 => (cj_T σ22 x0 = 1 ∧ cs_L_bring E σ22 x0 x5 (fun σ25 => (cj_T σ25 x0 = 1 ∧ P (cj_F σ25 101 x0) σ25))))))))))) ∧ (¬ ((cj_F σ10 101 x0) + ((((r1 + r3) + r5) + r7) + r9)) ≤ (400 : Int32) → P (-1 : Int32) σ10))))))))) : cs_L_feed E σ x0 x1 x2 x3 x4 x5 P :=
  cj_enter (k := 1) (lv := [(0, .ref x0), (1, .int x1), (2, .int x2), (3, .int x3), (4, .int x4), (5, .int x5)]) (by decide) (Nat.le_of_ble_eq_true rfl) rfl (by
    intro d hd p e s m args below meth c hcx H locs ls hW hS hl
    have hx := hcx.1
    have hb := hcx.2.1
    have hown := hcx.2.2.2.2.2.1
    have hts := hcx.2.2.2.2.2.2.1
    refine lv_iload_n (pc := 0) hx hb dX1_feed_0 rfl (lv_at hl 1 rfl) ?_
    refine cj_xi (pc := 1) (cj_runS hcx hW hS [.int x1] h (Nat.le_trans (by decide) hd) (lw_S q154 q155 q122 q156) yd_L_bytes (by decide) rfl rfl (Nat.le_of_ble_eq_true rfl) hl.1 (Nat.le_refl _) (Nat.le_refl _) dX1_feed_1) hS (fun r1 σ2 h H locs hW hS => ?_)
    refine lv_iload_n (pc := 4) hx hb dX1_feed_4 rfl (lv_at hl 2 rfl) ?_
    refine cj_xi (pc := 5) (cj_runS hcx hW hS [.int x2] h (Nat.le_trans (by decide) hd) (lw_S q154 q155 q122 q156) yd_L_bytes (by decide) rfl rfl (Nat.le_of_ble_eq_true rfl) hl.1 (Nat.le_refl _) (Nat.le_refl _) dX1_feed_5) hS (fun r3 σ4 h H locs hW hS => ?_)
    refine lv_iadd (pc := 8) hx hb dX1_feed_8 ?_
    refine lv_iload_n (pc := 9) hx hb dX1_feed_9 rfl (lv_at hl 3 rfl) ?_
    refine cj_xi (pc := 10) (cj_runS hcx hW hS [.int x3] h (Nat.le_trans (by decide) hd) (lw_S q154 q155 q122 q156) yd_L_bytes (by decide) rfl rfl (Nat.le_of_ble_eq_true rfl) hl.1 (Nat.le_refl _) (Nat.le_refl _) dX1_feed_10) hS (fun r5 σ6 h H locs hW hS => ?_)
    refine lv_iadd (pc := 13) hx hb dX1_feed_13 ?_
    refine lv_iload (pc := 14) hx hb dX1_feed_14 (lv_at hl 4 rfl) ?_
    refine cj_xi (pc := 16) (cj_runS hcx hW hS [.int x4] h (Nat.le_trans (by decide) hd) (lw_S q154 q155 q122 q156) yd_L_bytes (by decide) rfl rfl (Nat.le_of_ble_eq_true rfl) hl.1 (Nat.le_refl _) (Nat.le_refl _) dX1_feed_16) hS (fun r7 σ8 h H locs hW hS => ?_)
    refine lv_iadd (pc := 19) hx hb dX1_feed_19 ?_
    refine lv_iload (pc := 20) hx hb dX1_feed_20 (lv_at hl 5 rfl) ?_
    refine cj_xi (pc := 22) (cj_runS hcx hW hS [.int x5] h (Nat.le_trans (by decide) hd) (lw_S q154 q155 q122 q156) yd_L_bytes (by decide) rfl rfl (Nat.le_of_ble_eq_true rfl) hl.1 (Nat.le_refl _) (Nat.le_refl _) dX1_feed_22) hS (fun r9 σ10 h H locs hW hS => ?_)
    refine lv_iadd (pc := 25) hx hb dX1_feed_25 ?_
    refine lv_istore (pc := 26) (lv' := [(6, .int ((((r1 + r3) + r5) + r7) + r9)), (0, .ref x0), (1, .int x1), (2, .int x2), (3, .int x3), (4, .int x4), (5, .int x5)]) hx hb dX1_feed_26 hl (by decide) rfl (fun ls hl => ?_)
    refine lv_aload_n (pc := 28) hx hb dX1_feed_28 rfl (lv_at hl 1 rfl) ?_
    obtain ⟨g11, h⟩ := h
    refine cj_fld (pc := 29) hcx hW 0 g11 (by decide) rfl in_X1 1 (by decide) (by decide) q275 dX1_feed_29 (v := .int (cj_F σ10 101 x0)) rfl ?_
    refine lv_iload (pc := 32) hx hb dX1_feed_32 (lv_at hl 0 rfl) ?_
    refine lv_iadd (pc := 34) hx hb dX1_feed_34 ?_
    refine lv_sipush (pc := 35) (v := (400 : Int32)) hx hb dX1_feed_35 (by decide) ?_
    refine lv_icmp_le (pc := 38) (tgt := 43) hx hb dX1_feed_38 (by decide) (fun c12 => ?_) (fun c12 => ?_)
    · have h := h.1 c12
      refine lv_aload_n (pc := 43) hx hb dX1_feed_43 rfl (lv_at hl 1 rfl) ?_
      refine lv_iload_n (pc := 44) hx hb dX1_feed_44 rfl (lv_at hl 2 rfl) ?_
      refine cj_xv (pc := 45) (cj_runV hcx hW hS 0 g11 (by decide) rfl [.int x1] h (Nat.le_trans (by decide) hd) (lw_V q157 q159 qs0 q122 q161) rfl yd_L_bring (by decide) rfl rfl (Nat.le_of_ble_eq_true rfl) hl.1 (Nat.le_refl _) (Nat.le_refl _) dX1_feed_45) hS (fun σ14 h H locs hW hS => ?_)
      refine lv_aload_n (pc := 48) hx hb dX1_feed_48 rfl (lv_at hl 1 rfl) ?_
      refine lv_iload_n (pc := 49) hx hb dX1_feed_49 rfl (lv_at hl 3 rfl) ?_
      obtain ⟨g17, h⟩ := h
      refine cj_xv (pc := 50) (cj_runV hcx hW hS 0 g17 (by decide) rfl [.int x2] h (Nat.le_trans (by decide) hd) (lw_V q157 q159 qs0 q122 q161) rfl yd_L_bring (by decide) rfl rfl (Nat.le_of_ble_eq_true rfl) hl.1 (Nat.le_refl _) (Nat.le_refl _) dX1_feed_50) hS (fun σ16 h H locs hW hS => ?_)
      refine lv_aload_n (pc := 53) hx hb dX1_feed_53 rfl (lv_at hl 1 rfl) ?_
      refine lv_iload_n (pc := 54) hx hb dX1_feed_54 rfl (lv_at hl 4 rfl) ?_
      obtain ⟨g20, h⟩ := h
      refine cj_xv (pc := 55) (cj_runV hcx hW hS 0 g20 (by decide) rfl [.int x3] h (Nat.le_trans (by decide) hd) (lw_V q157 q159 qs0 q122 q161) rfl yd_L_bring (by decide) rfl rfl (Nat.le_of_ble_eq_true rfl) hl.1 (Nat.le_refl _) (Nat.le_refl _) dX1_feed_55) hS (fun σ19 h H locs hW hS => ?_)
      refine lv_aload_n (pc := 58) hx hb dX1_feed_58 rfl (lv_at hl 1 rfl) ?_
      refine lv_iload (pc := 59) hx hb dX1_feed_59 (lv_at hl 5 rfl) ?_
      obtain ⟨g23, h⟩ := h
      refine cj_xv (pc := 61) (cj_runV hcx hW hS 0 g23 (by decide) rfl [.int x4] h (Nat.le_trans (by decide) hd) (lw_V q157 q159 qs0 q122 q161) rfl yd_L_bring (by decide) rfl rfl (Nat.le_of_ble_eq_true rfl) hl.1 (Nat.le_refl _) (Nat.le_refl _) dX1_feed_61) hS (fun σ22 h H locs hW hS => ?_)
      refine lv_aload_n (pc := 64) hx hb dX1_feed_64 rfl (lv_at hl 1 rfl) ?_
      refine lv_iload (pc := 65) hx hb dX1_feed_65 (lv_at hl 6 rfl) ?_
      obtain ⟨g26, h⟩ := h
      refine cj_xv (pc := 67) (cj_runV hcx hW hS 0 g26 (by decide) rfl [.int x5] h (Nat.le_trans (by decide) hd) (lw_V q157 q159 qs0 q122 q161) rfl yd_L_bring (by decide) rfl rfl (Nat.le_of_ble_eq_true rfl) hl.1 (Nat.le_refl _) (Nat.le_refl _) dX1_feed_67) hS (fun σ25 h H locs hW hS => ?_)
      refine lv_aload_n (pc := 70) hx hb dX1_feed_70 rfl (lv_at hl 1 rfl) ?_
      obtain ⟨g27, h⟩ := h
      refine cj_fld (pc := 71) hcx hW 0 g27 (by decide) rfl in_X1 1 (by decide) (by decide) q275 dX1_feed_71 (v := .int (cj_F σ25 101 x0)) rfl ?_
      exact cj_reti (pc := 74) hcx hW hS rfl h (Nat.le_refl _) (Nat.le_refl _) dX1_feed_74
    · have h := h.2 c12
      refine lv_iconst (pc := 41) (v := (-1 : Int32)) hx hb dX1_feed_41 (by decide) ?_
      exact cj_reti (pc := 42) hcx hW hS rfl h (Nat.le_refl _) (Nat.le_refl _) dX1_feed_42)
/-! L_isScript -/
set_option maxHeartbeats 4000000 in
set_option maxRecDepth 100000 in
theorem cb_L_isScript {E : cj_E} {σ : cj_S} {x0 : Nat} {x1 : Int32} {P : Int32 → cj_S → Prop} (h : (cj_T σ x0 = 1 ∧ cs_L_isIn E σ (x1).toInt64 (0 : Int64) ((cj_F σ 105 x0) - (1 : Int32)).toInt64 (fun r2 σ3 => (narrow .boolean (.int r2) = .int r2 ∧ P r2 σ3)))) : cs_L_isScript E σ x0 x1 P :=
  cj_enter (k := 1) (lv := [(0, .ref x0), (1, .int x1)]) (by decide) (Nat.le_of_ble_eq_true rfl) rfl (by
    intro d hd p e s m args below meth c hcx H locs ls hW hS hl
    have hx := hcx.1
    have hb := hcx.2.1
    have hown := hcx.2.2.2.2.2.1
    have hts := hcx.2.2.2.2.2.2.1
    refine lv_iload_n (pc := 0) hx hb dX1_isScript_0 rfl (lv_at hl 1 rfl) ?_
    refine lv_i2l (pc := 1) hx hb dX1_isScript_1 rfl ?_
    refine lv_lconst (pc := 2) (v := (0 : Int64)) hx hb dX1_isScript_2 (by decide) ?_
    refine lv_aload_n (pc := 3) hx hb dX1_isScript_3 rfl (lv_at hl 0 rfl) ?_
    obtain ⟨g1, h⟩ := h
    refine cj_fld (pc := 4) hcx hW 0 g1 (by decide) rfl in_X1 5 (by decide) (by decide) q280 dX1_isScript_4 (v := .int (cj_F σ 105 x0)) rfl ?_
    refine lv_iconst (pc := 7) (v := (1 : Int32)) hx hb dX1_isScript_7 (by decide) ?_
    refine lv_isub (pc := 8) hx hb dX1_isScript_8 ?_
    refine lv_i2l (pc := 9) hx hb dX1_isScript_9 rfl ?_
    refine cj_xi (pc := 10) (cj_runS hcx hW hS [.long (x1).toInt64, .long (0 : Int64), .long ((cj_F σ 105 x0) - (1 : Int32)).toInt64] h (Nat.le_trans (by decide) hd) (lw_S q349 q350 q122 q351) yd_L_isIn (by decide) rfl rfl (Nat.le_of_ble_eq_true rfl) hl.1 (Nat.le_refl _) (Nat.le_refl _) dX1_isScript_10) hS (fun r2 σ3 h H locs hW hS => ?_)
    obtain ⟨g4, h⟩ := h
    exact cj_reti (pc := 13) hcx hW hS g4 h (Nat.le_refl _) (Nat.le_refl _) dX1_isScript_13)
/-! L_isTold -/
set_option maxHeartbeats 4000000 in
set_option maxRecDepth 100000 in
theorem cb_L_isTold_3 {E : cj_E} {σ : cj_S} {x0 : Nat} {x1 : Option Nat} {x2 : Int32} {x3 : Int32} {x4 : Int32} {P : Int32 → cj_S → Prop} (h : (((100 : Int32) ≤ x4 → cg_L_isTold_27 E σ x0 x1 x2 x3 (0 : Int32) P) ∧ (¬ (100 : Int32) ≤ x4 → (cj_T σ x0 = 1 ∧ (∃ a3, (cj_R σ 119 x0) = some a3 ∧ (cj_T σ a3 = 21 ∧ (vp_in x4 (cj_N σ a3) ∧ cg_L_isTold_3 E (cj_sA σ a3 x4.toNatClampNeg (-1 : Int32)) x0 x1 x2 x3 (x4 + (1 : Int32)) P))))))) : cg_L_isTold_3 E σ x0 x1 x2 x3 x4 P := by
  intro d hd p e s m args below meth c hcx H locs ls hW hS hl
  have hx := hcx.1
  have hb := hcx.2.1
  have hown := hcx.2.2.2.2.2.1
  have hts := hcx.2.2.2.2.2.2.1
  refine lv_iload (pc := 3) hx hb dX1_isTold_3 (lv_at hl 4 rfl) ?_
  refine lv_bipush (pc := 5) (v := (100 : Int32)) hx hb dX1_isTold_5 (by decide) ?_
  refine lv_icmp_ge (pc := 7) (tgt := 24) hx hb dX1_isTold_7 (by decide) (fun c1 => ?_) (fun c1 => ?_)
  · have h := h.1 c1
    refine lv_iconst (pc := 24) (v := (0 : Int32)) hx hb dX1_isTold_24 (by decide) ?_
    refine lv_istore (pc := 25) (lv' := [(4, .int (0 : Int32)), (0, .ref x0), (1, va_rf x1), (2, .int x2), (3, .int x3)]) hx hb dX1_isTold_25 hl (by decide) rfl (fun ls hl => ?_)
    exact h d hd p e s m args below meth c hcx H locs _ hW hS (lv_sub hl [1, 2, 3, 4, 0] rfl)
  · have h := h.2 c1
    refine lv_aload_n (pc := 10) hx hb dX1_isTold_10 rfl (lv_at hl 0 rfl) ?_
    obtain ⟨g2, h⟩ := h
    refine cj_fld (pc := 11) hcx hW 0 g2 (by decide) rfl in_X1 19 (by decide) (by decide) q296 dX1_isTold_11 (v := va_rf (cj_R σ 119 x0)) rfl ?_
    refine lv_iload (pc := 14) hx hb dX1_isTold_14 (lv_at hl 4 rfl) ?_
    refine lv_iconst (pc := 16) (v := (-1 : Int32)) hx hb dX1_isTold_16 (by decide) ?_
    obtain ⟨a3, e4, h⟩ := h
    refine cj_stk (st' := [.int (-1 : Int32), .int x4, .ref a3]) (by rw [e4]; rfl) ?_
    obtain ⟨g5, h⟩ := h
    obtain ⟨g6, h⟩ := h
    refine cj_iast (pc := 17) hcx hW hS g5 g6 dX1_isTold_17 (fun H locs hW hS => ?_)
    refine lv_iinc (pc := 18) (v := (x4 + (1 : Int32))) (lv' := [(4, .int (x4 + (1 : Int32))), (0, .ref x0), (1, va_rf x1), (2, .int x2), (3, .int x3)]) hx hb dX1_isTold_18 hl (k := 4) rfl rfl (by decide) rfl (fun ls hl => ?_)
    refine lv_goto (pc := 21) (tgt := 3) hx hb dX1_isTold_21 (by decide) ?_
    exact h d hd p e s m args below meth c hcx H locs _ hW hS (lv_sub hl [1, 2, 3, 4, 0] rfl)
set_option maxHeartbeats 4000000 in
set_option maxRecDepth 100000 in
theorem cb_L_isTold_27 {E : cj_E} {σ : cj_S} {x0 : Nat} {x1 : Option Nat} {x2 : Int32} {x3 : Int32} {x4 : Int32} {P : Int32 → cj_S → Prop} (h : (∃ a1, x1 = some a1 ∧ (cj_T σ a1 = 3 ∧ (((cj_F σ 308 a1) ≤ x4 → P (1 : Int32) σ) ∧ (¬ (cj_F σ 308 a1) ≤ x4 → cs_Jn_at E σ a1 x4 x2 (fun r5 σ6 => (cj_T σ6 x0 = 1 ∧ (∃ a8, (cj_R σ6 119 x0) = some a8 ∧ (cj_T σ6 a8 = 21 ∧ (vp_in r5 (cj_N σ6 a8) ∧ (((cj_A σ6 a8 r5.toNatClampNeg) = (-1 : Int32) → (cj_T σ6 a1 = 3 ∧ cs_Jn_at E σ6 a1 x4 x3 (fun r13 σ14 => (cj_T σ14 a8 = 21 ∧ (vp_in r5 (cj_N σ14 a8) ∧ cg_L_isTold_27 E (cj_sA σ14 a8 r5.toNatClampNeg r13) x0 x1 x2 x3 (x4 + (1 : Int32)) P))))) ∧ (¬ (cj_A σ6 a8 r5.toNatClampNeg) = (-1 : Int32) → (vp_in r5 (cj_N σ6 a8) ∧ (cj_T σ6 a1 = 3 ∧ cs_Jn_at E σ6 a1 x4 x3 (fun r19 σ20 => (((cj_A σ6 a8 r5.toNatClampNeg) = r19 → (cj_T σ20 x0 = 1 ∧ (cj_T σ20 a1 = 3 ∧ cs_Jn_at E σ20 a1 x4 x3 (fun r24 σ25 => (∃ a27, (cj_R σ20 119 x0) = some a27 ∧ (cj_T σ25 a27 = 21 ∧ (vp_in r5 (cj_N σ25 a27) ∧ cg_L_isTold_27 E (cj_sA σ25 a27 r5.toNatClampNeg r24) x0 x1 x2 x3 (x4 + (1 : Int32)) P))))))) ∧ (¬ (cj_A σ6 a8 r5.toNatClampNeg) = r19 → P (0 : Int32) σ20))))))))))))))))) : cg_L_isTold_27 E σ x0 x1 x2 x3 x4 P := by
  intro d hd p e s m args below meth c hcx H locs ls hW hS hl
  have hx := hcx.1
  have hb := hcx.2.1
  have hown := hcx.2.2.2.2.2.1
  have hts := hcx.2.2.2.2.2.2.1
  refine lv_iload (pc := 27) hx hb dX1_isTold_27 (lv_at hl 4 rfl) ?_
  refine cj_aload_n (pc := 29) hx hb dX1_isTold_29 rfl (lv_at hl 1 rfl) ?_
  obtain ⟨a1, e2, h⟩ := h
  refine cj_stk (st' := [.ref a1, .int x4]) (by rw [e2]; rfl) ?_
  obtain ⟨g3, h⟩ := h
  refine cj_fldN (pc := 30) hcx hW 2 g3 (by decide) rfl in_X3 8 (by decide) (by decide) (List.mem_of_getElem? (i := 7) rfl) dX1_isTold_30 (v := .int (cj_F σ 308 a1)) rfl ?_
  refine lv_icmp_ge (pc := 33) (tgt := 95) hx hb dX1_isTold_33 (by decide) (fun c4 => ?_) (fun c4 => ?_)
  · have h := h.1 c4
    refine lv_iconst (pc := 95) (v := (1 : Int32)) hx hb dX1_isTold_95 (by decide) ?_
    exact cj_reti (pc := 96) hcx hW hS rfl h (Nat.le_refl _) (Nat.le_refl _) dX1_isTold_96
  · have h := h.2 c4
    refine cj_aload_n (pc := 36) hx hb dX1_isTold_36 rfl (lv_at hl 1 rfl) ?_
    refine lv_iload (pc := 37) hx hb dX1_isTold_37 (lv_at hl 4 rfl) ?_
    refine lv_iload_n (pc := 39) hx hb dX1_isTold_39 rfl (lv_at hl 2 rfl) ?_
    refine cj_stk (st' := [.int x2, .int x4, .ref a1]) (by rw [e2]; rfl) ?_
    refine cj_xi (pc := 40) (cj_runV hcx hW hS 2 g3 (by decide) rfl [.int x4, .int x2] h (Nat.le_trans (by decide) hd) (lw_V q994 q995 q996 q124 q997) rfl yd_Jn_at (by decide) rfl rfl (Nat.le_of_ble_eq_true rfl) hl.1 (Nat.le_refl _) (Nat.le_refl _) dX1_isTold_40) hS (fun r5 σ6 h H locs hW hS => ?_)
    refine lv_istore (pc := 43) (lv' := [(5, .int r5), (0, .ref x0), (1, va_rf x1), (2, .int x2), (3, .int x3), (4, .int x4)]) hx hb dX1_isTold_43 hl (by decide) rfl (fun ls hl => ?_)
    refine lv_aload_n (pc := 45) hx hb dX1_isTold_45 rfl (lv_at hl 1 rfl) ?_
    obtain ⟨g7, h⟩ := h
    refine cj_fld (pc := 46) hcx hW 0 g7 (by decide) rfl in_X1 19 (by decide) (by decide) q296 dX1_isTold_46 (v := va_rf (cj_R σ6 119 x0)) rfl ?_
    refine lv_iload (pc := 49) hx hb dX1_isTold_49 (lv_at hl 0 rfl) ?_
    obtain ⟨a8, e9, h⟩ := h
    refine cj_stk (st' := [.int r5, .ref a8]) (by rw [e9]; rfl) ?_
    obtain ⟨g10, h⟩ := h
    obtain ⟨g11, h⟩ := h
    refine cj_iald (pc := 51) hcx hW g10 g11 dX1_isTold_51 ?_
    refine lv_iconst (pc := 52) (v := (-1 : Int32)) hx hb dX1_isTold_52 (by decide) ?_
    refine lv_icmp_eq (pc := 53) (tgt := 75) hx hb dX1_isTold_53 (by decide) (fun c12 => ?_) (fun c12 => ?_)
    · have h := h.1 c12
      refine lv_aload_n (pc := 75) hx hb dX1_isTold_75 rfl (lv_at hl 1 rfl) ?_
      refine cj_fld (pc := 76) hcx hW 0 g7 (by decide) rfl in_X1 19 (by decide) (by decide) q296 dX1_isTold_76 (v := va_rf (cj_R σ6 119 x0)) rfl ?_
      refine lv_iload (pc := 79) hx hb dX1_isTold_79 (lv_at hl 0 rfl) ?_
      refine cj_aload_n (pc := 81) hx hb dX1_isTold_81 rfl (lv_at hl 2 rfl) ?_
      refine lv_iload (pc := 82) hx hb dX1_isTold_82 (lv_at hl 5 rfl) ?_
      refine lv_iload_n (pc := 84) hx hb dX1_isTold_84 rfl (lv_at hl 4 rfl) ?_
      refine cj_stk (st' := [.int x3, .int x4, .ref a1, .int r5, va_rf (cj_R σ6 119 x0)]) (by rw [e2]; rfl) ?_
      obtain ⟨g15, h⟩ := h
      refine cj_xi (pc := 85) (cj_runV hcx hW hS 2 g15 (by decide) rfl [.int x4, .int x3] h (Nat.le_trans (by decide) hd) (lw_V q994 q995 q996 q124 q997) rfl yd_Jn_at (by decide) rfl rfl (by generalize (cj_R σ6 119 x0) = z0; cases z0 <;> exact Nat.le_of_ble_eq_true rfl) hl.1 (Nat.le_refl _) (Nat.le_refl _) dX1_isTold_85) hS (fun r13 σ14 h H locs hW hS => ?_)
      refine cj_stk (st' := [.int r13, .int r5, .ref a8]) (by rw [e9]; rfl) ?_
      obtain ⟨g16, h⟩ := h
      obtain ⟨g17, h⟩ := h
      refine cj_iast (pc := 88) hcx hW hS g16 g17 dX1_isTold_88 (fun H locs hW hS => ?_)
      refine lv_iinc (pc := 89) (v := (x4 + (1 : Int32))) (lv' := [(4, .int (x4 + (1 : Int32))), (5, .int r5), (0, .ref x0), (1, va_rf x1), (2, .int x2), (3, .int x3)]) hx hb dX1_isTold_89 hl (k := 5) rfl rfl (by decide) rfl (fun ls hl => ?_)
      refine lv_goto (pc := 92) (tgt := 27) hx hb dX1_isTold_92 (by decide) ?_
      exact h d hd p e s m args below meth c hcx H locs _ hW hS (lv_sub hl [2, 3, 4, 5, 0] rfl)
    · have h := h.2 c12
      refine lv_aload_n (pc := 56) hx hb dX1_isTold_56 rfl (lv_at hl 1 rfl) ?_
      refine cj_fld (pc := 57) hcx hW 0 g7 (by decide) rfl in_X1 19 (by decide) (by decide) q296 dX1_isTold_57 (v := va_rf (cj_R σ6 119 x0)) rfl ?_
      refine lv_iload (pc := 60) hx hb dX1_isTold_60 (lv_at hl 0 rfl) ?_
      refine cj_stk (st' := [.int r5, .ref a8]) (by rw [e9]; rfl) ?_
      obtain ⟨g18, h⟩ := h
      refine cj_iald (pc := 62) hcx hW g10 g18 dX1_isTold_62 ?_
      refine cj_aload_n (pc := 63) hx hb dX1_isTold_63 rfl (lv_at hl 2 rfl) ?_
      refine lv_iload (pc := 64) hx hb dX1_isTold_64 (lv_at hl 5 rfl) ?_
      refine lv_iload_n (pc := 66) hx hb dX1_isTold_66 rfl (lv_at hl 4 rfl) ?_
      refine cj_stk (st' := [.int x3, .int x4, .ref a1, .int (cj_A σ6 a8 r5.toNatClampNeg)]) (by rw [e2]; rfl) ?_
      obtain ⟨g21, h⟩ := h
      refine cj_xi (pc := 67) (cj_runV hcx hW hS 2 g21 (by decide) rfl [.int x4, .int x3] h (Nat.le_trans (by decide) hd) (lw_V q994 q995 q996 q124 q997) rfl yd_Jn_at (by decide) rfl rfl (Nat.le_of_ble_eq_true rfl) hl.1 (Nat.le_refl _) (Nat.le_refl _) dX1_isTold_67) hS (fun r19 σ20 h H locs hW hS => ?_)
      refine lv_icmp_eq (pc := 70) (tgt := 75) hx hb dX1_isTold_70 (by decide) (fun c22 => ?_) (fun c22 => ?_)
      · have h := h.1 c22
        refine lv_aload_n (pc := 75) hx hb dX1_isTold_75 rfl (lv_at hl 1 rfl) ?_
        obtain ⟨g23, h⟩ := h
        refine cj_fld (pc := 76) hcx hW 0 g23 (by decide) rfl in_X1 19 (by decide) (by decide) q296 dX1_isTold_76 (v := va_rf (cj_R σ20 119 x0)) rfl ?_
        refine lv_iload (pc := 79) hx hb dX1_isTold_79 (lv_at hl 0 rfl) ?_
        refine cj_aload_n (pc := 81) hx hb dX1_isTold_81 rfl (lv_at hl 2 rfl) ?_
        refine lv_iload (pc := 82) hx hb dX1_isTold_82 (lv_at hl 5 rfl) ?_
        refine lv_iload_n (pc := 84) hx hb dX1_isTold_84 rfl (lv_at hl 4 rfl) ?_
        refine cj_stk (st' := [.int x3, .int x4, .ref a1, .int r5, va_rf (cj_R σ20 119 x0)]) (by rw [e2]; rfl) ?_
        obtain ⟨g26, h⟩ := h
        refine cj_xi (pc := 85) (cj_runV hcx hW hS 2 g26 (by decide) rfl [.int x4, .int x3] h (Nat.le_trans (by decide) hd) (lw_V q994 q995 q996 q124 q997) rfl yd_Jn_at (by decide) rfl rfl (by generalize (cj_R σ20 119 x0) = z0; cases z0 <;> exact Nat.le_of_ble_eq_true rfl) hl.1 (Nat.le_refl _) (Nat.le_refl _) dX1_isTold_85) hS (fun r24 σ25 h H locs hW hS => ?_)
        obtain ⟨a27, e28, h⟩ := h
        refine cj_stk (st' := [.int r24, .int r5, .ref a27]) (by rw [e28]; rfl) ?_
        obtain ⟨g29, h⟩ := h
        obtain ⟨g30, h⟩ := h
        refine cj_iast (pc := 88) hcx hW hS g29 g30 dX1_isTold_88 (fun H locs hW hS => ?_)
        refine lv_iinc (pc := 89) (v := (x4 + (1 : Int32))) (lv' := [(4, .int (x4 + (1 : Int32))), (5, .int r5), (0, .ref x0), (1, va_rf x1), (2, .int x2), (3, .int x3)]) hx hb dX1_isTold_89 hl (k := 5) rfl rfl (by decide) rfl (fun ls hl => ?_)
        refine lv_goto (pc := 92) (tgt := 27) hx hb dX1_isTold_92 (by decide) ?_
        exact h d hd p e s m args below meth c hcx H locs _ hW hS (lv_sub hl [2, 3, 4, 5, 0] rfl)
      · have h := h.2 c22
        refine lv_iconst (pc := 73) (v := (0 : Int32)) hx hb dX1_isTold_73 (by decide) ?_
        exact cj_reti (pc := 74) hcx hW hS rfl h (Nat.le_refl _) (Nat.le_refl _) dX1_isTold_74
set_option maxHeartbeats 4000000 in
set_option maxRecDepth 100000 in
theorem cb_L_isTold {E : cj_E} {σ : cj_S} {x0 : Nat} {x1 : Option Nat} {x2 : Int32} {x3 : Int32} {P : Int32 → cj_S → Prop} (h : cg_L_isTold_3 E σ x0 x1 x2 x3 (0 : Int32) P) : cs_L_isTold E σ x0 x1 x2 x3 P :=
  cj_enter (k := 1) (lv := [(0, .ref x0), (1, va_rf x1), (2, .int x2), (3, .int x3)]) (by decide) (by cases x1 <;> exact Nat.le_of_ble_eq_true rfl) (by cases x1 <;> rfl) (by
    intro d hd p e s m args below meth c hcx H locs ls hW hS hl
    have hx := hcx.1
    have hb := hcx.2.1
    have hown := hcx.2.2.2.2.2.1
    have hts := hcx.2.2.2.2.2.2.1
    refine lv_iconst (pc := 0) (v := (0 : Int32)) hx hb dX1_isTold_0 (by decide) ?_
    refine lv_istore (pc := 1) (lv' := [(4, .int (0 : Int32)), (0, .ref x0), (1, va_rf x1), (2, .int x2), (3, .int x3)]) hx hb dX1_isTold_1 hl (by decide) rfl (fun ls hl => ?_)
    exact h d hd p e s m args below meth c hcx H locs _ hW hS (lv_sub hl [1, 2, 3, 4, 0] rfl))
/-! L_log -/
set_option maxHeartbeats 4000000 in
set_option maxRecDepth 100000 in
theorem cb_L_log {E : cj_E} {σ : cj_S} {x0 : Nat} {x1 : Int32} {x2 : Int32} {P : Int32 → cj_S → Prop} (h : (cj_T σ x0 = 1 ∧ (((cj_F σ 107 x0) = 0 → P (-1000000 : Int32) σ) ∧ (¬ (cj_F σ 107 x0) = 0 → (∃ a3, (cj_R σ 109 x0) = some a3 ∧ (cj_T σ a3 = 2 ∧ cs_L_isIn E σ (x1).toInt64 (0 : Int64) ((cj_F σ 204 a3) - (1 : Int32)).toInt64 (fun r6 σ7 => ((r6 = 0 → P (-1000000 : Int32) σ7) ∧ (¬ r6 = 0 → cs_L_isIn E σ7 (x2).toInt64 (0 : Int64) (2 : Int64) (fun r9 σ10 => ((r9 = 0 → P (-1000000 : Int32) σ10) ∧ (¬ r9 = 0 → (cj_T σ10 x0 = 1 ∧ (∃ a13, (cj_R σ10 109 x0) = some a13 ∧ (cj_T σ10 a13 = 2 ∧ (∃ a16, (cj_R σ10 201 a13) = some a16 ∧ (cj_T σ10 a16 = 21 ∧ (vp_in (((3 : Int32) * (((cj_F σ10 204 a13) - (1 : Int32)) - x1)) + x2) (cj_N σ10 a16) ∧ P (cj_A σ10 a16 (((3 : Int32) * (((cj_F σ10 204 a13) - (1 : Int32)) - x1)) + x2).toNatClampNeg) σ10)))))))))))))))))) : cs_L_log E σ x0 x1 x2 P :=
  cj_enter (k := 1) (lv := [(0, .ref x0), (1, .int x1), (2, .int x2)]) (by decide) (Nat.le_of_ble_eq_true rfl) rfl (by
    intro d hd p e s m args below meth c hcx H locs ls hW hS hl
    have hx := hcx.1
    have hb := hcx.2.1
    have hown := hcx.2.2.2.2.2.1
    have hts := hcx.2.2.2.2.2.2.1
    refine lv_aload_n (pc := 0) hx hb dX1_log_0 rfl (lv_at hl 0 rfl) ?_
    obtain ⟨g1, h⟩ := h
    refine cj_fld (pc := 1) hcx hW 0 g1 (by decide) rfl in_X1 7 (by decide) (by decide) q284 dX1_log_1 (v := .int (cj_F σ 107 x0)) rfl ?_
    refine lv_if_eq (pc := 4) (tgt := 38) hx hb dX1_log_4 (by decide) (fun c2 => ?_) (fun c2 => ?_)
    · have h := h.1 c2
      refine lv_ldc (pc := 38) (v := (-1000000 : Int32)) hx hb hown (hts _ q946) dX1_log_38 ?_
      exact cj_reti (pc := 40) hcx hW hS rfl h (Nat.le_refl _) (Nat.le_refl _) dX1_log_40
    · have h := h.2 c2
      refine lv_iload_n (pc := 7) hx hb dX1_log_7 rfl (lv_at hl 1 rfl) ?_
      refine lv_i2l (pc := 8) hx hb dX1_log_8 rfl ?_
      refine lv_lconst (pc := 9) (v := (0 : Int64)) hx hb dX1_log_9 (by decide) ?_
      refine lv_aload_n (pc := 10) hx hb dX1_log_10 rfl (lv_at hl 0 rfl) ?_
      refine cj_fld (pc := 11) hcx hW 0 g1 (by decide) rfl in_X1 9 (by decide) (by decide) q286 dX1_log_11 (v := va_rf (cj_R σ 109 x0)) rfl ?_
      obtain ⟨a3, e4, h⟩ := h
      refine cj_stk (st' := [.ref a3, .long (0 : Int64), .long (x1).toInt64]) (by rw [e4]; rfl) ?_
      obtain ⟨g5, h⟩ := h
      refine cj_fldN (pc := 14) hcx hW 1 g5 (by decide) rfl in_X2 4 (by decide) (by decide) (List.mem_of_getElem? (i := 4) rfl) dX1_log_14 (v := .int (cj_F σ 204 a3)) rfl ?_
      refine lv_iconst (pc := 17) (v := (1 : Int32)) hx hb dX1_log_17 (by decide) ?_
      refine lv_isub (pc := 18) hx hb dX1_log_18 ?_
      refine lv_i2l (pc := 19) hx hb dX1_log_19 rfl ?_
      refine cj_xi (pc := 20) (cj_runS hcx hW hS [.long (x1).toInt64, .long (0 : Int64), .long ((cj_F σ 204 a3) - (1 : Int32)).toInt64] h (Nat.le_trans (by decide) hd) (lw_S q349 q350 q122 q351) yd_L_isIn (by decide) rfl rfl (Nat.le_of_ble_eq_true rfl) hl.1 (Nat.le_refl _) (Nat.le_refl _) dX1_log_20) hS (fun r6 σ7 h H locs hW hS => ?_)
      refine lv_if_eq (pc := 23) (tgt := 38) hx hb dX1_log_23 (by decide) (fun c8 => ?_) (fun c8 => ?_)
      · have h := h.1 c8
        refine lv_ldc (pc := 38) (v := (-1000000 : Int32)) hx hb hown (hts _ q946) dX1_log_38 ?_
        exact cj_reti (pc := 40) hcx hW hS rfl h (Nat.le_refl _) (Nat.le_refl _) dX1_log_40
      · have h := h.2 c8
        refine lv_iload_n (pc := 26) hx hb dX1_log_26 rfl (lv_at hl 2 rfl) ?_
        refine lv_i2l (pc := 27) hx hb dX1_log_27 rfl ?_
        refine lv_lconst (pc := 28) (v := (0 : Int64)) hx hb dX1_log_28 (by decide) ?_
        refine lv_ldc2 (pc := 29) (v := (2 : Int64)) hx hb hown (hts _ q945) dX1_log_29 ?_
        refine cj_xi (pc := 32) (cj_runS hcx hW hS [.long (x2).toInt64, .long (0 : Int64), .long (2 : Int64)] h (Nat.le_trans (by decide) hd) (lw_S q349 q350 q122 q351) yd_L_isIn (by decide) rfl rfl (Nat.le_of_ble_eq_true rfl) hl.1 (Nat.le_refl _) (Nat.le_refl _) dX1_log_32) hS (fun r9 σ10 h H locs hW hS => ?_)
        refine lv_if_ne (pc := 35) (tgt := 41) hx hb dX1_log_35 (by decide) (fun c11 => ?_) (fun c11 => ?_)
        · have h := h.2 c11
          refine lv_aload_n (pc := 41) hx hb dX1_log_41 rfl (lv_at hl 0 rfl) ?_
          obtain ⟨g12, h⟩ := h
          refine cj_fld (pc := 42) hcx hW 0 g12 (by decide) rfl in_X1 9 (by decide) (by decide) q286 dX1_log_42 (v := va_rf (cj_R σ10 109 x0)) rfl ?_
          obtain ⟨a13, e14, h⟩ := h
          refine cj_stk (st' := [.ref a13]) (by rw [e14]; rfl) ?_
          obtain ⟨g15, h⟩ := h
          refine cj_fldN (pc := 45) hcx hW 1 g15 (by decide) rfl in_X2 1 (by decide) (by decide) (List.mem_of_getElem? (i := 1) rfl) dX1_log_45 (v := va_rf (cj_R σ10 201 a13)) rfl ?_
          refine lv_iconst (pc := 48) (v := (3 : Int32)) hx hb dX1_log_48 (by decide) ?_
          refine lv_aload_n (pc := 49) hx hb dX1_log_49 rfl (lv_at hl 0 rfl) ?_
          refine cj_fld (pc := 50) hcx hW 0 g12 (by decide) rfl in_X1 9 (by decide) (by decide) q286 dX1_log_50 (v := va_rf (cj_R σ10 109 x0)) rfl ?_
          refine cj_stk (st' := [.ref a13, .int (3 : Int32), va_rf (cj_R σ10 201 a13)]) (by rw [e14]; rfl) ?_
          refine cj_fldN (pc := 53) hcx hW 1 g15 (by decide) rfl in_X2 4 (by decide) (by decide) (List.mem_of_getElem? (i := 4) rfl) dX1_log_53 (v := .int (cj_F σ10 204 a13)) rfl ?_
          refine lv_iconst (pc := 56) (v := (1 : Int32)) hx hb dX1_log_56 (by decide) ?_
          refine lv_isub (pc := 57) hx hb dX1_log_57 ?_
          refine lv_iload_n (pc := 58) hx hb dX1_log_58 rfl (lv_at hl 1 rfl) ?_
          refine lv_isub (pc := 59) hx hb dX1_log_59 ?_
          refine lv_imul (pc := 60) hx hb dX1_log_60 ?_
          refine lv_iload_n (pc := 61) hx hb dX1_log_61 rfl (lv_at hl 2 rfl) ?_
          refine lv_iadd (pc := 62) hx hb dX1_log_62 ?_
          obtain ⟨a16, e17, h⟩ := h
          refine cj_stk (st' := [.int (((3 : Int32) * (((cj_F σ10 204 a13) - (1 : Int32)) - x1)) + x2), .ref a16]) (by rw [e17]; rfl) ?_
          obtain ⟨g18, h⟩ := h
          obtain ⟨g19, h⟩ := h
          refine cj_iald (pc := 63) hcx hW g18 g19 dX1_log_63 ?_
          exact cj_reti (pc := 64) hcx hW hS rfl h (Nat.le_refl _) (Nat.le_refl _) dX1_log_64
        · have h := h.1 c11
          refine lv_ldc (pc := 38) (v := (-1000000 : Int32)) hx hb hown (hts _ q946) dX1_log_38 ?_
          exact cj_reti (pc := 40) hcx hW hS rfl h (Nat.le_refl _) (Nat.le_refl _) dX1_log_40)
/-! L_plain -/
set_option maxHeartbeats 4000000 in
set_option maxRecDepth 100000 in
theorem cb_L_plain_13 {E : cj_E} {σ : cj_S} {x0 : Nat} {x1 : Int32} {x2 : Int32} {P : Int32 → cj_S → Prop} (h : (cj_T σ x0 = 1 ∧ (((cj_F σ 107 x0) ≤ x2 → P x1 σ) ∧ (¬ (cj_F σ 107 x0) ≤ x2 → (∃ a3, (cj_R σ 109 x0) = some a3 ∧ (cj_T σ a3 = 2 ∧ cs_L_has E σ (cj_F σ 202 a3) x2 (fun r6 σ7 => ((r6 = 0 → cg_L_plain_13 E σ7 x0 (x1 * (1 : Int32)) (x2 + (1 : Int32)) P) ∧ (¬ r6 = 0 → (cj_T σ7 x0 = 1 ∧ (∃ a10, (cj_R σ7 109 x0) = some a10 ∧ (cj_T σ7 a10 = 2 ∧ (∃ a13, (cj_R σ7 200 a10) = some a13 ∧ (cj_T σ7 a13 = 26 ∧ (vp_in x2 (cj_N σ7 a13) ∧ (∃ a17, (cj_B σ7 a13 x2.toNatClampNeg) = some a17 ∧ (cj_T σ7 a17 = 6 ∧ cg_L_plain_13 E σ7 x0 (x1 * (cj_F σ7 603 a17)) (x2 + (1 : Int32)) P))))))))))))))))) : cg_L_plain_13 E σ x0 x1 x2 P := by
  intro d hd p e s m args below meth c hcx H locs ls hW hS hl
  have hx := hcx.1
  have hb := hcx.2.1
  have hown := hcx.2.2.2.2.2.1
  have hts := hcx.2.2.2.2.2.2.1
  refine lv_iload_n (pc := 13) hx hb dX1_plain_13 rfl (lv_at hl 2 rfl) ?_
  refine lv_aload_n (pc := 14) hx hb dX1_plain_14 rfl (lv_at hl 0 rfl) ?_
  obtain ⟨g1, h⟩ := h
  refine cj_fld (pc := 15) hcx hW 0 g1 (by decide) rfl in_X1 7 (by decide) (by decide) q284 dX1_plain_15 (v := .int (cj_F σ 107 x0)) rfl ?_
  refine lv_icmp_ge (pc := 18) (tgt := 60) hx hb dX1_plain_18 (by decide) (fun c2 => ?_) (fun c2 => ?_)
  · have h := h.1 c2
    refine lv_iload_n (pc := 60) hx hb dX1_plain_60 rfl (lv_at hl 1 rfl) ?_
    exact cj_reti (pc := 61) hcx hW hS rfl h (Nat.le_refl _) (Nat.le_refl _) dX1_plain_61
  · have h := h.2 c2
    refine lv_iload_n (pc := 21) hx hb dX1_plain_21 rfl (lv_at hl 1 rfl) ?_
    refine lv_aload_n (pc := 22) hx hb dX1_plain_22 rfl (lv_at hl 0 rfl) ?_
    refine cj_fld (pc := 23) hcx hW 0 g1 (by decide) rfl in_X1 9 (by decide) (by decide) q286 dX1_plain_23 (v := va_rf (cj_R σ 109 x0)) rfl ?_
    obtain ⟨a3, e4, h⟩ := h
    refine cj_stk (st' := [.ref a3, .int x1]) (by rw [e4]; rfl) ?_
    obtain ⟨g5, h⟩ := h
    refine cj_fldN (pc := 26) hcx hW 1 g5 (by decide) rfl in_X2 2 (by decide) (by decide) (List.mem_of_getElem? (i := 2) rfl) dX1_plain_26 (v := .int (cj_F σ 202 a3)) rfl ?_
    refine lv_iload_n (pc := 29) hx hb dX1_plain_29 rfl (lv_at hl 2 rfl) ?_
    refine cj_xi (pc := 30) (cj_runS hcx hW hS [.int (cj_F σ 202 a3), .int x2] h (Nat.le_trans (by decide) hd) (lw_S q993 q387 q122 q388) yd_L_has (by decide) rfl rfl (Nat.le_of_ble_eq_true rfl) hl.1 (Nat.le_refl _) (Nat.le_refl _) dX1_plain_30) hS (fun r6 σ7 h H locs hW hS => ?_)
    refine lv_if_eq (pc := 33) (tgt := 51) hx hb dX1_plain_33 (by decide) (fun c8 => ?_) (fun c8 => ?_)
    · have h := h.1 c8
      refine lv_iconst (pc := 51) (v := (1 : Int32)) hx hb dX1_plain_51 (by decide) ?_
      refine lv_imul (pc := 52) hx hb dX1_plain_52 ?_
      refine lv_istore_n (pc := 53) (lv' := [(1, .int (x1 * (1 : Int32))), (0, .ref x0), (2, .int x2)]) hx hb dX1_plain_53 rfl hl (by decide) rfl (fun ls hl => ?_)
      refine lv_iinc (pc := 54) (v := (x2 + (1 : Int32))) (lv' := [(2, .int (x2 + (1 : Int32))), (1, .int (x1 * (1 : Int32))), (0, .ref x0)]) hx hb dX1_plain_54 hl (k := 2) rfl rfl (by decide) rfl (fun ls hl => ?_)
      refine lv_goto (pc := 57) (tgt := 13) hx hb dX1_plain_57 (by decide) ?_
      exact h d hd p e s m args below meth c hcx H locs _ hW hS (lv_sub hl [2, 1, 0] rfl)
    · have h := h.2 c8
      refine lv_aload_n (pc := 36) hx hb dX1_plain_36 rfl (lv_at hl 0 rfl) ?_
      obtain ⟨g9, h⟩ := h
      refine cj_fld (pc := 37) hcx hW 0 g9 (by decide) rfl in_X1 9 (by decide) (by decide) q286 dX1_plain_37 (v := va_rf (cj_R σ7 109 x0)) rfl ?_
      obtain ⟨a10, e11, h⟩ := h
      refine cj_stk (st' := [.ref a10, .int x1]) (by rw [e11]; rfl) ?_
      obtain ⟨g12, h⟩ := h
      refine cj_fldN (pc := 40) hcx hW 1 g12 (by decide) rfl in_X2 0 (by decide) (by decide) (List.mem_of_getElem? (i := 0) rfl) dX1_plain_40 (v := va_rf (cj_R σ7 200 a10)) rfl ?_
      refine lv_iload_n (pc := 43) hx hb dX1_plain_43 rfl (lv_at hl 2 rfl) ?_
      obtain ⟨a13, e14, h⟩ := h
      refine cj_stk (st' := [.int x2, .ref a13, .int x1]) (by rw [e14]; rfl) ?_
      obtain ⟨g15, h⟩ := h
      obtain ⟨g16, h⟩ := h
      refine cj_aald (pc := 44) hcx hW g15 (by unfold cj_rt; decide) g16 dX1_plain_44 ?_
      obtain ⟨a17, e18, h⟩ := h
      refine cj_stk (st' := [.ref a17, .int x1]) (by rw [e18]; rfl) ?_
      obtain ⟨g19, h⟩ := h
      refine cj_fldN (pc := 45) hcx hW 5 g19 (by decide) rfl in_X7 3 (by decide) (by decide) (List.mem_of_getElem? (i := 13) rfl) dX1_plain_45 (v := .int (cj_F σ7 603 a17)) rfl ?_
      refine lv_goto (pc := 48) (tgt := 52) hx hb dX1_plain_48 (by decide) ?_
      refine lv_imul (pc := 52) hx hb dX1_plain_52 ?_
      refine lv_istore_n (pc := 53) (lv' := [(1, .int (x1 * (cj_F σ7 603 a17))), (0, .ref x0), (2, .int x2)]) hx hb dX1_plain_53 rfl hl (by decide) rfl (fun ls hl => ?_)
      refine lv_iinc (pc := 54) (v := (x2 + (1 : Int32))) (lv' := [(2, .int (x2 + (1 : Int32))), (1, .int (x1 * (cj_F σ7 603 a17))), (0, .ref x0)]) hx hb dX1_plain_54 hl (k := 2) rfl rfl (by decide) rfl (fun ls hl => ?_)
      refine lv_goto (pc := 57) (tgt := 13) hx hb dX1_plain_57 (by decide) ?_
      exact h d hd p e s m args below meth c hcx H locs _ hW hS (lv_sub hl [2, 1, 0] rfl)
set_option maxHeartbeats 4000000 in
set_option maxRecDepth 100000 in
theorem cb_L_plain {E : cj_E} {σ : cj_S} {x0 : Nat} {P : Int32 → cj_S → Prop} (h : (cj_T σ x0 = 1 ∧ (((cj_F σ 107 x0) = 0 → P (-1 : Int32) σ) ∧ (¬ (cj_F σ 107 x0) = 0 → cg_L_plain_13 E σ x0 (1 : Int32) (0 : Int32) P)))) : cs_L_plain E σ x0 P :=
  cj_enter (k := 1) (lv := [(0, .ref x0)]) (by decide) (Nat.le_of_ble_eq_true rfl) rfl (by
    intro d hd p e s m args below meth c hcx H locs ls hW hS hl
    have hx := hcx.1
    have hb := hcx.2.1
    have hown := hcx.2.2.2.2.2.1
    have hts := hcx.2.2.2.2.2.2.1
    refine lv_aload_n (pc := 0) hx hb dX1_plain_0 rfl (lv_at hl 0 rfl) ?_
    obtain ⟨g1, h⟩ := h
    refine cj_fld (pc := 1) hcx hW 0 g1 (by decide) rfl in_X1 7 (by decide) (by decide) q284 dX1_plain_1 (v := .int (cj_F σ 107 x0)) rfl ?_
    refine lv_if_ne (pc := 4) (tgt := 9) hx hb dX1_plain_4 (by decide) (fun c2 => ?_) (fun c2 => ?_)
    · have h := h.2 c2
      refine lv_iconst (pc := 9) (v := (1 : Int32)) hx hb dX1_plain_9 (by decide) ?_
      refine lv_istore_n (pc := 10) (lv' := [(1, .int (1 : Int32)), (0, .ref x0)]) hx hb dX1_plain_10 rfl hl (by decide) rfl (fun ls hl => ?_)
      refine lv_iconst (pc := 11) (v := (0 : Int32)) hx hb dX1_plain_11 (by decide) ?_
      refine lv_istore_n (pc := 12) (lv' := [(2, .int (0 : Int32)), (1, .int (1 : Int32)), (0, .ref x0)]) hx hb dX1_plain_12 rfl hl (by decide) rfl (fun ls hl => ?_)
      exact h d hd p e s m args below meth c hcx H locs _ hW hS (lv_sub hl [2, 1, 0] rfl)
    · have h := h.1 c2
      refine lv_iconst (pc := 7) (v := (-1 : Int32)) hx hb dX1_plain_7 (by decide) ?_
      exact cj_reti (pc := 8) hcx hW hS rfl h (Nat.le_refl _) (Nat.le_refl _) dX1_plain_8)
/-! L_status -/
set_option maxHeartbeats 4000000 in
set_option maxRecDepth 100000 in
theorem cb_L_status {E : cj_E} {σ : cj_S} {x0 : Nat} {x1 : Int32} {P : Int32 → cj_S → Prop} (h : cs_L_isIn E σ (x1).toInt64 (0 : Int64) (3 : Int64) (fun r1 σ2 => ((r1 = 0 → P (-1 : Int32) σ2) ∧ (¬ r1 = 0 → (cj_T σ2 x0 = 1 ∧ (∃ a5, (cj_R σ2 103 x0) = some a5 ∧ (cj_T σ2 a5 = 21 ∧ (vp_in x1 (cj_N σ2 a5) ∧ P (cj_A σ2 a5 x1.toNatClampNeg) σ2)))))))) : cs_L_status E σ x0 x1 P :=
  cj_enter (k := 1) (lv := [(0, .ref x0), (1, .int x1)]) (by decide) (Nat.le_of_ble_eq_true rfl) rfl (by
    intro d hd p e s m args below meth c hcx H locs ls hW hS hl
    have hx := hcx.1
    have hb := hcx.2.1
    have hown := hcx.2.2.2.2.2.1
    have hts := hcx.2.2.2.2.2.2.1
    refine lv_iload_n (pc := 0) hx hb dX1_status_0 rfl (lv_at hl 1 rfl) ?_
    refine lv_i2l (pc := 1) hx hb dX1_status_1 rfl ?_
    refine lv_lconst (pc := 2) (v := (0 : Int64)) hx hb dX1_status_2 (by decide) ?_
    refine lv_ldc2 (pc := 3) (v := (3 : Int64)) hx hb hown (hts _ q936) dX1_status_3 ?_
    refine cj_xi (pc := 6) (cj_runS hcx hW hS [.long (x1).toInt64, .long (0 : Int64), .long (3 : Int64)] h (Nat.le_trans (by decide) hd) (lw_S q349 q350 q122 q351) yd_L_isIn (by decide) rfl rfl (Nat.le_of_ble_eq_true rfl) hl.1 (Nat.le_refl _) (Nat.le_refl _) dX1_status_6) hS (fun r1 σ2 h H locs hW hS => ?_)
    refine lv_if_eq (pc := 9) (tgt := 21) hx hb dX1_status_9 (by decide) (fun c3 => ?_) (fun c3 => ?_)
    · have h := h.1 c3
      refine lv_iconst (pc := 21) (v := (-1 : Int32)) hx hb dX1_status_21 (by decide) ?_
      exact cj_reti (pc := 22) hcx hW hS rfl h (Nat.le_refl _) (Nat.le_refl _) dX1_status_22
    · have h := h.2 c3
      refine lv_aload_n (pc := 12) hx hb dX1_status_12 rfl (lv_at hl 0 rfl) ?_
      obtain ⟨g4, h⟩ := h
      refine cj_fld (pc := 13) hcx hW 0 g4 (by decide) rfl in_X1 3 (by decide) (by decide) q277 dX1_status_13 (v := va_rf (cj_R σ2 103 x0)) rfl ?_
      refine lv_iload_n (pc := 16) hx hb dX1_status_16 rfl (lv_at hl 1 rfl) ?_
      obtain ⟨a5, e6, h⟩ := h
      refine cj_stk (st' := [.int x1, .ref a5]) (by rw [e6]; rfl) ?_
      obtain ⟨g7, h⟩ := h
      obtain ⟨g8, h⟩ := h
      refine cj_iald (pc := 17) hcx hW g7 g8 dX1_status_17 ?_
      refine lv_goto (pc := 18) (tgt := 22) hx hb dX1_status_18 (by decide) ?_
      exact cj_reti (pc := 22) hcx hW hS rfl h (Nat.le_refl _) (Nat.le_refl _) dX1_status_22)
/-! L_sums -/
set_option maxHeartbeats 4000000 in
set_option maxRecDepth 100000 in
theorem cb_L_sums_4 {E : cj_E} {σ : cj_S} {x0 : Nat} {x1 : Int32} {x2 : Int32} {P : Int32 → cj_S → Prop} (h : (cj_T σ x0 = 1 ∧ (((cj_F σ 107 x0) ≤ x2 → P x1 σ) ∧ (¬ (cj_F σ 107 x0) ≤ x2 → cg_L_sums_14 E σ x0 x1 x2 (0 : Int32) P)))) : cg_L_sums_4 E σ x0 x1 x2 P := by
  intro d hd p e s m args below meth c hcx H locs ls hW hS hl
  have hx := hcx.1
  have hb := hcx.2.1
  have hown := hcx.2.2.2.2.2.1
  have hts := hcx.2.2.2.2.2.2.1
  refine lv_iload_n (pc := 4) hx hb dX1_sums_4 rfl (lv_at hl 2 rfl) ?_
  refine lv_aload_n (pc := 5) hx hb dX1_sums_5 rfl (lv_at hl 0 rfl) ?_
  obtain ⟨g1, h⟩ := h
  refine cj_fld (pc := 6) hcx hW 0 g1 (by decide) rfl in_X1 7 (by decide) (by decide) q284 dX1_sums_6 (v := .int (cj_F σ 107 x0)) rfl ?_
  refine lv_icmp_ge (pc := 9) (tgt := 91) hx hb dX1_sums_9 (by decide) (fun c2 => ?_) (fun c2 => ?_)
  · have h := h.1 c2
    refine lv_iload_n (pc := 91) hx hb dX1_sums_91 rfl (lv_at hl 1 rfl) ?_
    exact cj_reti (pc := 92) hcx hW hS rfl h (Nat.le_refl _) (Nat.le_refl _) dX1_sums_92
  · have h := h.2 c2
    refine lv_iconst (pc := 12) (v := (0 : Int32)) hx hb dX1_sums_12 (by decide) ?_
    refine lv_istore_n (pc := 13) (lv' := [(3, .int (0 : Int32)), (0, .ref x0), (1, .int x1), (2, .int x2)]) hx hb dX1_sums_13 rfl hl (by decide) rfl (fun ls hl => ?_)
    exact h d hd p e s m args below meth c hcx H locs _ hW hS (lv_sub hl [1, 2, 3, 0] rfl)
set_option maxHeartbeats 4000000 in
set_option maxRecDepth 100000 in
theorem cb_L_sums_14 {E : cj_E} {σ : cj_S} {x0 : Nat} {x1 : Int32} {x2 : Int32} {x3 : Int32} {P : Int32 → cj_S → Prop} (h : (cj_T σ x0 = 1 ∧ (∃ a2, (cj_R σ 109 x0) = some a2 ∧ (cj_T σ a2 = 2 ∧ (∃ a5, (cj_R σ 200 a2) = some a5 ∧ (cj_T σ a5 = 26 ∧ (vp_in x2 (cj_N σ a5) ∧ (∃ a9, (cj_B σ a5 x2.toNatClampNeg) = some a9 ∧ (cj_T σ a9 = 6 ∧ (((cj_F σ 603 a9) ≤ x3 → cg_L_sums_4 E σ x0 x1 (x2 + (1 : Int32)) P) ∧ (¬ (cj_F σ 603 a9) ≤ x3 → cg_L_sums_33 E σ x0 x1 x2 x3 (0 : Int32) P))))))))))) : cg_L_sums_14 E σ x0 x1 x2 x3 P := by
  intro d hd p e s m args below meth c hcx H locs ls hW hS hl
  have hx := hcx.1
  have hb := hcx.2.1
  have hown := hcx.2.2.2.2.2.1
  have hts := hcx.2.2.2.2.2.2.1
  refine lv_iload_n (pc := 14) hx hb dX1_sums_14 rfl (lv_at hl 3 rfl) ?_
  refine lv_aload_n (pc := 15) hx hb dX1_sums_15 rfl (lv_at hl 0 rfl) ?_
  obtain ⟨g1, h⟩ := h
  refine cj_fld (pc := 16) hcx hW 0 g1 (by decide) rfl in_X1 9 (by decide) (by decide) q286 dX1_sums_16 (v := va_rf (cj_R σ 109 x0)) rfl ?_
  obtain ⟨a2, e3, h⟩ := h
  refine cj_stk (st' := [.ref a2, .int x3]) (by rw [e3]; rfl) ?_
  obtain ⟨g4, h⟩ := h
  refine cj_fldN (pc := 19) hcx hW 1 g4 (by decide) rfl in_X2 0 (by decide) (by decide) (List.mem_of_getElem? (i := 0) rfl) dX1_sums_19 (v := va_rf (cj_R σ 200 a2)) rfl ?_
  refine lv_iload_n (pc := 22) hx hb dX1_sums_22 rfl (lv_at hl 2 rfl) ?_
  obtain ⟨a5, e6, h⟩ := h
  refine cj_stk (st' := [.int x2, .ref a5, .int x3]) (by rw [e6]; rfl) ?_
  obtain ⟨g7, h⟩ := h
  obtain ⟨g8, h⟩ := h
  refine cj_aald (pc := 23) hcx hW g7 (by unfold cj_rt; decide) g8 dX1_sums_23 ?_
  obtain ⟨a9, e10, h⟩ := h
  refine cj_stk (st' := [.ref a9, .int x3]) (by rw [e10]; rfl) ?_
  obtain ⟨g11, h⟩ := h
  refine cj_fldN (pc := 24) hcx hW 5 g11 (by decide) rfl in_X7 3 (by decide) (by decide) (List.mem_of_getElem? (i := 13) rfl) dX1_sums_24 (v := .int (cj_F σ 603 a9)) rfl ?_
  refine lv_icmp_ge (pc := 27) (tgt := 85) hx hb dX1_sums_27 (by decide) (fun c12 => ?_) (fun c12 => ?_)
  · have h := h.1 c12
    refine lv_iinc (pc := 85) (v := (x2 + (1 : Int32))) (lv' := [(2, .int (x2 + (1 : Int32))), (0, .ref x0), (1, .int x1), (3, .int x3)]) hx hb dX1_sums_85 hl (k := 2) rfl rfl (by decide) rfl (fun ls hl => ?_)
    refine lv_goto (pc := 88) (tgt := 4) hx hb dX1_sums_88 (by decide) ?_
    exact h d hd p e s m args below meth c hcx H locs _ hW hS (lv_sub hl [1, 2, 0] rfl)
  · have h := h.2 c12
    refine lv_iconst (pc := 30) (v := (0 : Int32)) hx hb dX1_sums_30 (by decide) ?_
    refine lv_istore (pc := 31) (lv' := [(4, .int (0 : Int32)), (0, .ref x0), (1, .int x1), (2, .int x2), (3, .int x3)]) hx hb dX1_sums_31 hl (by decide) rfl (fun ls hl => ?_)
    exact h d hd p e s m args below meth c hcx H locs _ hW hS (lv_sub hl [1, 2, 3, 4, 0] rfl)
set_option maxHeartbeats 4000000 in
set_option maxRecDepth 100000 in
theorem cb_L_sums_33 {E : cj_E} {σ : cj_S} {x0 : Nat} {x1 : Int32} {x2 : Int32} {x3 : Int32} {x4 : Int32} {P : Int32 → cj_S → Prop} (h : (cj_T σ x0 = 1 ∧ (∃ a2, (cj_R σ 109 x0) = some a2 ∧ (cj_T σ a2 = 2 ∧ (∃ a5, (cj_R σ 200 a2) = some a5 ∧ (cj_T σ a5 = 26 ∧ (vp_in x2 (cj_N σ a5) ∧ (∃ a9, (cj_B σ a5 x2.toNatClampNeg) = some a9 ∧ (cj_T σ a9 = 6 ∧ (∃ a12, (cj_R σ 600 a9) = some a12 ∧ (cj_T σ a12 = 21 ∧ (((nI (cj_N σ a12)) ≤ x4 → cg_L_sums_14 E σ x0 x1 x2 (x3 + (1 : Int32)) P) ∧ (¬ (nI (cj_N σ a12)) ≤ x4 → (vp_in x2 (cj_N σ a5) ∧ (∃ a17, (cj_R σ 601 a9) = some a17 ∧ (cj_rt (cj_T σ a17) ∧ (vp_in x3 (cj_N σ a17) ∧ (∃ a21, (cj_B σ a17 x3.toNatClampNeg) = some a21 ∧ cs_Rw_at E σ a21 x4 (fun r23 σ24 => cg_L_sums_33 E σ24 x0 (x1 + r23) x2 x3 (x4 + (1 : Int32)) P))))))))))))))))))) : cg_L_sums_33 E σ x0 x1 x2 x3 x4 P := by
  intro d hd p e s m args below meth c hcx H locs ls hW hS hl
  have hx := hcx.1
  have hb := hcx.2.1
  have hown := hcx.2.2.2.2.2.1
  have hts := hcx.2.2.2.2.2.2.1
  refine lv_iload (pc := 33) hx hb dX1_sums_33 (lv_at hl 4 rfl) ?_
  refine lv_aload_n (pc := 35) hx hb dX1_sums_35 rfl (lv_at hl 0 rfl) ?_
  obtain ⟨g1, h⟩ := h
  refine cj_fld (pc := 36) hcx hW 0 g1 (by decide) rfl in_X1 9 (by decide) (by decide) q286 dX1_sums_36 (v := va_rf (cj_R σ 109 x0)) rfl ?_
  obtain ⟨a2, e3, h⟩ := h
  refine cj_stk (st' := [.ref a2, .int x4]) (by rw [e3]; rfl) ?_
  obtain ⟨g4, h⟩ := h
  refine cj_fldN (pc := 39) hcx hW 1 g4 (by decide) rfl in_X2 0 (by decide) (by decide) (List.mem_of_getElem? (i := 0) rfl) dX1_sums_39 (v := va_rf (cj_R σ 200 a2)) rfl ?_
  refine lv_iload_n (pc := 42) hx hb dX1_sums_42 rfl (lv_at hl 2 rfl) ?_
  obtain ⟨a5, e6, h⟩ := h
  refine cj_stk (st' := [.int x2, .ref a5, .int x4]) (by rw [e6]; rfl) ?_
  obtain ⟨g7, h⟩ := h
  obtain ⟨g8, h⟩ := h
  refine cj_aald (pc := 43) hcx hW g7 (by unfold cj_rt; decide) g8 dX1_sums_43 ?_
  obtain ⟨a9, e10, h⟩ := h
  refine cj_stk (st' := [.ref a9, .int x4]) (by rw [e10]; rfl) ?_
  obtain ⟨g11, h⟩ := h
  refine cj_fldN (pc := 44) hcx hW 5 g11 (by decide) rfl in_X7 0 (by decide) (by decide) (List.mem_of_getElem? (i := 11) rfl) dX1_sums_44 (v := va_rf (cj_R σ 600 a9)) rfl ?_
  obtain ⟨a12, e13, h⟩ := h
  refine cj_stk (st' := [.ref a12, .int x4]) (by rw [e13]; rfl) ?_
  obtain ⟨g14, h⟩ := h
  refine cj_alen (pc := 47) hcx hW g14 (by unfold cj_at_ cj_rt; decide) dX1_sums_47 ?_
  refine lv_icmp_ge (pc := 48) (tgt := 79) hx hb dX1_sums_48 (by decide) (fun c15 => ?_) (fun c15 => ?_)
  · have h := h.1 c15
    refine lv_iinc (pc := 79) (v := (x3 + (1 : Int32))) (lv' := [(3, .int (x3 + (1 : Int32))), (0, .ref x0), (1, .int x1), (2, .int x2), (4, .int x4)]) hx hb dX1_sums_79 hl (k := 3) rfl rfl (by decide) rfl (fun ls hl => ?_)
    refine lv_goto (pc := 82) (tgt := 14) hx hb dX1_sums_82 (by decide) ?_
    exact h d hd p e s m args below meth c hcx H locs _ hW hS (lv_sub hl [1, 2, 3, 0] rfl)
  · have h := h.2 c15
    refine lv_iload_n (pc := 51) hx hb dX1_sums_51 rfl (lv_at hl 1 rfl) ?_
    refine lv_aload_n (pc := 52) hx hb dX1_sums_52 rfl (lv_at hl 0 rfl) ?_
    refine cj_fld (pc := 53) hcx hW 0 g1 (by decide) rfl in_X1 9 (by decide) (by decide) q286 dX1_sums_53 (v := va_rf (cj_R σ 109 x0)) rfl ?_
    refine cj_stk (st' := [.ref a2, .int x1]) (by rw [e3]; rfl) ?_
    refine cj_fldN (pc := 56) hcx hW 1 g4 (by decide) rfl in_X2 0 (by decide) (by decide) (List.mem_of_getElem? (i := 0) rfl) dX1_sums_56 (v := va_rf (cj_R σ 200 a2)) rfl ?_
    refine lv_iload_n (pc := 59) hx hb dX1_sums_59 rfl (lv_at hl 2 rfl) ?_
    refine cj_stk (st' := [.int x2, .ref a5, .int x1]) (by rw [e6]; rfl) ?_
    obtain ⟨g16, h⟩ := h
    refine cj_aald (pc := 60) hcx hW g7 (by unfold cj_rt; decide) g16 dX1_sums_60 ?_
    refine cj_stk (st' := [.ref a9, .int x1]) (by rw [e10]; rfl) ?_
    refine cj_fldN (pc := 61) hcx hW 5 g11 (by decide) rfl in_X7 1 (by decide) (by decide) (List.mem_of_getElem? (i := 12) rfl) dX1_sums_61 (v := va_rf (cj_R σ 601 a9)) rfl ?_
    refine lv_iload_n (pc := 64) hx hb dX1_sums_64 rfl (lv_at hl 3 rfl) ?_
    obtain ⟨a17, e18, h⟩ := h
    refine cj_stk (st' := [.int x3, .ref a17, .int x1]) (by rw [e18]; rfl) ?_
    obtain ⟨g19, h⟩ := h
    obtain ⟨g20, h⟩ := h
    refine cj_aald (pc := 65) hcx hW rfl g19 g20 dX1_sums_65 ?_
    refine lv_iload (pc := 66) hx hb dX1_sums_66 (lv_at hl 4 rfl) ?_
    obtain ⟨a21, e22, h⟩ := h
    refine cj_stk (st' := [.int x4, .ref a21, .int x1]) (by rw [e22]; rfl) ?_
    refine cj_xi (pc := 68) (cj_runRw_at hcx hW hS h (Nat.le_trans (by decide) hd) q962 rfl (Nat.le_of_ble_eq_true rfl) hl.1 (Nat.le_refl _) (Nat.le_refl _) dX1_sums_68) hS (fun r23 σ24 h H locs hW hS => ?_)
    refine lv_iadd (pc := 71) hx hb dX1_sums_71 ?_
    refine lv_istore_n (pc := 72) (lv' := [(1, .int (x1 + r23)), (0, .ref x0), (2, .int x2), (3, .int x3), (4, .int x4)]) hx hb dX1_sums_72 rfl hl (by decide) rfl (fun ls hl => ?_)
    refine lv_iinc (pc := 73) (v := (x4 + (1 : Int32))) (lv' := [(4, .int (x4 + (1 : Int32))), (1, .int (x1 + r23)), (0, .ref x0), (2, .int x2), (3, .int x3)]) hx hb dX1_sums_73 hl (k := 4) rfl rfl (by decide) rfl (fun ls hl => ?_)
    refine lv_goto (pc := 76) (tgt := 33) hx hb dX1_sums_76 (by decide) ?_
    exact h d hd p e s m args below meth c hcx H locs _ hW hS (lv_sub hl [2, 1, 3, 4, 0] rfl)
set_option maxHeartbeats 4000000 in
set_option maxRecDepth 100000 in
theorem cb_L_sums {E : cj_E} {σ : cj_S} {x0 : Nat} {P : Int32 → cj_S → Prop} (h : cg_L_sums_4 E σ x0 (0 : Int32) (0 : Int32) P) : cs_L_sums E σ x0 P :=
  cj_enter (k := 1) (lv := [(0, .ref x0)]) (by decide) (Nat.le_of_ble_eq_true rfl) rfl (by
    intro d hd p e s m args below meth c hcx H locs ls hW hS hl
    have hx := hcx.1
    have hb := hcx.2.1
    have hown := hcx.2.2.2.2.2.1
    have hts := hcx.2.2.2.2.2.2.1
    refine lv_iconst (pc := 0) (v := (0 : Int32)) hx hb dX1_sums_0 (by decide) ?_
    refine lv_istore_n (pc := 1) (lv' := [(1, .int (0 : Int32)), (0, .ref x0)]) hx hb dX1_sums_1 rfl hl (by decide) rfl (fun ls hl => ?_)
    refine lv_iconst (pc := 2) (v := (0 : Int32)) hx hb dX1_sums_2 (by decide) ?_
    refine lv_istore_n (pc := 3) (lv' := [(2, .int (0 : Int32)), (1, .int (0 : Int32)), (0, .ref x0)]) hx hb dX1_sums_3 rfl hl (by decide) rfl (fun ls hl => ?_)
    exact h d hd p e s m args below meth c hcx H locs _ hW hS (lv_sub hl [2, 1, 0] rfl))
/-! On_init -/
set_option maxHeartbeats 4000000 in
set_option maxRecDepth 100000 in
theorem cb_On_init {E : cj_E} {σ : cj_S} {x0 : Nat} {x1 : Int32} {P : cj_S → Prop} (h : cs_Rw_init E σ x0 (fun σ2 => (cj_T σ2 x0 = 7 ∧ P (cj_sF σ2 700 x0 x1)))) : cs_On_init E σ x0 x1 P :=
  cj_enter (k := 1) (lv := [(0, .ref x0), (1, .int x1)]) (by decide) (Nat.le_of_ble_eq_true rfl) rfl (by
    intro d hd p e s m args below meth c hcx H locs ls hW hS hl
    have hx := hcx.1
    have hb := hcx.2.1
    have hown := hcx.2.2.2.2.2.1
    have hts := hcx.2.2.2.2.2.2.1
    refine lv_aload_n (pc := 0) hx hb dX9_init_0 rfl (lv_at hl 0 rfl) ?_
    refine cj_xv (pc := 1) (cj_runIN hcx hW hS [] h (Nat.le_trans (by decide) hd) (List.mem_of_getElem? (i := 13) rfl) q533 q132 q534 rfl yd_Rw_init (by decide) rfl rfl (Nat.le_of_ble_eq_true rfl) hl.1 (Nat.le_refl _) (Nat.le_refl _) dX9_init_1) hS (fun σ2 h H locs hW hS => ?_)
    refine lv_aload_n (pc := 4) hx hb dX9_init_4 rfl (lv_at hl 0 rfl) ?_
    refine lv_iload_n (pc := 5) hx hb dX9_init_5 rfl (lv_at hl 1 rfl) ?_
    obtain ⟨g3, h⟩ := h
    refine cj_putF (pc := 6) (σ1 := (cj_sF σ2 700 x0 x1)) hcx hW hS 6 g3 (by decide) rfl in_X9 tyX9_ok nmX9 0 (by decide) (by decide) rfl rfl rfl rfl rfl (cj_pI rfl) q536 dX9_init_6 (fun H locs hW hS => ?_)
    exact cj_retv (pc := 9) hcx hW hS h (Nat.le_refl _) (Nat.le_refl _) dX9_init_9)
/-! Rd_isNext -/
set_option maxHeartbeats 4000000 in
set_option maxRecDepth 100000 in
theorem cb_Rd_isNext {E : cj_E} {σ : cj_S} {x0 : Nat} {x1 : Int32} {P : Int32 → cj_S → Prop} (h : (cj_T σ x0 = 4 ∧ cs_Rd_peek E σ x0 (fun r1 σ2 => ((r1 = x1 → P (1 : Int32) σ2) ∧ (¬ r1 = x1 → P (0 : Int32) σ2))))) : cs_Rd_isNext E σ x0 x1 P :=
  cj_enter (k := 1) (lv := [(0, .ref x0), (1, .int x1)]) (by decide) (Nat.le_of_ble_eq_true rfl) rfl (by
    intro d hd p e s m args below meth c hcx H locs ls hW hS hl
    have hx := hcx.1
    have hb := hcx.2.1
    have hown := hcx.2.2.2.2.2.1
    have hts := hcx.2.2.2.2.2.2.1
    refine lv_aload_n (pc := 0) hx hb dX5_isNext_0 rfl (lv_at hl 0 rfl) ?_
    obtain ⟨g3, h⟩ := h
    refine cj_xi (pc := 1) (cj_runV hcx hW hS 3 g3 (by decide) rfl [] h (Nat.le_trans (by decide) hd) (lw_V q380 q382 qs3 q126 q383) rfl yd_Rd_peek (by decide) rfl rfl (Nat.le_of_ble_eq_true rfl) hl.1 (Nat.le_refl _) (Nat.le_refl _) dX5_isNext_1) hS (fun r1 σ2 h H locs hW hS => ?_)
    refine lv_iload_n (pc := 4) hx hb dX5_isNext_4 rfl (lv_at hl 1 rfl) ?_
    refine lv_icmp_ne (pc := 5) (tgt := 12) hx hb dX5_isNext_5 (by decide) (fun c4 => ?_) (fun c4 => ?_)
    · have h := h.2 c4
      refine lv_iconst (pc := 12) (v := (0 : Int32)) hx hb dX5_isNext_12 (by decide) ?_
      exact cj_reti (pc := 13) hcx hW hS rfl h (Nat.le_refl _) (Nat.le_refl _) dX5_isNext_13
    · have h := h.1 c4
      refine lv_iconst (pc := 8) (v := (1 : Int32)) hx hb dX5_isNext_8 (by decide) ?_
      refine lv_goto (pc := 9) (tgt := 13) hx hb dX5_isNext_9 (by decide) ?_
      exact cj_reti (pc := 13) hcx hW hS rfl h (Nat.le_refl _) (Nat.le_refl _) dX5_isNext_13)
/-! Rw_against -/
set_option maxHeartbeats 4000000 in
set_option maxRecDepth 100000 in
theorem cb_Rw_against_2 {E : cj_E} {σ : cj_S} {x0 : Nat} {x1 : Option Nat} {x2 : Int32} {P : Int32 → cj_S → Prop} (h : cs_Rw_width E σ x0 (fun r1 σ2 => ((r1 ≤ x2 → P (0 : Int32) σ2) ∧ (¬ r1 ≤ x2 → cs_Rw_at E σ2 x0 x2 (fun r4 σ5 => (∃ a6, x1 = some a6 ∧ cs_Rw_at E σ5 a6 x2 (fun r8 σ9 => ((r4 = r8 → cg_Rw_against_2 E σ9 x0 x1 (x2 + (1 : Int32)) P) ∧ (¬ r4 = r8 → cs_Rw_at E σ9 x0 x2 (fun r11 σ12 => cs_Rw_at E σ12 a6 x2 (fun r13 σ14 => P (r11 - r13) σ14))))))))))) : cg_Rw_against_2 E σ x0 x1 x2 P := by
  intro d hd p e s m args below meth c hcx H locs ls hW hS hl
  have hx := hcx.1
  have hb := hcx.2.1
  have hown := hcx.2.2.2.2.2.1
  have hts := hcx.2.2.2.2.2.2.1
  refine lv_iload_n (pc := 2) hx hb dX8_against_2 rfl (lv_at hl 2 rfl) ?_
  refine lv_aload_n (pc := 3) hx hb dX8_against_3 rfl (lv_at hl 0 rfl) ?_
  refine cj_xi (pc := 4) (cj_runRw_width hcx hW hS h (Nat.le_trans (by decide) hd) q577 rfl (Nat.le_of_ble_eq_true rfl) hl.1 (Nat.le_refl _) (Nat.le_refl _) dX8_against_4) hS (fun r1 σ2 h H locs hW hS => ?_)
  refine lv_icmp_ge (pc := 7) (tgt := 41) hx hb dX8_against_7 (by decide) (fun c3 => ?_) (fun c3 => ?_)
  · have h := h.1 c3
    refine lv_iconst (pc := 41) (v := (0 : Int32)) hx hb dX8_against_41 (by decide) ?_
    exact cj_reti (pc := 42) hcx hW hS rfl h (Nat.le_refl _) (Nat.le_refl _) dX8_against_42
  · have h := h.2 c3
    refine lv_aload_n (pc := 10) hx hb dX8_against_10 rfl (lv_at hl 0 rfl) ?_
    refine lv_iload_n (pc := 11) hx hb dX8_against_11 rfl (lv_at hl 2 rfl) ?_
    refine cj_xi (pc := 12) (cj_runRw_at hcx hW hS h (Nat.le_trans (by decide) hd) q589 rfl (Nat.le_of_ble_eq_true rfl) hl.1 (Nat.le_refl _) (Nat.le_refl _) dX8_against_12) hS (fun r4 σ5 h H locs hW hS => ?_)
    refine cj_aload_n (pc := 15) hx hb dX8_against_15 rfl (lv_at hl 1 rfl) ?_
    refine lv_iload_n (pc := 16) hx hb dX8_against_16 rfl (lv_at hl 2 rfl) ?_
    obtain ⟨a6, e7, h⟩ := h
    refine cj_stk (st' := [.int x2, .ref a6, .int r4]) (by rw [e7]; rfl) ?_
    refine cj_xi (pc := 17) (cj_runRw_at hcx hW hS h (Nat.le_trans (by decide) hd) q589 rfl (Nat.le_of_ble_eq_true rfl) hl.1 (Nat.le_refl _) (Nat.le_refl _) dX8_against_17) hS (fun r8 σ9 h H locs hW hS => ?_)
    refine lv_icmp_eq (pc := 20) (tgt := 35) hx hb dX8_against_20 (by decide) (fun c10 => ?_) (fun c10 => ?_)
    · have h := h.1 c10
      refine lv_iinc (pc := 35) (v := (x2 + (1 : Int32))) (lv' := [(2, .int (x2 + (1 : Int32))), (0, .ref x0), (1, va_rf x1)]) hx hb dX8_against_35 hl (k := 2) rfl rfl (by decide) (by generalize x1 = z; cases z <;> rfl) (fun ls hl => ?_)
      refine lv_goto (pc := 38) (tgt := 2) hx hb dX8_against_38 (by decide) ?_
      exact h d hd p e s m args below meth c hcx H locs _ hW hS (lv_sub hl [1, 2, 0] rfl)
    · have h := h.2 c10
      refine lv_aload_n (pc := 23) hx hb dX8_against_23 rfl (lv_at hl 0 rfl) ?_
      refine lv_iload_n (pc := 24) hx hb dX8_against_24 rfl (lv_at hl 2 rfl) ?_
      refine cj_xi (pc := 25) (cj_runRw_at hcx hW hS h (Nat.le_trans (by decide) hd) q589 rfl (Nat.le_of_ble_eq_true rfl) hl.1 (Nat.le_refl _) (Nat.le_refl _) dX8_against_25) hS (fun r11 σ12 h H locs hW hS => ?_)
      refine cj_aload_n (pc := 28) hx hb dX8_against_28 rfl (lv_at hl 1 rfl) ?_
      refine lv_iload_n (pc := 29) hx hb dX8_against_29 rfl (lv_at hl 2 rfl) ?_
      refine cj_stk (st' := [.int x2, .ref a6, .int r11]) (by rw [e7]; rfl) ?_
      refine cj_xi (pc := 30) (cj_runRw_at hcx hW hS h (Nat.le_trans (by decide) hd) q589 rfl (Nat.le_of_ble_eq_true rfl) hl.1 (Nat.le_refl _) (Nat.le_refl _) dX8_against_30) hS (fun r13 σ14 h H locs hW hS => ?_)
      refine lv_isub (pc := 33) hx hb dX8_against_33 ?_
      exact cj_reti (pc := 34) hcx hW hS rfl h (Nat.le_refl _) (Nat.le_refl _) dX8_against_34
set_option maxHeartbeats 4000000 in
set_option maxRecDepth 100000 in
theorem cb_Rw_against {E : cj_E} {σ : cj_S} {x0 : Nat} {x1 : Option Nat} {P : Int32 → cj_S → Prop} (h : cg_Rw_against_2 E σ x0 x1 (0 : Int32) P) : cs_Rw_against E σ x0 x1 P :=
  cj_enter (k := 1) (lv := [(0, .ref x0), (1, va_rf x1)]) (by decide) (by cases x1 <;> exact Nat.le_of_ble_eq_true rfl) (by cases x1 <;> rfl) (by
    intro d hd p e s m args below meth c hcx H locs ls hW hS hl
    have hx := hcx.1
    have hb := hcx.2.1
    have hown := hcx.2.2.2.2.2.1
    have hts := hcx.2.2.2.2.2.2.1
    refine lv_iconst (pc := 0) (v := (0 : Int32)) hx hb dX8_against_0 (by decide) ?_
    refine lv_istore_n (pc := 1) (lv' := [(2, .int (0 : Int32)), (0, .ref x0), (1, va_rf x1)]) hx hb dX8_against_1 rfl hl (by decide) (by generalize x1 = z; cases z <;> rfl) (fun ls hl => ?_)
    exact h d hd p e s m args below meth c hcx H locs _ hW hS (lv_sub hl [1, 2, 0] rfl))
/-! St_asked -/
set_option maxHeartbeats 4000000 in
set_option maxRecDepth 100000 in
theorem cb_St_asked_4 {E : cj_E} {σ : cj_S} {x0 : Nat} {x1 : Int32} {x2 : Int32} {P : Int32 → cj_S → Prop} (h : (cj_T σ x0 = 2 ∧ (∃ a2, (cj_R σ 206 x0) = some a2 ∧ (cj_T σ a2 = 1 ∧ (((cj_F σ 107 a2) ≤ x2 → P x1 σ) ∧ (¬ (cj_F σ 107 a2) ≤ x2 → cs_L_has E σ (cj_F σ 202 x0) x2 (fun r6 σ7 => ((r6 = 0 → cg_St_asked_4 E σ7 x0 (x1 ||| (0 : Int32)) (x2 + (1 : Int32)) P) ∧ (¬ r6 = 0 → (cj_T σ7 x0 = 2 ∧ (∃ a10, (cj_R σ7 200 x0) = some a10 ∧ (cj_T σ7 a10 = 26 ∧ (vp_in x2 (cj_N σ7 a10) ∧ (∃ a14, (cj_B σ7 a10 x2.toNatClampNeg) = some a14 ∧ (cj_T σ7 a14 = 6 ∧ cs_Tb_set E σ7 a14 (fun r16 σ17 => cg_St_asked_4 E σ17 x0 (x1 ||| r16) (x2 + (1 : Int32)) P)))))))))))))))) : cg_St_asked_4 E σ x0 x1 x2 P := by
  intro d hd p e s m args below meth c hcx H locs ls hW hS hl
  have hx := hcx.1
  have hb := hcx.2.1
  have hown := hcx.2.2.2.2.2.1
  have hts := hcx.2.2.2.2.2.2.1
  refine lv_iload_n (pc := 4) hx hb dX2_asked_4 rfl (lv_at hl 2 rfl) ?_
  refine lv_aload_n (pc := 5) hx hb dX2_asked_5 rfl (lv_at hl 0 rfl) ?_
  obtain ⟨g1, h⟩ := h
  refine cj_fld (pc := 6) hcx hW 1 g1 (by decide) rfl in_X2 6 (by decide) (by decide) q198 dX2_asked_6 (v := va_rf (cj_R σ 206 x0)) rfl ?_
  obtain ⟨a2, e3, h⟩ := h
  refine cj_stk (st' := [.ref a2, .int x2]) (by rw [e3]; rfl) ?_
  obtain ⟨g4, h⟩ := h
  refine cj_fldN (pc := 9) hcx hW 0 g4 (by decide) rfl in_X1 7 (by decide) (by decide) (List.mem_of_getElem? (i := 17) rfl) dX2_asked_9 (v := .int (cj_F σ 107 a2)) rfl ?_
  refine lv_icmp_ge (pc := 12) (tgt := 48) hx hb dX2_asked_12 (by decide) (fun c5 => ?_) (fun c5 => ?_)
  · have h := h.1 c5
    refine lv_iload_n (pc := 48) hx hb dX2_asked_48 rfl (lv_at hl 1 rfl) ?_
    exact cj_reti (pc := 49) hcx hW hS rfl h (Nat.le_refl _) (Nat.le_refl _) dX2_asked_49
  · have h := h.2 c5
    refine lv_iload_n (pc := 15) hx hb dX2_asked_15 rfl (lv_at hl 1 rfl) ?_
    refine lv_aload_n (pc := 16) hx hb dX2_asked_16 rfl (lv_at hl 0 rfl) ?_
    refine cj_fld (pc := 17) hcx hW 1 g1 (by decide) rfl in_X2 2 (by decide) (by decide) q189 dX2_asked_17 (v := .int (cj_F σ 202 x0)) rfl ?_
    refine lv_iload_n (pc := 20) hx hb dX2_asked_20 rfl (lv_at hl 2 rfl) ?_
    refine cj_xi (pc := 21) (cj_runSN hcx hW hS [.int (cj_F σ 202 x0), .int x2] h (Nat.le_trans (by decide) hd) (List.mem_of_getElem? (i := 6) rfl) q387 q122 q388 yd_L_has (by decide) rfl rfl (Nat.le_of_ble_eq_true rfl) hl.1 (Nat.le_refl _) (Nat.le_refl _) dX2_asked_21) hS (fun r6 σ7 h H locs hW hS => ?_)
    refine lv_if_eq (pc := 24) (tgt := 39) hx hb dX2_asked_24 (by decide) (fun c8 => ?_) (fun c8 => ?_)
    · have h := h.1 c8
      refine lv_iconst (pc := 39) (v := (0 : Int32)) hx hb dX2_asked_39 (by decide) ?_
      refine lv_ior (pc := 40) hx hb dX2_asked_40 ?_
      refine lv_istore_n (pc := 41) (lv' := [(1, .int (x1 ||| (0 : Int32))), (0, .ref x0), (2, .int x2)]) hx hb dX2_asked_41 rfl hl (by decide) rfl (fun ls hl => ?_)
      refine lv_iinc (pc := 42) (v := (x2 + (1 : Int32))) (lv' := [(2, .int (x2 + (1 : Int32))), (1, .int (x1 ||| (0 : Int32))), (0, .ref x0)]) hx hb dX2_asked_42 hl (k := 2) rfl rfl (by decide) rfl (fun ls hl => ?_)
      refine lv_goto (pc := 45) (tgt := 4) hx hb dX2_asked_45 (by decide) ?_
      exact h d hd p e s m args below meth c hcx H locs _ hW hS (lv_sub hl [2, 1, 0] rfl)
    · have h := h.2 c8
      refine lv_aload_n (pc := 27) hx hb dX2_asked_27 rfl (lv_at hl 0 rfl) ?_
      obtain ⟨g9, h⟩ := h
      refine cj_fld (pc := 28) hcx hW 1 g9 (by decide) rfl in_X2 0 (by decide) (by decide) q184 dX2_asked_28 (v := va_rf (cj_R σ7 200 x0)) rfl ?_
      refine lv_iload_n (pc := 31) hx hb dX2_asked_31 rfl (lv_at hl 2 rfl) ?_
      obtain ⟨a10, e11, h⟩ := h
      refine cj_stk (st' := [.int x2, .ref a10, .int x1]) (by rw [e11]; rfl) ?_
      obtain ⟨g12, h⟩ := h
      obtain ⟨g13, h⟩ := h
      refine cj_aald (pc := 32) hcx hW g12 (by unfold cj_rt; decide) g13 dX2_asked_32 ?_
      obtain ⟨a14, e15, h⟩ := h
      refine cj_stk (st' := [.ref a14, .int x1]) (by rw [e15]; rfl) ?_
      obtain ⟨g18, h⟩ := h
      refine cj_xi (pc := 33) (cj_runV hcx hW hS 5 g18 (by decide) rfl [] h (Nat.le_trans (by decide) hd) (lw_V q855 q856 q857 q131 q858) rfl yd_Tb_set (by decide) rfl rfl (Nat.le_of_ble_eq_true rfl) hl.1 (Nat.le_refl _) (Nat.le_refl _) dX2_asked_33) hS (fun r16 σ17 h H locs hW hS => ?_)
      refine lv_goto (pc := 36) (tgt := 40) hx hb dX2_asked_36 (by decide) ?_
      refine lv_ior (pc := 40) hx hb dX2_asked_40 ?_
      refine lv_istore_n (pc := 41) (lv' := [(1, .int (x1 ||| r16)), (0, .ref x0), (2, .int x2)]) hx hb dX2_asked_41 rfl hl (by decide) rfl (fun ls hl => ?_)
      refine lv_iinc (pc := 42) (v := (x2 + (1 : Int32))) (lv' := [(2, .int (x2 + (1 : Int32))), (1, .int (x1 ||| r16)), (0, .ref x0)]) hx hb dX2_asked_42 hl (k := 2) rfl rfl (by decide) rfl (fun ls hl => ?_)
      refine lv_goto (pc := 45) (tgt := 4) hx hb dX2_asked_45 (by decide) ?_
      exact h d hd p e s m args below meth c hcx H locs _ hW hS (lv_sub hl [2, 1, 0] rfl)
set_option maxHeartbeats 4000000 in
set_option maxRecDepth 100000 in
theorem cb_St_asked {E : cj_E} {σ : cj_S} {x0 : Nat} {P : Int32 → cj_S → Prop} (h : cg_St_asked_4 E σ x0 (0 : Int32) (0 : Int32) P) : cs_St_asked E σ x0 P :=
  cj_enter (k := 1) (lv := [(0, .ref x0)]) (by decide) (Nat.le_of_ble_eq_true rfl) rfl (by
    intro d hd p e s m args below meth c hcx H locs ls hW hS hl
    have hx := hcx.1
    have hb := hcx.2.1
    have hown := hcx.2.2.2.2.2.1
    have hts := hcx.2.2.2.2.2.2.1
    refine lv_iconst (pc := 0) (v := (0 : Int32)) hx hb dX2_asked_0 (by decide) ?_
    refine lv_istore_n (pc := 1) (lv' := [(1, .int (0 : Int32)), (0, .ref x0)]) hx hb dX2_asked_1 rfl hl (by decide) rfl (fun ls hl => ?_)
    refine lv_iconst (pc := 2) (v := (0 : Int32)) hx hb dX2_asked_2 (by decide) ?_
    refine lv_istore_n (pc := 3) (lv' := [(2, .int (0 : Int32)), (1, .int (0 : Int32)), (0, .ref x0)]) hx hb dX2_asked_3 rfl hl (by decide) rfl (fun ls hl => ?_)
    exact h d hd p e s m args below meth c hcx H locs _ hW hS (lv_sub hl [2, 1, 0] rfl))
/-! St_becomes -/
set_option maxHeartbeats 4000000 in
set_option maxRecDepth 100000 in
theorem cb_St_becomes {E : cj_E} {σ : cj_S} {x0 : Nat} {x1 : Option Nat} {P : cj_S → Prop} (h : (cj_T σ x0 = 2 ∧ cs_St_sees E σ x0 x1 (fun σ2 => (∃ a4, x1 = some a4 ∧ (cj_T σ2 a4 = 2 ∧ (cj_T σ2 x0 = 2 ∧ (∃ a8, (cj_R σ2 201 a4) = some a8 ∧ (∃ a10, (cj_R σ2 201 x0) = some a10 ∧ (¬ ((3 : Int32) * (cj_F σ2 204 a4)) < 0 ∧ (cj_T σ2 a8 = 21 ∧ (cj_T σ2 a10 = 21 ∧ ((0 : Int32).toNatClampNeg + ((3 : Int32) * (cj_F σ2 204 a4)).toNatClampNeg ≤ cj_N σ2 a8 ∧ ((0 : Int32).toNatClampNeg + ((3 : Int32) * (cj_F σ2 204 a4)).toNatClampNeg ≤ cj_N σ2 a10 ∧ P (cj_sF (cj_mA σ2 a10 (va_cpy (cj_A σ2 a8) (cj_A σ2 a10) (0 : Int32).toNatClampNeg (0 : Int32).toNatClampNeg ((3 : Int32) * (cj_F σ2 204 a4)).toNatClampNeg)) 204 x0 (cj_F σ2 204 a4))))))))))))))) : cs_St_becomes E σ x0 x1 P :=
  cj_enter (k := 1) (lv := [(0, .ref x0), (1, va_rf x1)]) (by decide) (by cases x1 <;> exact Nat.le_of_ble_eq_true rfl) (by cases x1 <;> rfl) (by
    intro d hd p e s m args below meth c hcx H locs ls hW hS hl
    have hx := hcx.1
    have hb := hcx.2.1
    have hown := hcx.2.2.2.2.2.1
    have hts := hcx.2.2.2.2.2.2.1
    refine lv_aload_n (pc := 0) hx hb dX2_becomes_0 rfl (lv_at hl 0 rfl) ?_
    refine cj_aload_n (pc := 1) hx hb dX2_becomes_1 rfl (lv_at hl 1 rfl) ?_
    obtain ⟨g3, h⟩ := h
    refine cj_xv (pc := 2) (cj_runV hcx hW hS 1 g3 (by decide) rfl [va_rf x1] h (Nat.le_trans (by decide) hd) (lw_V q753 q754 q755 q123 q756) rfl yd_St_sees (by decide) rfl rfl (Nat.le_of_ble_eq_true rfl) hl.1 (Nat.le_refl _) (Nat.le_refl _) dX2_becomes_2) hS (fun σ2 h H locs hW hS => ?_)
    refine cj_aload_n (pc := 5) hx hb dX2_becomes_5 rfl (lv_at hl 1 rfl) ?_
    obtain ⟨a4, e5, h⟩ := h
    refine cj_stk (st' := [.ref a4]) (by rw [e5]; rfl) ?_
    obtain ⟨g6, h⟩ := h
    refine cj_fld (pc := 6) hcx hW 1 g6 (by decide) rfl in_X2 1 (by decide) (by decide) q187 dX2_becomes_6 (v := va_rf (cj_R σ2 201 a4)) rfl ?_
    refine lv_iconst (pc := 9) (v := (0 : Int32)) hx hb dX2_becomes_9 (by decide) ?_
    refine lv_aload_n (pc := 10) hx hb dX2_becomes_10 rfl (lv_at hl 0 rfl) ?_
    obtain ⟨g7, h⟩ := h
    refine cj_fld (pc := 11) hcx hW 1 g7 (by decide) rfl in_X2 1 (by decide) (by decide) q187 dX2_becomes_11 (v := va_rf (cj_R σ2 201 x0)) rfl ?_
    refine lv_iconst (pc := 14) (v := (0 : Int32)) hx hb dX2_becomes_14 (by decide) ?_
    refine lv_iconst (pc := 15) (v := (3 : Int32)) hx hb dX2_becomes_15 (by decide) ?_
    refine cj_aload_n (pc := 16) hx hb dX2_becomes_16 rfl (lv_at hl 1 rfl) ?_
    refine cj_stk (st' := [.ref a4, .int (3 : Int32), .int (0 : Int32), va_rf (cj_R σ2 201 x0), .int (0 : Int32), va_rf (cj_R σ2 201 a4)]) (by rw [e5]; rfl) ?_
    refine cj_fld (pc := 17) hcx hW 1 g6 (by decide) rfl in_X2 4 (by decide) (by decide) q194 dX2_becomes_17 (v := .int (cj_F σ2 204 a4)) rfl ?_
    refine lv_imul (pc := 20) hx hb dX2_becomes_20 ?_
    obtain ⟨a8, e9, h⟩ := h
    refine cj_stk (st' := [.int ((3 : Int32) * (cj_F σ2 204 a4)), .int (0 : Int32), va_rf (cj_R σ2 201 x0), .int (0 : Int32), .ref a8]) (by rw [e9]; rfl) ?_
    obtain ⟨a10, e11, h⟩ := h
    refine cj_stk (st' := [.int ((3 : Int32) * (cj_F σ2 204 a4)), .int (0 : Int32), .ref a10, .int (0 : Int32), .ref a8]) (by rw [e11]; rfl) ?_
    obtain ⟨g12, h⟩ := h
    obtain ⟨g13, h⟩ := h
    obtain ⟨g14, h⟩ := h
    obtain ⟨g15, h⟩ := h
    obtain ⟨g16, h⟩ := h
    refine cj_copyi (pc := 21) hcx hW hS hl.1 g13 g14 q757 (by decide) (by decide) g12 g15 g16 (Nat.le_add_left 1 _) (cj_lr (Nat.le_of_ble_eq_true rfl)) dX2_becomes_21 (fun H locs hW hS => ?_)
    refine lv_aload_n (pc := 24) hx hb dX2_becomes_24 rfl (lv_at hl 0 rfl) ?_
    refine cj_aload_n (pc := 25) hx hb dX2_becomes_25 rfl (lv_at hl 1 rfl) ?_
    refine cj_stk (st' := [.ref a4, .ref x0]) (by rw [e5]; rfl) ?_
    refine cj_fld (pc := 26) hcx hW 1 g6 (by decide) rfl in_X2 4 (by decide) (by decide) q194 dX2_becomes_26 (v := .int (cj_F σ2 204 a4)) rfl ?_
    refine cj_put (pc := 29) (σ1 := (cj_sF (cj_mA σ2 a10 (va_cpy (cj_A σ2 a8) (cj_A σ2 a10) (0 : Int32).toNatClampNeg (0 : Int32).toNatClampNeg ((3 : Int32) * (cj_F σ2 204 a4)).toNatClampNeg)) 204 x0 (cj_F σ2 204 a4))) hcx hW hS 1 g7 (by decide) rfl in_X2 tyX2_ok nmX2 4 (by decide) (by decide) rfl rfl rfl (cj_pI rfl) q194 dX2_becomes_29 (fun H locs hW hS => ?_)
    exact cj_retv (pc := 32) hcx hW hS h (Nat.le_refl _) (Nat.le_refl _) dX2_becomes_32)
