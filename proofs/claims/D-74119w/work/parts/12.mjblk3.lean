/-! joins -/
set_option maxHeartbeats 4000000 in
set_option maxRecDepth 100000 in
theorem mb_joins_17 {E : mj_E} {σ : mj_S} {x2 : Int32} {P : mj_S → Prop} (h : (((4 : Int32) ≤ x2 → ms_goes E 20 σ (0 : Int32) (fun σ3 => P σ3)) ∧ (¬ (4 : Int32) ≤ x2 → (vp_in x2 4 ∧ (vp_in (x2 + (1 : Int32)) 5 ∧ mg_joins_17 E (mj_sA (mj_sA σ 20 x2.toNatClampNeg (-1 : Int32)) 24 (x2 + (1 : Int32)).toNatClampNeg (0 : Int32)) (x2 + (1 : Int32)) P))))) : mg_joins_17 E σ x2 P := by
  intro d hd p e s m args below meth c hcx H locs ls hW hS hl
  have hx := hcx.1
  have hb := hcx.2.1
  have hown := hcx.2.2.2.2.2.1
  have hts := hcx.2.2.2.2.2.2.1
  refine lv_iload_n (pc := 17) hx hb dX4_joins_17 rfl (lv_at hl 1 rfl) ?_
  refine lv_iconst (pc := 18) (v := (4 : Int32)) hx hb dX4_joins_18 (by decide) ?_
  refine lv_icmp_ge (pc := 19) (tgt := 44) hx hb dX4_joins_19 (by decide) (fun c1 => ?_) (fun c1 => ?_)
  · have h := h.1 c1
    refine lv_aload_n (pc := 44) hx hb dX4_joins_44 rfl (lv_at hl 0 rfl) ?_
    refine lv_iconst (pc := 45) (v := (0 : Int32)) hx hb dX4_joins_45 (by decide) ?_
    refine mj_cv (pc := 46) (mj_runV hcx hW [.int (0 : Int32)] h (Nat.le_trans (by decide) hd) (lw_V q1585 q1587 qs85 q125 q1588) yd_goes (by decide) rfl rfl (Nat.le_of_ble_eq_true rfl) hl.1 dX4_joins_46) hS (fun σ3 h H locs hW hS => ?_)
    exact mj_retv (pc := 49) hcx hW hS h dX4_joins_49
  · have h := h.2 c1
    refine lv_aload_n (pc := 22) hx hb dX4_joins_22 rfl (lv_at hl 0 rfl) ?_
    refine mj_geta (pc := 23) hcx hW 20 (by decide) rfl q1275 dX4_joins_23 ?_
    refine lv_iload_n (pc := 26) hx hb dX4_joins_26 rfl (lv_at hl 1 rfl) ?_
    refine lv_iconst (pc := 27) (v := (-1 : Int32)) hx hb dX4_joins_27 (by decide) ?_
    obtain ⟨g4, h⟩ := h
    refine mj_ast (pc := 28) hcx hW hS 20 rfl rfl g4 dX4_joins_28 (fun H locs hW hS => ?_)
    refine lv_aload_n (pc := 29) hx hb dX4_joins_29 rfl (lv_at hl 0 rfl) ?_
    refine mj_geta (pc := 30) hcx hW 24 (by decide) rfl q1279 dX4_joins_30 ?_
    refine lv_iload_n (pc := 33) hx hb dX4_joins_33 rfl (lv_at hl 1 rfl) ?_
    refine lv_iconst (pc := 34) (v := (1 : Int32)) hx hb dX4_joins_34 (by decide) ?_
    refine lv_iadd (pc := 35) hx hb dX4_joins_35 ?_
    refine lv_iconst (pc := 36) (v := (0 : Int32)) hx hb dX4_joins_36 (by decide) ?_
    obtain ⟨g5, h⟩ := h
    refine mj_ast (pc := 37) hcx hW hS 24 rfl rfl g5 dX4_joins_37 (fun H locs hW hS => ?_)
    refine lv_iinc (pc := 38) (v := (x2 + (1 : Int32))) (lv' := [(2, .int (x2 + (1 : Int32))), (0, .ref (mj_o E))]) hx hb dX4_joins_38 hl (k := 1) rfl rfl (by decide) rfl (fun ls hl => ?_)
    refine lv_goto (pc := 41) (tgt := 17) hx hb dX4_joins_41 (by decide) ?_
    exact h d hd p e s m args below meth c hcx H locs _ hW hS (lv_sub hl [1, 0] rfl)
set_option maxHeartbeats 4000000 in
set_option maxRecDepth 100000 in
theorem mb_joins {E : mj_E} {σ : mj_S} {x1 : Int32} {P : mj_S → Prop} (hE : mj_ok E) (h : ms_laysOrder E σ x1 (fun σ2 => mg_joins_17 E (mj_sF (mj_sF σ2 26 (0 : Int32)) 27 (0 : Int32)) (0 : Int32) P)) : ms_joins E σ x1 P :=
  mj_enter (k := 21) (lv := [(0, .ref (mj_o E)), (1, .int x1)]) hE rfl (Nat.le_of_ble_eq_true rfl) rfl (by
    intro d hd p e s m args below meth c hcx H locs ls hW hS hl
    have hx := hcx.1
    have hb := hcx.2.1
    have hown := hcx.2.2.2.2.2.1
    have hts := hcx.2.2.2.2.2.2.1
    refine lv_aload_n (pc := 0) hx hb dX4_joins_0 rfl (lv_at hl 0 rfl) ?_
    refine lv_iload_n (pc := 1) hx hb dX4_joins_1 rfl (lv_at hl 1 rfl) ?_
    refine mj_cv (pc := 2) (mj_runV hcx hW [.int x1] h (Nat.le_trans (by decide) hd) (lw_V q1573 q1575 qs82 q125 q1576) yd_laysOrder (by decide) rfl rfl (Nat.le_of_ble_eq_true rfl) hl.1 dX4_joins_2) hS (fun σ2 h H locs hW hS => ?_)
    refine lv_aload_n (pc := 5) hx hb dX4_joins_5 rfl (lv_at hl 0 rfl) ?_
    refine lv_iconst (pc := 6) (v := (0 : Int32)) hx hb dX4_joins_6 (by decide) ?_
    refine mj_puti (pc := 7) hcx hW hS 26 (by decide) rfl rfl rfl rfl q1281 dX4_joins_7 (fun H locs hW hS => ?_)
    refine lv_aload_n (pc := 10) hx hb dX4_joins_10 rfl (lv_at hl 0 rfl) ?_
    refine lv_iconst (pc := 11) (v := (0 : Int32)) hx hb dX4_joins_11 (by decide) ?_
    refine mj_puti (pc := 12) hcx hW hS 27 (by decide) rfl rfl rfl rfl q1282 dX4_joins_12 (fun H locs hW hS => ?_)
    refine lv_iconst (pc := 15) (v := (0 : Int32)) hx hb dX4_joins_15 (by decide) ?_
    refine lv_istore_n (pc := 16) (lv' := [(2, .int (0 : Int32)), (0, .ref (mj_o E)), (1, .int x1)]) hx hb dX4_joins_16 rfl hl (by decide) rfl (fun ls hl => ?_)
    exact h d hd p e s m args below meth c hcx H locs _ hW hS (lv_sub hl [1, 0] rfl))
/-! joinsNow -/
set_option maxHeartbeats 4000000 in
set_option maxRecDepth 100000 in
theorem mb_joinsNow {E : mj_E} {σ : mj_S} {P : mj_S → Prop} (hE : mj_ok E) (h : (vp_in (1 : Int32) 331 ∧ ms_joins E σ (mj_A σ 13 (1 : Int32).toNatClampNeg) (fun σ3 => P σ3))) : ms_joinsNow E σ P :=
  mj_enter (k := 22) (lv := [(0, .ref (mj_o E))]) hE rfl (Nat.le_of_ble_eq_true rfl) rfl (by
    intro d hd p e s m args below meth c hcx H locs ls hW hS hl
    have hx := hcx.1
    have hb := hcx.2.1
    have hown := hcx.2.2.2.2.2.1
    have hts := hcx.2.2.2.2.2.2.1
    refine lv_aload_n (pc := 0) hx hb dX4_joinsNow_0 rfl (lv_at hl 0 rfl) ?_
    refine lv_aload_n (pc := 1) hx hb dX4_joinsNow_1 rfl (lv_at hl 0 rfl) ?_
    refine mj_geta (pc := 2) hcx hW 13 (by decide) rfl q1268 dX4_joinsNow_2 ?_
    refine lv_iconst (pc := 5) (v := (1 : Int32)) hx hb dX4_joinsNow_5 (by decide) ?_
    obtain ⟨g1, h⟩ := h
    refine mj_ald (pc := 6) hcx hW 13 rfl rfl g1 dX4_joinsNow_6 ?_
    refine mj_cv (pc := 7) (mj_runV hcx hW [.int (mj_A σ 13 (1 : Int32).toNatClampNeg)] h (Nat.le_trans (by decide) hd) (lw_V q1569 q1571 qs81 q125 q1572) yd_joins (by decide) rfl rfl (Nat.le_of_ble_eq_true rfl) hl.1 dX4_joinsNow_7) hS (fun σ3 h H locs hW hS => ?_)
    exact mj_retv (pc := 10) hcx hW hS h dX4_joinsNow_10)
/-! triesOrders -/
set_option maxHeartbeats 4000000 in
set_option maxRecDepth 100000 in
theorem mb_triesOrders_12 {E : mj_E} {σ : mj_S} {x1 : Int32} {P : mj_S → Prop} (h : (((24 : Int32) ≤ x1 → P σ) ∧ (¬ (24 : Int32) ≤ x1 → ms_joins E σ x1 (fun σ3 => (((mj_F σ3 31) = (-1 : Int32) → mg_triesOrders_42 E σ3 x1 P) ∧ (¬ (mj_F σ3 31) = (-1 : Int32) → (((mj_F σ3 32) ≤ (mj_F σ3 27) → mg_triesOrders_12 E (mj_sF σ3 33 (if (mj_F σ3 33) < (mj_F σ3 27) then (mj_F σ3 27) else (mj_F σ3 33))) (x1 + (1 : Int32)) P) ∧ (¬ (mj_F σ3 32) ≤ (mj_F σ3 27) → mg_triesOrders_42 E σ3 x1 P)))))))) : mg_triesOrders_12 E σ x1 P := by
  intro d hd p e s m args below meth c hcx H locs ls hW hS hl
  have hx := hcx.1
  have hb := hcx.2.1
  have hown := hcx.2.2.2.2.2.1
  have hts := hcx.2.2.2.2.2.2.1
  refine lv_iload_n (pc := 12) hx hb dX4_triesOrders_12 rfl (lv_at hl 1 rfl) ?_
  refine lv_bipush (pc := 13) (v := (24 : Int32)) hx hb dX4_triesOrders_13 (by decide) ?_
  refine lv_icmp_ge (pc := 15) (tgt := 76) hx hb dX4_triesOrders_15 (by decide) (fun c1 => ?_) (fun c1 => ?_)
  · have h := h.1 c1
    exact mj_retv (pc := 76) hcx hW hS h dX4_triesOrders_76
  · have h := h.2 c1
    refine lv_aload_n (pc := 18) hx hb dX4_triesOrders_18 rfl (lv_at hl 0 rfl) ?_
    refine lv_iload_n (pc := 19) hx hb dX4_triesOrders_19 rfl (lv_at hl 1 rfl) ?_
    refine mj_cv (pc := 20) (mj_runV hcx hW [.int x1] h (Nat.le_trans (by decide) hd) (lw_V q1569 q1571 qs81 q125 q1572) yd_joins (by decide) rfl rfl (Nat.le_of_ble_eq_true rfl) hl.1 dX4_triesOrders_20) hS (fun σ3 h H locs hW hS => ?_)
    refine lv_aload_n (pc := 23) hx hb dX4_triesOrders_23 rfl (lv_at hl 0 rfl) ?_
    refine mj_geti (pc := 24) hcx hW 31 (by decide) rfl q1286 dX4_triesOrders_24 ?_
    refine lv_iconst (pc := 27) (v := (-1 : Int32)) hx hb dX4_triesOrders_27 (by decide) ?_
    refine lv_icmp_eq (pc := 28) (tgt := 42) hx hb dX4_triesOrders_28 (by decide) (fun c4 => ?_) (fun c4 => ?_)
    · have h := h.1 c4
      exact h d hd p e s m args below meth c hcx H locs _ hW hS (lv_sub hl [0, 1] rfl)
    · have h := h.2 c4
      refine lv_aload_n (pc := 31) hx hb dX4_triesOrders_31 rfl (lv_at hl 0 rfl) ?_
      refine mj_geti (pc := 32) hcx hW 27 (by decide) rfl q1282 dX4_triesOrders_32 ?_
      refine lv_aload_n (pc := 35) hx hb dX4_triesOrders_35 rfl (lv_at hl 0 rfl) ?_
      refine mj_geti (pc := 36) hcx hW 32 (by decide) rfl q1287 dX4_triesOrders_36 ?_
      refine lv_icmp_ge (pc := 39) (tgt := 55) hx hb dX4_triesOrders_39 (by decide) (fun c5 => ?_) (fun c5 => ?_)
      · have h := h.1 c5
        refine lv_aload_n (pc := 55) hx hb dX4_triesOrders_55 rfl (lv_at hl 0 rfl) ?_
        refine lv_aload_n (pc := 56) hx hb dX4_triesOrders_56 rfl (lv_at hl 0 rfl) ?_
        refine mj_geti (pc := 57) hcx hW 33 (by decide) rfl q1288 dX4_triesOrders_57 ?_
        refine lv_aload_n (pc := 60) hx hb dX4_triesOrders_60 rfl (lv_at hl 0 rfl) ?_
        refine mj_geti (pc := 61) hcx hW 27 (by decide) rfl q1282 dX4_triesOrders_61 ?_
        refine mj_mmax (pc := 64) hcx hl.1 q1621 (Nat.le_of_ble_eq_true rfl) dX4_triesOrders_64 ?_
        refine mj_puti (pc := 67) hcx hW hS 33 (by decide) rfl rfl rfl rfl q1288 dX4_triesOrders_67 (fun H locs hW hS => ?_)
        refine lv_iinc (pc := 70) (v := (x1 + (1 : Int32))) (lv' := [(1, .int (x1 + (1 : Int32))), (0, .ref (mj_o E))]) hx hb dX4_triesOrders_70 hl (k := 1) rfl rfl (by decide) rfl (fun ls hl => ?_)
        refine lv_goto (pc := 73) (tgt := 12) hx hb dX4_triesOrders_73 (by decide) ?_
        exact h d hd p e s m args below meth c hcx H locs _ hW hS (lv_sub hl [1, 0] rfl)
      · have h := h.2 c5
        exact h d hd p e s m args below meth c hcx H locs _ hW hS (lv_sub hl [0, 1] rfl)
set_option maxHeartbeats 4000000 in
set_option maxRecDepth 100000 in
theorem mb_triesOrders_42 {E : mj_E} {σ : mj_S} {x1 : Int32} {P : mj_S → Prop} (h : mg_triesOrders_12 E (mj_sF (mj_sF (mj_sF σ 31 x1) 32 (mj_F (mj_sF σ 31 x1) 27)) 33 (if (mj_F (mj_sF (mj_sF σ 31 x1) 32 (mj_F (mj_sF σ 31 x1) 27)) 33) < (mj_F (mj_sF (mj_sF σ 31 x1) 32 (mj_F (mj_sF σ 31 x1) 27)) 27) then (mj_F (mj_sF (mj_sF σ 31 x1) 32 (mj_F (mj_sF σ 31 x1) 27)) 27) else (mj_F (mj_sF (mj_sF σ 31 x1) 32 (mj_F (mj_sF σ 31 x1) 27)) 33))) (x1 + (1 : Int32)) P) : mg_triesOrders_42 E σ x1 P := by
  intro d hd p e s m args below meth c hcx H locs ls hW hS hl
  have hx := hcx.1
  have hb := hcx.2.1
  have hown := hcx.2.2.2.2.2.1
  have hts := hcx.2.2.2.2.2.2.1
  refine lv_aload_n (pc := 42) hx hb dX4_triesOrders_42 rfl (lv_at hl 0 rfl) ?_
  refine lv_iload_n (pc := 43) hx hb dX4_triesOrders_43 rfl (lv_at hl 1 rfl) ?_
  refine mj_puti (pc := 44) hcx hW hS 31 (by decide) rfl rfl rfl rfl q1286 dX4_triesOrders_44 (fun H locs hW hS => ?_)
  refine lv_aload_n (pc := 47) hx hb dX4_triesOrders_47 rfl (lv_at hl 0 rfl) ?_
  refine lv_aload_n (pc := 48) hx hb dX4_triesOrders_48 rfl (lv_at hl 0 rfl) ?_
  refine mj_geti (pc := 49) hcx hW 27 (by decide) rfl q1282 dX4_triesOrders_49 ?_
  refine mj_puti (pc := 52) hcx hW hS 32 (by decide) rfl rfl rfl rfl q1287 dX4_triesOrders_52 (fun H locs hW hS => ?_)
  refine lv_aload_n (pc := 55) hx hb dX4_triesOrders_55 rfl (lv_at hl 0 rfl) ?_
  refine lv_aload_n (pc := 56) hx hb dX4_triesOrders_56 rfl (lv_at hl 0 rfl) ?_
  refine mj_geti (pc := 57) hcx hW 33 (by decide) rfl q1288 dX4_triesOrders_57 ?_
  refine lv_aload_n (pc := 60) hx hb dX4_triesOrders_60 rfl (lv_at hl 0 rfl) ?_
  refine mj_geti (pc := 61) hcx hW 27 (by decide) rfl q1282 dX4_triesOrders_61 ?_
  refine mj_mmax (pc := 64) hcx hl.1 q1621 (Nat.le_of_ble_eq_true rfl) dX4_triesOrders_64 ?_
  refine mj_puti (pc := 67) hcx hW hS 33 (by decide) rfl rfl rfl rfl q1288 dX4_triesOrders_67 (fun H locs hW hS => ?_)
  refine lv_iinc (pc := 70) (v := (x1 + (1 : Int32))) (lv' := [(1, .int (x1 + (1 : Int32))), (0, .ref (mj_o E))]) hx hb dX4_triesOrders_70 hl (k := 1) rfl rfl (by decide) rfl (fun ls hl => ?_)
  refine lv_goto (pc := 73) (tgt := 12) hx hb dX4_triesOrders_73 (by decide) ?_
  exact h d hd p e s m args below meth c hcx H locs _ hW hS (lv_sub hl [1, 0] rfl)
set_option maxHeartbeats 4000000 in
set_option maxRecDepth 100000 in
theorem mb_triesOrders {E : mj_E} {σ : mj_S} {P : mj_S → Prop} (hE : mj_ok E) (h : mg_triesOrders_12 E (mj_sF (mj_sF σ 31 (-1 : Int32)) 33 (0 : Int32)) (0 : Int32) P) : ms_triesOrders E σ P :=
  mj_enter (k := 22) (lv := [(0, .ref (mj_o E))]) hE rfl (Nat.le_of_ble_eq_true rfl) rfl (by
    intro d hd p e s m args below meth c hcx H locs ls hW hS hl
    have hx := hcx.1
    have hb := hcx.2.1
    have hown := hcx.2.2.2.2.2.1
    have hts := hcx.2.2.2.2.2.2.1
    refine lv_aload_n (pc := 0) hx hb dX4_triesOrders_0 rfl (lv_at hl 0 rfl) ?_
    refine lv_iconst (pc := 1) (v := (-1 : Int32)) hx hb dX4_triesOrders_1 (by decide) ?_
    refine mj_puti (pc := 2) hcx hW hS 31 (by decide) rfl rfl rfl rfl q1286 dX4_triesOrders_2 (fun H locs hW hS => ?_)
    refine lv_aload_n (pc := 5) hx hb dX4_triesOrders_5 rfl (lv_at hl 0 rfl) ?_
    refine lv_iconst (pc := 6) (v := (0 : Int32)) hx hb dX4_triesOrders_6 (by decide) ?_
    refine mj_puti (pc := 7) hcx hW hS 33 (by decide) rfl rfl rfl rfl q1288 dX4_triesOrders_7 (fun H locs hW hS => ?_)
    refine lv_iconst (pc := 10) (v := (0 : Int32)) hx hb dX4_triesOrders_10 (by decide) ?_
    refine lv_istore_n (pc := 11) (lv' := [(1, .int (0 : Int32)), (0, .ref (mj_o E))]) hx hb dX4_triesOrders_11 rfl hl (by decide) rfl (fun ls hl => ?_)
    exact h d hd p e s m args below meth c hcx H locs _ hW hS (lv_sub hl [1, 0] rfl))
/-! beginnings -/
set_option maxHeartbeats 4000000 in
set_option maxRecDepth 100000 in
theorem mb_beginnings {E : mj_E} {σ : mj_S} {x1 : Int32} {P : Int32 → mj_S → Prop} (hE : mj_ok E) (h : ms_areTables E σ (fun r1 σ2 => ((r1 = 0 → P (-1 : Int32) σ2) ∧ (¬ r1 = 0 → (((1 : Int32) ≤ x1 → ms_joinsNow E σ2 (fun σ6 => (((mj_F σ6 19) < x1 → P (-1 : Int32) σ6) ∧ (¬ (mj_F σ6 19) < x1 → (vp_in x1 5 ∧ P (mj_A σ6 24 x1.toNatClampNeg) σ6))))) ∧ (¬ (1 : Int32) ≤ x1 → P (-1 : Int32) σ2)))))) : ms_beginnings E σ x1 P :=
  mj_enter (k := 23) (lv := [(0, .ref (mj_o E)), (1, .int x1)]) hE rfl (Nat.le_of_ble_eq_true rfl) rfl (by
    intro d hd p e s m args below meth c hcx H locs ls hW hS hl
    have hx := hcx.1
    have hb := hcx.2.1
    have hown := hcx.2.2.2.2.2.1
    have hts := hcx.2.2.2.2.2.2.1
    refine lv_aload_n (pc := 0) hx hb dX4_beginnings_0 rfl (lv_at hl 0 rfl) ?_
    refine mj_ci (pc := 1) (mj_runV hcx hW [] h (Nat.le_trans (by decide) hd) (lw_V q1533 q1535 qs72 q125 q1536) yd_areTables (by decide) rfl rfl (Nat.le_of_ble_eq_true rfl) hl.1 dX4_beginnings_1) hS (fun r1 σ2 h H locs hW hS => ?_)
    refine lv_if_eq (pc := 4) (tgt := 12) hx hb dX4_beginnings_4 (by decide) (fun c3 => ?_) (fun c3 => ?_)
    · have h := h.1 c3
      refine lv_iconst (pc := 12) (v := (-1 : Int32)) hx hb dX4_beginnings_12 (by decide) ?_
      exact mj_reti (pc := 13) hcx hW hS rfl h dX4_beginnings_13
    · have h := h.2 c3
      refine lv_iload_n (pc := 7) hx hb dX4_beginnings_7 rfl (lv_at hl 1 rfl) ?_
      refine lv_iconst (pc := 8) (v := (1 : Int32)) hx hb dX4_beginnings_8 (by decide) ?_
      refine lv_icmp_ge (pc := 9) (tgt := 14) hx hb dX4_beginnings_9 (by decide) (fun c4 => ?_) (fun c4 => ?_)
      · have h := h.1 c4
        refine lv_aload_n (pc := 14) hx hb dX4_beginnings_14 rfl (lv_at hl 0 rfl) ?_
        refine mj_cv (pc := 15) (mj_runV hcx hW [] h (Nat.le_trans (by decide) hd) (lw_V q1565 q1567 qs80 q125 q1568) yd_joinsNow (by decide) rfl rfl (Nat.le_of_ble_eq_true rfl) hl.1 dX4_beginnings_15) hS (fun σ6 h H locs hW hS => ?_)
        refine lv_iload_n (pc := 18) hx hb dX4_beginnings_18 rfl (lv_at hl 1 rfl) ?_
        refine lv_aload_n (pc := 19) hx hb dX4_beginnings_19 rfl (lv_at hl 0 rfl) ?_
        refine mj_geti (pc := 20) hcx hW 19 (by decide) rfl q1274 dX4_beginnings_20 ?_
        refine lv_icmp_gt (pc := 23) (tgt := 35) hx hb dX4_beginnings_23 (by decide) (fun c7 => ?_) (fun c7 => ?_)
        · have h := h.1 c7
          refine lv_iconst (pc := 35) (v := (-1 : Int32)) hx hb dX4_beginnings_35 (by decide) ?_
          exact mj_reti (pc := 36) hcx hW hS rfl h dX4_beginnings_36
        · have h := h.2 c7
          refine lv_aload_n (pc := 26) hx hb dX4_beginnings_26 rfl (lv_at hl 0 rfl) ?_
          refine mj_geta (pc := 27) hcx hW 24 (by decide) rfl q1279 dX4_beginnings_27 ?_
          refine lv_iload_n (pc := 30) hx hb dX4_beginnings_30 rfl (lv_at hl 1 rfl) ?_
          obtain ⟨g8, h⟩ := h
          refine mj_ald (pc := 31) hcx hW 24 rfl rfl g8 dX4_beginnings_31 ?_
          refine lv_goto (pc := 32) (tgt := 36) hx hb dX4_beginnings_32 (by decide) ?_
          exact mj_reti (pc := 36) hcx hW hS rfl h dX4_beginnings_36
      · have h := h.2 c4
        refine lv_iconst (pc := 12) (v := (-1 : Int32)) hx hb dX4_beginnings_12 (by decide) ?_
        exact mj_reti (pc := 13) hcx hW hS rfl h dX4_beginnings_13)
/-! behind -/
set_option maxHeartbeats 4000000 in
set_option maxRecDepth 100000 in
theorem mb_behind_25 {E : mj_E} {σ : mj_S} {x5 : Int32} {P : Int32 → mj_S → Prop} (h : (((mj_F σ 26) ≤ x5 → P (-1 : Int32) σ) ∧ (¬ (mj_F σ 26) ≤ x5 → ms_comparesFour E σ x5 (fun r2 σ3 => ((r2 ≤ 0 → mg_behind_25 E σ3 (x5 + (1 : Int32)) P) ∧ (¬ r2 ≤ 0 → P x5 σ3)))))) : mg_behind_25 E σ x5 P := by
  intro d hd p e s m args below meth c hcx H locs ls hW hS hl
  have hx := hcx.1
  have hb := hcx.2.1
  have hown := hcx.2.2.2.2.2.1
  have hts := hcx.2.2.2.2.2.2.1
  refine lv_iload (pc := 25) hx hb dX4_behind_25 (lv_at hl 1 rfl) ?_
  refine lv_aload_n (pc := 27) hx hb dX4_behind_27 rfl (lv_at hl 0 rfl) ?_
  refine mj_geti (pc := 28) hcx hW 26 (by decide) rfl q1281 dX4_behind_28 ?_
  refine lv_icmp_ge (pc := 31) (tgt := 52) hx hb dX4_behind_31 (by decide) (fun c1 => ?_) (fun c1 => ?_)
  · have h := h.1 c1
    refine lv_iconst (pc := 52) (v := (-1 : Int32)) hx hb dX4_behind_52 (by decide) ?_
    exact mj_reti (pc := 53) hcx hW hS rfl h dX4_behind_53
  · have h := h.2 c1
    refine lv_aload_n (pc := 34) hx hb dX4_behind_34 rfl (lv_at hl 0 rfl) ?_
    refine lv_iload (pc := 35) hx hb dX4_behind_35 (lv_at hl 1 rfl) ?_
    refine mj_ci (pc := 37) (mj_runV hcx hW [.int x5] h (Nat.le_trans (by decide) hd) (lw_V q1781 q1783 qs110 q125 q1784) yd_comparesFour (by decide) rfl rfl (Nat.le_of_ble_eq_true rfl) hl.1 dX4_behind_37) hS (fun r2 σ3 h H locs hW hS => ?_)
    refine lv_if_le (pc := 40) (tgt := 46) hx hb dX4_behind_40 (by decide) (fun c4 => ?_) (fun c4 => ?_)
    · have h := h.1 c4
      refine lv_iinc (pc := 46) (v := (x5 + (1 : Int32))) (lv' := [(5, .int (x5 + (1 : Int32))), (0, .ref (mj_o E))]) hx hb dX4_behind_46 hl (k := 1) rfl rfl (by decide) rfl (fun ls hl => ?_)
      refine lv_goto (pc := 49) (tgt := 25) hx hb dX4_behind_49 (by decide) ?_
      exact h d hd p e s m args below meth c hcx H locs _ hW hS (lv_sub hl [1, 0] rfl)
    · have h := h.2 c4
      refine lv_iload (pc := 43) hx hb dX4_behind_43 (lv_at hl 1 rfl) ?_
      exact mj_reti (pc := 45) hcx hW hS rfl h dX4_behind_45
set_option maxHeartbeats 4000000 in
set_option maxRecDepth 100000 in
theorem mb_behind {E : mj_E} {σ : mj_S} {x1 : Int32} {x2 : Int32} {x3 : Int32} {x4 : Int32} {P : Int32 → mj_S → Prop} (hE : mj_ok E) (h : ms_areTables E σ (fun r1 σ2 => ((r1 = 0 → P (-1 : Int32) σ2) ∧ (¬ r1 = 0 → ms_takesFour E σ2 x1 x2 x3 x4 (fun σ5 => ms_joinsNow E σ5 (fun σ7 => mg_behind_25 E σ7 (0 : Int32) P)))))) : ms_behind E σ x1 x2 x3 x4 P :=
  mj_enter (k := 23) (lv := [(0, .ref (mj_o E)), (1, .int x1), (2, .int x2), (3, .int x3), (4, .int x4)]) hE rfl (Nat.le_of_ble_eq_true rfl) rfl (by
    intro d hd p e s m args below meth c hcx H locs ls hW hS hl
    have hx := hcx.1
    have hb := hcx.2.1
    have hown := hcx.2.2.2.2.2.1
    have hts := hcx.2.2.2.2.2.2.1
    refine lv_aload_n (pc := 0) hx hb dX4_behind_0 rfl (lv_at hl 0 rfl) ?_
    refine mj_ci (pc := 1) (mj_runV hcx hW [] h (Nat.le_trans (by decide) hd) (lw_V q1533 q1535 qs72 q125 q1536) yd_areTables (by decide) rfl rfl (Nat.le_of_ble_eq_true rfl) hl.1 dX4_behind_1) hS (fun r1 σ2 h H locs hW hS => ?_)
    refine lv_if_ne (pc := 4) (tgt := 9) hx hb dX4_behind_4 (by decide) (fun c3 => ?_) (fun c3 => ?_)
    · have h := h.2 c3
      refine lv_aload_n (pc := 9) hx hb dX4_behind_9 rfl (lv_at hl 0 rfl) ?_
      refine lv_iload_n (pc := 10) hx hb dX4_behind_10 rfl (lv_at hl 1 rfl) ?_
      refine lv_iload_n (pc := 11) hx hb dX4_behind_11 rfl (lv_at hl 2 rfl) ?_
      refine lv_iload_n (pc := 12) hx hb dX4_behind_12 rfl (lv_at hl 3 rfl) ?_
      refine lv_iload (pc := 13) hx hb dX4_behind_13 (lv_at hl 4 rfl) ?_
      refine mj_cv (pc := 15) (mj_runV hcx hW [.int x1, .int x2, .int x3, .int x4] h (Nat.le_trans (by decide) hd) (lw_V q1777 q1779 qs109 q125 q1780) yd_takesFour (by decide) rfl rfl (Nat.le_of_ble_eq_true rfl) hl.1 dX4_behind_15) hS (fun σ5 h H locs hW hS => ?_)
      refine lv_aload_n (pc := 18) hx hb dX4_behind_18 rfl (lv_at hl 0 rfl) ?_
      refine mj_cv (pc := 19) (mj_runV hcx hW [] h (Nat.le_trans (by decide) hd) (lw_V q1565 q1567 qs80 q125 q1568) yd_joinsNow (by decide) rfl rfl (Nat.le_of_ble_eq_true rfl) hl.1 dX4_behind_19) hS (fun σ7 h H locs hW hS => ?_)
      refine lv_iconst (pc := 22) (v := (0 : Int32)) hx hb dX4_behind_22 (by decide) ?_
      refine lv_istore (pc := 23) (lv' := [(5, .int (0 : Int32)), (0, .ref (mj_o E)), (1, .int x1), (2, .int x2), (3, .int x3), (4, .int x4)]) hx hb dX4_behind_23 hl (by decide) rfl (fun ls hl => ?_)
      exact h d hd p e s m args below meth c hcx H locs _ hW hS (lv_sub hl [1, 0] rfl)
    · have h := h.1 c3
      refine lv_iconst (pc := 7) (v := (-1 : Int32)) hx hb dX4_behind_7 (by decide) ?_
      exact mj_reti (pc := 8) hcx hW hS rfl h dX4_behind_8)
/-! best -/
set_option maxHeartbeats 4000000 in
set_option maxRecDepth 100000 in
theorem mb_best {E : mj_E} {σ : mj_S} {x1 : Int32} {P : Int32 → mj_S → Prop} (hE : mj_ok E) (h : ms_areTables E σ (fun r1 σ2 => ((r1 = 0 → P (-1 : Int32) σ2) ∧ (¬ r1 = 0 → ms_in E σ2 x1 (0 : Int32) (1 : Int32) (fun r4 σ5 => ((r4 = 0 → P (-1 : Int32) σ5) ∧ (¬ r4 = 0 → ms_triesOrders E σ5 (fun σ8 => ((x1 = 0 → P (mj_F σ8 31) σ8) ∧ (¬ x1 = 0 → P (mj_F σ8 32) σ8)))))))))) : ms_best E σ x1 P :=
  mj_enter (k := 23) (lv := [(0, .ref (mj_o E)), (1, .int x1)]) hE rfl (Nat.le_of_ble_eq_true rfl) rfl (by
    intro d hd p e s m args below meth c hcx H locs ls hW hS hl
    have hx := hcx.1
    have hb := hcx.2.1
    have hown := hcx.2.2.2.2.2.1
    have hts := hcx.2.2.2.2.2.2.1
    refine lv_aload_n (pc := 0) hx hb dX4_best_0 rfl (lv_at hl 0 rfl) ?_
    refine mj_ci (pc := 1) (mj_runV hcx hW [] h (Nat.le_trans (by decide) hd) (lw_V q1533 q1535 qs72 q125 q1536) yd_areTables (by decide) rfl rfl (Nat.le_of_ble_eq_true rfl) hl.1 dX4_best_1) hS (fun r1 σ2 h H locs hW hS => ?_)
    refine lv_if_eq (pc := 4) (tgt := 16) hx hb dX4_best_4 (by decide) (fun c3 => ?_) (fun c3 => ?_)
    · have h := h.1 c3
      refine lv_iconst (pc := 16) (v := (-1 : Int32)) hx hb dX4_best_16 (by decide) ?_
      exact mj_reti (pc := 17) hcx hW hS rfl h dX4_best_17
    · have h := h.2 c3
      refine lv_iload_n (pc := 7) hx hb dX4_best_7 rfl (lv_at hl 1 rfl) ?_
      refine lv_iconst (pc := 8) (v := (0 : Int32)) hx hb dX4_best_8 (by decide) ?_
      refine lv_iconst (pc := 9) (v := (1 : Int32)) hx hb dX4_best_9 (by decide) ?_
      refine mj_ci (pc := 10) (mj_runS hcx hW [.int x1, .int (0 : Int32), .int (1 : Int32)] h (Nat.le_trans (by decide) hd) (lw_S q1401 q1402 q125 q1403) yd_in.2 (by decide) rfl rfl (Nat.le_of_ble_eq_true rfl) hl.1 dX4_best_10) hS (fun r4 σ5 h H locs hW hS => ?_)
      refine lv_if_ne (pc := 13) (tgt := 18) hx hb dX4_best_13 (by decide) (fun c6 => ?_) (fun c6 => ?_)
      · have h := h.2 c6
        refine lv_aload_n (pc := 18) hx hb dX4_best_18 rfl (lv_at hl 0 rfl) ?_
        refine mj_cv (pc := 19) (mj_runV hcx hW [] h (Nat.le_trans (by decide) hd) (lw_V q1721 q1723 qs103 q125 q1724) yd_triesOrders (by decide) rfl rfl (Nat.le_of_ble_eq_true rfl) hl.1 dX4_best_19) hS (fun σ8 h H locs hW hS => ?_)
        refine lv_iload_n (pc := 22) hx hb dX4_best_22 rfl (lv_at hl 1 rfl) ?_
        refine lv_if_ne (pc := 23) (tgt := 33) hx hb dX4_best_23 (by decide) (fun c9 => ?_) (fun c9 => ?_)
        · have h := h.2 c9
          refine lv_aload_n (pc := 33) hx hb dX4_best_33 rfl (lv_at hl 0 rfl) ?_
          refine mj_geti (pc := 34) hcx hW 32 (by decide) rfl q1287 dX4_best_34 ?_
          exact mj_reti (pc := 37) hcx hW hS rfl h dX4_best_37
        · have h := h.1 c9
          refine lv_aload_n (pc := 26) hx hb dX4_best_26 rfl (lv_at hl 0 rfl) ?_
          refine mj_geti (pc := 27) hcx hW 31 (by decide) rfl q1286 dX4_best_27 ?_
          refine lv_goto (pc := 30) (tgt := 37) hx hb dX4_best_30 (by decide) ?_
          exact mj_reti (pc := 37) hcx hW hS rfl h dX4_best_37
      · have h := h.1 c6
        refine lv_iconst (pc := 16) (v := (-1 : Int32)) hx hb dX4_best_16 (by decide) ?_
        exact mj_reti (pc := 17) hcx hW hS rfl h dX4_best_17)
/-! counts -/
set_option maxHeartbeats 4000000 in
set_option maxRecDepth 100000 in
theorem mb_counts_6 {E : mj_E} {σ : mj_S} {x1 : Int32} {P : mj_S → Prop} (h : (((400 : Int32) ≤ x1 → mg_counts_28 E σ (0 : Int32) P) ∧ (¬ (400 : Int32) ≤ x1 → (vp_in x1 400 ∧ mg_counts_6 E (mj_sA σ 34 x1.toNatClampNeg (0 : Int32)) (x1 + (1 : Int32)) P)))) : mg_counts_6 E σ x1 P := by
  intro d hd p e s m args below meth c hcx H locs ls hW hS hl
  have hx := hcx.1
  have hb := hcx.2.1
  have hown := hcx.2.2.2.2.2.1
  have hts := hcx.2.2.2.2.2.2.1
  refine lv_iload_n (pc := 6) hx hb dX4_counts_6 rfl (lv_at hl 1 rfl) ?_
  refine lv_sipush (pc := 7) (v := (400 : Int32)) hx hb dX4_counts_7 (by decide) ?_
  refine lv_icmp_ge (pc := 10) (tgt := 26) hx hb dX4_counts_10 (by decide) (fun c1 => ?_) (fun c1 => ?_)
  · have h := h.1 c1
    refine lv_iconst (pc := 26) (v := (0 : Int32)) hx hb dX4_counts_26 (by decide) ?_
    refine lv_istore_n (pc := 27) (lv' := [(1, .int (0 : Int32)), (0, .ref (mj_o E))]) hx hb dX4_counts_27 rfl hl (by decide) rfl (fun ls hl => ?_)
    exact h d hd p e s m args below meth c hcx H locs _ hW hS (lv_sub hl [1, 0] rfl)
  · have h := h.2 c1
    refine lv_aload_n (pc := 13) hx hb dX4_counts_13 rfl (lv_at hl 0 rfl) ?_
    refine mj_geta (pc := 14) hcx hW 34 (by decide) rfl q1289 dX4_counts_14 ?_
    refine lv_iload_n (pc := 17) hx hb dX4_counts_17 rfl (lv_at hl 1 rfl) ?_
    refine lv_iconst (pc := 18) (v := (0 : Int32)) hx hb dX4_counts_18 (by decide) ?_
    obtain ⟨g2, h⟩ := h
    refine mj_ast (pc := 19) hcx hW hS 34 rfl rfl g2 dX4_counts_19 (fun H locs hW hS => ?_)
    refine lv_iinc (pc := 20) (v := (x1 + (1 : Int32))) (lv' := [(1, .int (x1 + (1 : Int32))), (0, .ref (mj_o E))]) hx hb dX4_counts_20 hl (k := 1) rfl rfl (by decide) rfl (fun ls hl => ?_)
    refine lv_goto (pc := 23) (tgt := 6) hx hb dX4_counts_23 (by decide) ?_
    exact h d hd p e s m args below meth c hcx H locs _ hW hS (lv_sub hl [1, 0] rfl)
set_option maxHeartbeats 4000000 in
set_option maxRecDepth 100000 in
theorem mb_counts_28 {E : mj_E} {σ : mj_S} {x1 : Int32} {P : mj_S → Prop} (h : (((mj_F σ 26) ≤ x1 → mg_counts_81 E σ (0 : Int32) P) ∧ (¬ (mj_F σ 26) ≤ x1 → mg_counts_38 E σ x1 (0 : Int32) P))) : mg_counts_28 E σ x1 P := by
  intro d hd p e s m args below meth c hcx H locs ls hW hS hl
  have hx := hcx.1
  have hb := hcx.2.1
  have hown := hcx.2.2.2.2.2.1
  have hts := hcx.2.2.2.2.2.2.1
  refine lv_iload_n (pc := 28) hx hb dX4_counts_28 rfl (lv_at hl 1 rfl) ?_
  refine lv_aload_n (pc := 29) hx hb dX4_counts_29 rfl (lv_at hl 0 rfl) ?_
  refine mj_geti (pc := 30) hcx hW 26 (by decide) rfl q1281 dX4_counts_30 ?_
  refine lv_icmp_ge (pc := 33) (tgt := 79) hx hb dX4_counts_33 (by decide) (fun c1 => ?_) (fun c1 => ?_)
  · have h := h.1 c1
    refine lv_iconst (pc := 79) (v := (0 : Int32)) hx hb dX4_counts_79 (by decide) ?_
    refine lv_istore_n (pc := 80) (lv' := [(1, .int (0 : Int32)), (0, .ref (mj_o E))]) hx hb dX4_counts_80 rfl hl (by decide) rfl (fun ls hl => ?_)
    exact h d hd p e s m args below meth c hcx H locs _ hW hS (lv_sub hl [1, 0] rfl)
  · have h := h.2 c1
    refine lv_iconst (pc := 36) (v := (0 : Int32)) hx hb dX4_counts_36 (by decide) ?_
    refine lv_istore_n (pc := 37) (lv' := [(2, .int (0 : Int32)), (0, .ref (mj_o E)), (1, .int x1)]) hx hb dX4_counts_37 rfl hl (by decide) rfl (fun ls hl => ?_)
    exact h d hd p e s m args below meth c hcx H locs _ hW hS (lv_sub hl [1, 2, 0] rfl)
set_option maxHeartbeats 4000000 in
set_option maxRecDepth 100000 in
theorem mb_counts_81 {E : mj_E} {σ : mj_S} {x1 : Int32} {P : mj_S → Prop} (h : (((4 : Int32) ≤ x1 → P σ) ∧ (¬ (4 : Int32) ≤ x1 → (vp_in x1 4 ∧ mg_counts_95 E (mj_sA σ 36 x1.toNatClampNeg (0 : Int32)) x1 (0 : Int32) P)))) : mg_counts_81 E σ x1 P := by
  intro d hd p e s m args below meth c hcx H locs ls hW hS hl
  have hx := hcx.1
  have hb := hcx.2.1
  have hown := hcx.2.2.2.2.2.1
  have hts := hcx.2.2.2.2.2.2.1
  refine lv_iload_n (pc := 81) hx hb dX4_counts_81 rfl (lv_at hl 1 rfl) ?_
  refine lv_iconst (pc := 82) (v := (4 : Int32)) hx hb dX4_counts_82 (by decide) ?_
  refine lv_icmp_ge (pc := 83) (tgt := 158) hx hb dX4_counts_83 (by decide) (fun c1 => ?_) (fun c1 => ?_)
  · have h := h.1 c1
    exact mj_retv (pc := 158) hcx hW hS h dX4_counts_158
  · have h := h.2 c1
    refine lv_aload_n (pc := 86) hx hb dX4_counts_86 rfl (lv_at hl 0 rfl) ?_
    refine mj_geta (pc := 87) hcx hW 36 (by decide) rfl q1291 dX4_counts_87 ?_
    refine lv_iload_n (pc := 90) hx hb dX4_counts_90 rfl (lv_at hl 1 rfl) ?_
    refine lv_iconst (pc := 91) (v := (0 : Int32)) hx hb dX4_counts_91 (by decide) ?_
    obtain ⟨g2, h⟩ := h
    refine mj_ast (pc := 92) hcx hW hS 36 rfl rfl g2 dX4_counts_92 (fun H locs hW hS => ?_)
    refine lv_iconst (pc := 93) (v := (0 : Int32)) hx hb dX4_counts_93 (by decide) ?_
    refine lv_istore_n (pc := 94) (lv' := [(2, .int (0 : Int32)), (0, .ref (mj_o E)), (1, .int x1)]) hx hb dX4_counts_94 rfl hl (by decide) rfl (fun ls hl => ?_)
    exact h d hd p e s m args below meth c hcx H locs _ hW hS (lv_sub hl [1, 2, 0] rfl)
set_option maxHeartbeats 4000000 in
set_option maxRecDepth 100000 in
theorem mb_counts_38 {E : mj_E} {σ : mj_S} {x1 : Int32} {x2 : Int32} {P : mj_S → Prop} (h : (((4 : Int32) ≤ x2 → mg_counts_28 E σ (x1 + (1 : Int32)) P) ∧ (¬ (4 : Int32) ≤ x2 → ms_numberOf E σ x1 x2 (fun r2 σ3 => (vp_in (((100 : Int32) * x2) + (if (0 : Int32) < r2 then r2 else (0 : Int32))) 400 ∧ (vp_in (((100 : Int32) * x2) + (if (0 : Int32) < r2 then r2 else (0 : Int32))) 400 ∧ mg_counts_38 E (mj_sA σ3 34 (((100 : Int32) * x2) + (if (0 : Int32) < r2 then r2 else (0 : Int32))).toNatClampNeg ((mj_A σ3 34 (((100 : Int32) * x2) + (if (0 : Int32) < r2 then r2 else (0 : Int32))).toNatClampNeg) + (1 : Int32))) x1 (x2 + (1 : Int32)) P)))))) : mg_counts_38 E σ x1 x2 P := by
  intro d hd p e s m args below meth c hcx H locs ls hW hS hl
  have hx := hcx.1
  have hb := hcx.2.1
  have hown := hcx.2.2.2.2.2.1
  have hts := hcx.2.2.2.2.2.2.1
  refine lv_iload_n (pc := 38) hx hb dX4_counts_38 rfl (lv_at hl 2 rfl) ?_
  refine lv_iconst (pc := 39) (v := (4 : Int32)) hx hb dX4_counts_39 (by decide) ?_
  refine lv_icmp_ge (pc := 40) (tgt := 73) hx hb dX4_counts_40 (by decide) (fun c1 => ?_) (fun c1 => ?_)
  · have h := h.1 c1
    refine lv_iinc (pc := 73) (v := (x1 + (1 : Int32))) (lv' := [(1, .int (x1 + (1 : Int32))), (0, .ref (mj_o E)), (2, .int x2)]) hx hb dX4_counts_73 hl (k := 1) rfl rfl (by decide) rfl (fun ls hl => ?_)
    refine lv_goto (pc := 76) (tgt := 28) hx hb dX4_counts_76 (by decide) ?_
    exact h d hd p e s m args below meth c hcx H locs _ hW hS (lv_sub hl [1, 0] rfl)
  · have h := h.2 c1
    refine lv_aload_n (pc := 43) hx hb dX4_counts_43 rfl (lv_at hl 0 rfl) ?_
    refine mj_geta (pc := 44) hcx hW 34 (by decide) rfl q1289 dX4_counts_44 ?_
    refine lv_bipush (pc := 47) (v := (100 : Int32)) hx hb dX4_counts_47 (by decide) ?_
    refine lv_iload_n (pc := 49) hx hb dX4_counts_49 rfl (lv_at hl 2 rfl) ?_
    refine lv_imul (pc := 50) hx hb dX4_counts_50 ?_
    refine lv_iconst (pc := 51) (v := (0 : Int32)) hx hb dX4_counts_51 (by decide) ?_
    refine lv_aload_n (pc := 52) hx hb dX4_counts_52 rfl (lv_at hl 0 rfl) ?_
    refine lv_iload_n (pc := 53) hx hb dX4_counts_53 rfl (lv_at hl 1 rfl) ?_
    refine lv_iload_n (pc := 54) hx hb dX4_counts_54 rfl (lv_at hl 2 rfl) ?_
    refine mj_ci (pc := 55) (mj_runV hcx hW [.int x1, .int x2] h (Nat.le_trans (by decide) hd) (lw_V q1705 q1707 qs102 q125 q1708) yd_numberOf (by decide) rfl rfl (Nat.le_of_ble_eq_true rfl) hl.1 dX4_counts_55) hS (fun r2 σ3 h H locs hW hS => ?_)
    refine mj_mmax (pc := 58) hcx hl.1 q1621 (Nat.le_of_ble_eq_true rfl) dX4_counts_58 ?_
    refine lv_iadd (pc := 61) hx hb dX4_counts_61 ?_
    refine lv_dup2_11 (pc := 62) hx hb dX4_counts_62 rfl rfl ?_
    obtain ⟨g4, h⟩ := h
    refine mj_ald (pc := 63) hcx hW 34 rfl rfl g4 dX4_counts_63 ?_
    refine lv_iconst (pc := 64) (v := (1 : Int32)) hx hb dX4_counts_64 (by decide) ?_
    refine lv_iadd (pc := 65) hx hb dX4_counts_65 ?_
    obtain ⟨g5, h⟩ := h
    refine mj_ast (pc := 66) hcx hW hS 34 rfl rfl g5 dX4_counts_66 (fun H locs hW hS => ?_)
    refine lv_iinc (pc := 67) (v := (x2 + (1 : Int32))) (lv' := [(2, .int (x2 + (1 : Int32))), (0, .ref (mj_o E)), (1, .int x1)]) hx hb dX4_counts_67 hl (k := 2) rfl rfl (by decide) rfl (fun ls hl => ?_)
    refine lv_goto (pc := 70) (tgt := 38) hx hb dX4_counts_70 (by decide) ?_
    exact h d hd p e s m args below meth c hcx H locs _ hW hS (lv_sub hl [1, 2, 0] rfl)
set_option maxHeartbeats 4000000 in
set_option maxRecDepth 100000 in
theorem mb_counts_95 {E : mj_E} {σ : mj_S} {x1 : Int32} {x2 : Int32} {P : mj_S → Prop} (h : (((100 : Int32) ≤ x2 → mg_counts_81 E σ (x1 + (1 : Int32)) P) ∧ (¬ (100 : Int32) ≤ x2 → (vp_in x1 4 ∧ (vp_in (((100 : Int32) * x1) + x2) 400 ∧ (vp_in x1 4 ∧ (vp_in (((100 : Int32) * x1) + x2) 400 ∧ (((mj_A (mj_sA σ 35 (((100 : Int32) * x1) + x2).toNatClampNeg (mj_A σ 36 x1.toNatClampNeg)) 34 (((100 : Int32) * x1) + x2).toNatClampNeg) ≤ 0 → (vp_in x1 4 ∧ mg_counts_95 E (mj_sA (mj_sA σ 35 (((100 : Int32) * x1) + x2).toNatClampNeg (mj_A σ 36 x1.toNatClampNeg)) 36 x1.toNatClampNeg ((mj_A (mj_sA σ 35 (((100 : Int32) * x1) + x2).toNatClampNeg (mj_A σ 36 x1.toNatClampNeg)) 36 x1.toNatClampNeg) + (0 : Int32))) x1 (x2 + (1 : Int32)) P)) ∧ (¬ (mj_A (mj_sA σ 35 (((100 : Int32) * x1) + x2).toNatClampNeg (mj_A σ 36 x1.toNatClampNeg)) 34 (((100 : Int32) * x1) + x2).toNatClampNeg) ≤ 0 → (vp_in x1 4 ∧ mg_counts_95 E (mj_sA (mj_sA σ 35 (((100 : Int32) * x1) + x2).toNatClampNeg (mj_A σ 36 x1.toNatClampNeg)) 36 x1.toNatClampNeg ((mj_A (mj_sA σ 35 (((100 : Int32) * x1) + x2).toNatClampNeg (mj_A σ 36 x1.toNatClampNeg)) 36 x1.toNatClampNeg) + (1 : Int32))) x1 (x2 + (1 : Int32)) P)))))))))) : mg_counts_95 E σ x1 x2 P := by
  intro d hd p e s m args below meth c hcx H locs ls hW hS hl
  have hx := hcx.1
  have hb := hcx.2.1
  have hown := hcx.2.2.2.2.2.1
  have hts := hcx.2.2.2.2.2.2.1
  refine lv_iload_n (pc := 95) hx hb dX4_counts_95 rfl (lv_at hl 2 rfl) ?_
  refine lv_bipush (pc := 96) (v := (100 : Int32)) hx hb dX4_counts_96 (by decide) ?_
  refine lv_icmp_ge (pc := 98) (tgt := 152) hx hb dX4_counts_98 (by decide) (fun c1 => ?_) (fun c1 => ?_)
  · have h := h.1 c1
    refine lv_iinc (pc := 152) (v := (x1 + (1 : Int32))) (lv' := [(1, .int (x1 + (1 : Int32))), (0, .ref (mj_o E)), (2, .int x2)]) hx hb dX4_counts_152 hl (k := 1) rfl rfl (by decide) rfl (fun ls hl => ?_)
    refine lv_goto (pc := 155) (tgt := 81) hx hb dX4_counts_155 (by decide) ?_
    exact h d hd p e s m args below meth c hcx H locs _ hW hS (lv_sub hl [1, 0] rfl)
  · have h := h.2 c1
    refine lv_aload_n (pc := 101) hx hb dX4_counts_101 rfl (lv_at hl 0 rfl) ?_
    refine mj_geta (pc := 102) hcx hW 35 (by decide) rfl q1290 dX4_counts_102 ?_
    refine lv_bipush (pc := 105) (v := (100 : Int32)) hx hb dX4_counts_105 (by decide) ?_
    refine lv_iload_n (pc := 107) hx hb dX4_counts_107 rfl (lv_at hl 1 rfl) ?_
    refine lv_imul (pc := 108) hx hb dX4_counts_108 ?_
    refine lv_iload_n (pc := 109) hx hb dX4_counts_109 rfl (lv_at hl 2 rfl) ?_
    refine lv_iadd (pc := 110) hx hb dX4_counts_110 ?_
    refine lv_aload_n (pc := 111) hx hb dX4_counts_111 rfl (lv_at hl 0 rfl) ?_
    refine mj_geta (pc := 112) hcx hW 36 (by decide) rfl q1291 dX4_counts_112 ?_
    refine lv_iload_n (pc := 115) hx hb dX4_counts_115 rfl (lv_at hl 1 rfl) ?_
    obtain ⟨g2, h⟩ := h
    refine mj_ald (pc := 116) hcx hW 36 rfl rfl g2 dX4_counts_116 ?_
    obtain ⟨g3, h⟩ := h
    refine mj_ast (pc := 117) hcx hW hS 35 rfl rfl g3 dX4_counts_117 (fun H locs hW hS => ?_)
    refine lv_aload_n (pc := 118) hx hb dX4_counts_118 rfl (lv_at hl 0 rfl) ?_
    refine mj_geta (pc := 119) hcx hW 36 (by decide) rfl q1291 dX4_counts_119 ?_
    refine lv_iload_n (pc := 122) hx hb dX4_counts_122 rfl (lv_at hl 1 rfl) ?_
    refine lv_dup2_11 (pc := 123) hx hb dX4_counts_123 rfl rfl ?_
    obtain ⟨g4, h⟩ := h
    refine mj_ald (pc := 124) hcx hW 36 rfl rfl g4 dX4_counts_124 ?_
    refine lv_aload_n (pc := 125) hx hb dX4_counts_125 rfl (lv_at hl 0 rfl) ?_
    refine mj_geta (pc := 126) hcx hW 34 (by decide) rfl q1289 dX4_counts_126 ?_
    refine lv_bipush (pc := 129) (v := (100 : Int32)) hx hb dX4_counts_129 (by decide) ?_
    refine lv_iload_n (pc := 131) hx hb dX4_counts_131 rfl (lv_at hl 1 rfl) ?_
    refine lv_imul (pc := 132) hx hb dX4_counts_132 ?_
    refine lv_iload_n (pc := 133) hx hb dX4_counts_133 rfl (lv_at hl 2 rfl) ?_
    refine lv_iadd (pc := 134) hx hb dX4_counts_134 ?_
    obtain ⟨g5, h⟩ := h
    refine mj_ald (pc := 135) hcx hW 34 rfl rfl g5 dX4_counts_135 ?_
    refine lv_if_le (pc := 136) (tgt := 143) hx hb dX4_counts_136 (by decide) (fun c6 => ?_) (fun c6 => ?_)
    · have h := h.1 c6
      refine lv_iconst (pc := 143) (v := (0 : Int32)) hx hb dX4_counts_143 (by decide) ?_
      refine lv_iadd (pc := 144) hx hb dX4_counts_144 ?_
      obtain ⟨g7, h⟩ := h
      refine mj_ast (pc := 145) hcx hW hS 36 rfl rfl g7 dX4_counts_145 (fun H locs hW hS => ?_)
      refine lv_iinc (pc := 146) (v := (x2 + (1 : Int32))) (lv' := [(2, .int (x2 + (1 : Int32))), (0, .ref (mj_o E)), (1, .int x1)]) hx hb dX4_counts_146 hl (k := 2) rfl rfl (by decide) rfl (fun ls hl => ?_)
      refine lv_goto (pc := 149) (tgt := 95) hx hb dX4_counts_149 (by decide) ?_
      exact h d hd p e s m args below meth c hcx H locs _ hW hS (lv_sub hl [1, 2, 0] rfl)
    · have h := h.2 c6
      refine lv_iconst (pc := 139) (v := (1 : Int32)) hx hb dX4_counts_139 (by decide) ?_
      refine lv_goto (pc := 140) (tgt := 144) hx hb dX4_counts_140 (by decide) ?_
      refine lv_iadd (pc := 144) hx hb dX4_counts_144 ?_
      obtain ⟨g8, h⟩ := h
      refine mj_ast (pc := 145) hcx hW hS 36 rfl rfl g8 dX4_counts_145 (fun H locs hW hS => ?_)
      refine lv_iinc (pc := 146) (v := (x2 + (1 : Int32))) (lv' := [(2, .int (x2 + (1 : Int32))), (0, .ref (mj_o E)), (1, .int x1)]) hx hb dX4_counts_146 hl (k := 2) rfl rfl (by decide) rfl (fun ls hl => ?_)
      refine lv_goto (pc := 149) (tgt := 95) hx hb dX4_counts_149 (by decide) ?_
      exact h d hd p e s m args below meth c hcx H locs _ hW hS (lv_sub hl [1, 2, 0] rfl)
set_option maxHeartbeats 4000000 in
set_option maxRecDepth 100000 in
theorem mb_counts {E : mj_E} {σ : mj_S} {P : mj_S → Prop} (hE : mj_ok E) (h : ms_joinsNow E σ (fun σ2 => mg_counts_6 E σ2 (0 : Int32) P)) : ms_counts E σ P :=
  mj_enter (k := 23) (lv := [(0, .ref (mj_o E))]) hE rfl (Nat.le_of_ble_eq_true rfl) rfl (by
    intro d hd p e s m args below meth c hcx H locs ls hW hS hl
    have hx := hcx.1
    have hb := hcx.2.1
    have hown := hcx.2.2.2.2.2.1
    have hts := hcx.2.2.2.2.2.2.1
    refine lv_aload_n (pc := 0) hx hb dX4_counts_0 rfl (lv_at hl 0 rfl) ?_
    refine mj_cv (pc := 1) (mj_runV hcx hW [] h (Nat.le_trans (by decide) hd) (lw_V q1565 q1567 qs80 q125 q1568) yd_joinsNow (by decide) rfl rfl (Nat.le_of_ble_eq_true rfl) hl.1 dX4_counts_1) hS (fun σ2 h H locs hW hS => ?_)
    refine lv_iconst (pc := 4) (v := (0 : Int32)) hx hb dX4_counts_4 (by decide) ?_
    refine lv_istore_n (pc := 5) (lv' := [(1, .int (0 : Int32)), (0, .ref (mj_o E))]) hx hb dX4_counts_5 rfl hl (by decide) rfl (fun ls hl => ?_)
    exact h d hd p e s m args below meth c hcx H locs _ hW hS (lv_sub hl [1, 0] rfl))
/-! given -/
set_option maxHeartbeats 4000000 in
set_option maxRecDepth 100000 in
theorem mb_given {E : mj_E} {σ : mj_S} {x1 : Int32} {P : Int32 → mj_S → Prop} (hE : mj_ok E) (h : ms_isTable E σ x1 (fun r1 σ2 => ((r1 = 0 → P (-1 : Int32) σ2) ∧ (¬ r1 = 0 → ms_joinsNow E σ2 (fun σ5 => ms_givenBy E σ5 x1 (fun r6 σ7 => P r6 σ7)))))) : ms_given E σ x1 P :=
  mj_enter (k := 23) (lv := [(0, .ref (mj_o E)), (1, .int x1)]) hE rfl (Nat.le_of_ble_eq_true rfl) rfl (by
    intro d hd p e s m args below meth c hcx H locs ls hW hS hl
    have hx := hcx.1
    have hb := hcx.2.1
    have hown := hcx.2.2.2.2.2.1
    have hts := hcx.2.2.2.2.2.2.1
    refine lv_aload_n (pc := 0) hx hb dX4_given_0 rfl (lv_at hl 0 rfl) ?_
    refine lv_iload_n (pc := 1) hx hb dX4_given_1 rfl (lv_at hl 1 rfl) ?_
    refine mj_ci (pc := 2) (mj_runV hcx hW [.int x1] h (Nat.le_trans (by decide) hd) (lw_V q1521 q1523 qs69 q125 q1524) yd_isTable (by decide) rfl rfl (Nat.le_of_ble_eq_true rfl) hl.1 dX4_given_2) hS (fun r1 σ2 h H locs hW hS => ?_)
    refine lv_if_ne (pc := 5) (tgt := 10) hx hb dX4_given_5 (by decide) (fun c3 => ?_) (fun c3 => ?_)
    · have h := h.2 c3
      refine lv_aload_n (pc := 10) hx hb dX4_given_10 rfl (lv_at hl 0 rfl) ?_
      refine mj_cv (pc := 11) (mj_runV hcx hW [] h (Nat.le_trans (by decide) hd) (lw_V q1565 q1567 qs80 q125 q1568) yd_joinsNow (by decide) rfl rfl (Nat.le_of_ble_eq_true rfl) hl.1 dX4_given_11) hS (fun σ5 h H locs hW hS => ?_)
      refine lv_aload_n (pc := 14) hx hb dX4_given_14 rfl (lv_at hl 0 rfl) ?_
      refine lv_iload_n (pc := 15) hx hb dX4_given_15 rfl (lv_at hl 1 rfl) ?_
      refine mj_ci (pc := 16) (mj_runV hcx hW [.int x1] h (Nat.le_trans (by decide) hd) (lw_V q1733 q1735 qs104 q125 q1736) yd_givenBy (by decide) rfl rfl (Nat.le_of_ble_eq_true rfl) hl.1 dX4_given_16) hS (fun r6 σ7 h H locs hW hS => ?_)
      exact mj_reti (pc := 19) hcx hW hS rfl h dX4_given_19
    · have h := h.1 c3
      refine lv_iconst (pc := 8) (v := (-1 : Int32)) hx hb dX4_given_8 (by decide) ?_
      exact mj_reti (pc := 9) hcx hW hS rfl h dX4_given_9)
/-! has_2 -/
set_option maxHeartbeats 4000000 in
set_option maxRecDepth 100000 in
theorem mb_has_2_25 {E : mj_E} {σ : mj_S} {x5 : Int32} {P : Int32 → mj_S → Prop} (h : (((mj_F σ 26) ≤ x5 → P (0 : Int32) σ) ∧ (¬ (mj_F σ 26) ≤ x5 → ms_comparesFour E σ x5 (fun r2 σ3 => ((r2 = 0 → P (1 : Int32) σ3) ∧ (¬ r2 = 0 → mg_has_2_25 E σ3 (x5 + (1 : Int32)) P)))))) : mg_has_2_25 E σ x5 P := by
  intro d hd p e s m args below meth c hcx H locs ls hW hS hl
  have hx := hcx.1
  have hb := hcx.2.1
  have hown := hcx.2.2.2.2.2.1
  have hts := hcx.2.2.2.2.2.2.1
  refine lv_iload (pc := 25) hx hb dX4_has_2_25 (lv_at hl 1 rfl) ?_
  refine lv_aload_n (pc := 27) hx hb dX4_has_2_27 rfl (lv_at hl 0 rfl) ?_
  refine mj_geti (pc := 28) hcx hW 26 (by decide) rfl q1281 dX4_has_2_28 ?_
  refine lv_icmp_ge (pc := 31) (tgt := 51) hx hb dX4_has_2_31 (by decide) (fun c1 => ?_) (fun c1 => ?_)
  · have h := h.1 c1
    refine lv_iconst (pc := 51) (v := (0 : Int32)) hx hb dX4_has_2_51 (by decide) ?_
    exact mj_reti (pc := 52) hcx hW hS rfl h dX4_has_2_52
  · have h := h.2 c1
    refine lv_aload_n (pc := 34) hx hb dX4_has_2_34 rfl (lv_at hl 0 rfl) ?_
    refine lv_iload (pc := 35) hx hb dX4_has_2_35 (lv_at hl 1 rfl) ?_
    refine mj_ci (pc := 37) (mj_runV hcx hW [.int x5] h (Nat.le_trans (by decide) hd) (lw_V q1781 q1783 qs110 q125 q1784) yd_comparesFour (by decide) rfl rfl (Nat.le_of_ble_eq_true rfl) hl.1 dX4_has_2_37) hS (fun r2 σ3 h H locs hW hS => ?_)
    refine lv_if_ne (pc := 40) (tgt := 45) hx hb dX4_has_2_40 (by decide) (fun c4 => ?_) (fun c4 => ?_)
    · have h := h.2 c4
      refine lv_iinc (pc := 45) (v := (x5 + (1 : Int32))) (lv' := [(5, .int (x5 + (1 : Int32))), (0, .ref (mj_o E))]) hx hb dX4_has_2_45 hl (k := 1) rfl rfl (by decide) rfl (fun ls hl => ?_)
      refine lv_goto (pc := 48) (tgt := 25) hx hb dX4_has_2_48 (by decide) ?_
      exact h d hd p e s m args below meth c hcx H locs _ hW hS (lv_sub hl [1, 0] rfl)
    · have h := h.1 c4
      refine lv_iconst (pc := 43) (v := (1 : Int32)) hx hb dX4_has_2_43 (by decide) ?_
      exact mj_reti (pc := 44) hcx hW hS rfl h dX4_has_2_44
set_option maxHeartbeats 4000000 in
set_option maxRecDepth 100000 in
theorem mb_has_2 {E : mj_E} {σ : mj_S} {x1 : Int32} {x2 : Int32} {x3 : Int32} {x4 : Int32} {P : Int32 → mj_S → Prop} (hE : mj_ok E) (h : ms_areTables E σ (fun r1 σ2 => ((r1 = 0 → P (0 : Int32) σ2) ∧ (¬ r1 = 0 → ms_takesFour E σ2 x1 x2 x3 x4 (fun σ5 => ms_joinsNow E σ5 (fun σ7 => mg_has_2_25 E σ7 (0 : Int32) P)))))) : ms_has_2 E σ x1 x2 x3 x4 P :=
  mj_enter (k := 23) (lv := [(0, .ref (mj_o E)), (1, .int x1), (2, .int x2), (3, .int x3), (4, .int x4)]) hE rfl (Nat.le_of_ble_eq_true rfl) rfl (by
    intro d hd p e s m args below meth c hcx H locs ls hW hS hl
    have hx := hcx.1
    have hb := hcx.2.1
    have hown := hcx.2.2.2.2.2.1
    have hts := hcx.2.2.2.2.2.2.1
    refine lv_aload_n (pc := 0) hx hb dX4_has_2_0 rfl (lv_at hl 0 rfl) ?_
    refine mj_ci (pc := 1) (mj_runV hcx hW [] h (Nat.le_trans (by decide) hd) (lw_V q1533 q1535 qs72 q125 q1536) yd_areTables (by decide) rfl rfl (Nat.le_of_ble_eq_true rfl) hl.1 dX4_has_2_1) hS (fun r1 σ2 h H locs hW hS => ?_)
    refine lv_if_ne (pc := 4) (tgt := 9) hx hb dX4_has_2_4 (by decide) (fun c3 => ?_) (fun c3 => ?_)
    · have h := h.2 c3
      refine lv_aload_n (pc := 9) hx hb dX4_has_2_9 rfl (lv_at hl 0 rfl) ?_
      refine lv_iload_n (pc := 10) hx hb dX4_has_2_10 rfl (lv_at hl 1 rfl) ?_
      refine lv_iload_n (pc := 11) hx hb dX4_has_2_11 rfl (lv_at hl 2 rfl) ?_
      refine lv_iload_n (pc := 12) hx hb dX4_has_2_12 rfl (lv_at hl 3 rfl) ?_
      refine lv_iload (pc := 13) hx hb dX4_has_2_13 (lv_at hl 4 rfl) ?_
      refine mj_cv (pc := 15) (mj_runV hcx hW [.int x1, .int x2, .int x3, .int x4] h (Nat.le_trans (by decide) hd) (lw_V q1777 q1779 qs109 q125 q1780) yd_takesFour (by decide) rfl rfl (Nat.le_of_ble_eq_true rfl) hl.1 dX4_has_2_15) hS (fun σ5 h H locs hW hS => ?_)
      refine lv_aload_n (pc := 18) hx hb dX4_has_2_18 rfl (lv_at hl 0 rfl) ?_
      refine mj_cv (pc := 19) (mj_runV hcx hW [] h (Nat.le_trans (by decide) hd) (lw_V q1565 q1567 qs80 q125 q1568) yd_joinsNow (by decide) rfl rfl (Nat.le_of_ble_eq_true rfl) hl.1 dX4_has_2_19) hS (fun σ7 h H locs hW hS => ?_)
      refine lv_iconst (pc := 22) (v := (0 : Int32)) hx hb dX4_has_2_22 (by decide) ?_
      refine lv_istore (pc := 23) (lv' := [(5, .int (0 : Int32)), (0, .ref (mj_o E)), (1, .int x1), (2, .int x2), (3, .int x3), (4, .int x4)]) hx hb dX4_has_2_23 hl (by decide) rfl (fun ls hl => ?_)
      exact h d hd p e s m args below meth c hcx H locs _ hW hS (lv_sub hl [1, 0] rfl)
    · have h := h.1 c3
      refine lv_iconst (pc := 7) (v := (0 : Int32)) hx hb dX4_has_2_7 (by decide) ?_
      exact mj_reti (pc := 8) hcx hW hS rfl h dX4_has_2_8)
/-! leaps_2 -/
set_option maxHeartbeats 4000000 in
set_option maxRecDepth 100000 in
theorem mb_leaps_2 {E : mj_E} {σ : mj_S} {P : Int32 → mj_S → Prop} (hE : mj_ok E) (h : ms_areTables E σ (fun r1 σ2 => ((r1 = 0 → P (-1 : Int32) σ2) ∧ (¬ r1 = 0 → ms_joinsNow E σ2 (fun σ5 => P (mj_F σ5 27) σ5))))) : ms_leaps_2 E σ P :=
  mj_enter (k := 23) (lv := [(0, .ref (mj_o E))]) hE rfl (Nat.le_of_ble_eq_true rfl) rfl (by
    intro d hd p e s m args below meth c hcx H locs ls hW hS hl
    have hx := hcx.1
    have hb := hcx.2.1
    have hown := hcx.2.2.2.2.2.1
    have hts := hcx.2.2.2.2.2.2.1
    refine lv_aload_n (pc := 0) hx hb dX4_leaps_2_0 rfl (lv_at hl 0 rfl) ?_
    refine mj_ci (pc := 1) (mj_runV hcx hW [] h (Nat.le_trans (by decide) hd) (lw_V q1533 q1535 qs72 q125 q1536) yd_areTables (by decide) rfl rfl (Nat.le_of_ble_eq_true rfl) hl.1 dX4_leaps_2_1) hS (fun r1 σ2 h H locs hW hS => ?_)
    refine lv_if_ne (pc := 4) (tgt := 9) hx hb dX4_leaps_2_4 (by decide) (fun c3 => ?_) (fun c3 => ?_)
    · have h := h.2 c3
      refine lv_aload_n (pc := 9) hx hb dX4_leaps_2_9 rfl (lv_at hl 0 rfl) ?_
      refine mj_cv (pc := 10) (mj_runV hcx hW [] h (Nat.le_trans (by decide) hd) (lw_V q1565 q1567 qs80 q125 q1568) yd_joinsNow (by decide) rfl rfl (Nat.le_of_ble_eq_true rfl) hl.1 dX4_leaps_2_10) hS (fun σ5 h H locs hW hS => ?_)
      refine lv_aload_n (pc := 13) hx hb dX4_leaps_2_13 rfl (lv_at hl 0 rfl) ?_
      refine mj_geti (pc := 14) hcx hW 27 (by decide) rfl q1282 dX4_leaps_2_14 ?_
      exact mj_reti (pc := 17) hcx hW hS rfl h dX4_leaps_2_17
    · have h := h.1 c3
      refine lv_iconst (pc := 7) (v := (-1 : Int32)) hx hb dX4_leaps_2_7 (by decide) ?_
      exact mj_reti (pc := 8) hcx hW hS rfl h dX4_leaps_2_8)
/-! most -/
set_option maxHeartbeats 4000000 in
set_option maxRecDepth 100000 in
theorem mb_most {E : mj_E} {σ : mj_S} {x1 : Int32} {P : Int32 → mj_S → Prop} (hE : mj_ok E) (h : ms_areTables E σ (fun r1 σ2 => ((r1 = 0 → P (-1000000 : Int32) σ2) ∧ (¬ r1 = 0 → ms_in E σ2 x1 (0 : Int32) (6 : Int32) (fun r4 σ5 => ((r4 = 0 → P (-1000000 : Int32) σ5) ∧ (¬ r4 = 0 → ms_joinsNow E σ5 (fun σ8 => ((x1 = (0 : Int32) → ms_sumOfRows E σ8 (fun r10 σ11 => P r10 σ11)) ∧ (¬ x1 = (0 : Int32) → ((x1 = (1 : Int32) → ((x1 = (2 : Int32) → ms_greatestTable E σ8 (1 : Int32) (fun r16 σ17 => P r16 σ17)) ∧ (¬ x1 = (2 : Int32) → ms_greatestTable E σ8 (0 : Int32) (fun r14 σ15 => P r14 σ15)))) ∧ (¬ x1 = (1 : Int32) → ((x1 = (2 : Int32) → ((x1 = (2 : Int32) → ms_greatestTable E σ8 (1 : Int32) (fun r22 σ23 => P r22 σ23)) ∧ (¬ x1 = (2 : Int32) → ms_greatestTable E σ8 (0 : Int32) (fun r20 σ21 => P r20 σ21)))) ∧ (¬ x1 = (2 : Int32) → ((x1 = (3 : Int32) → ms_notGiven E σ8 (fun r25 σ26 => P r25 σ26)) ∧ (¬ x1 = (3 : Int32) → ((x1 = (4 : Int32) → ms_couples E σ8 (fun r28 σ29 => P r28 σ29)) ∧ (¬ x1 = (4 : Int32) → ((x1 = (5 : Int32) → ms_joins E σ8 (0 : Int32) (fun σ32 => P (mj_F σ32 27) σ32)) ∧ (¬ x1 = (5 : Int32) → ms_triesOrders E σ8 (fun σ34 => P (mj_F σ34 33) σ34))))))))))))))))))))) : ms_most E σ x1 P :=
  mj_enter (k := 23) (lv := [(0, .ref (mj_o E)), (1, .int x1)]) hE rfl (Nat.le_of_ble_eq_true rfl) rfl (by
    intro d hd p e s m args below meth c hcx H locs ls hW hS hl
    have hx := hcx.1
    have hb := hcx.2.1
    have hown := hcx.2.2.2.2.2.1
    have hts := hcx.2.2.2.2.2.2.1
    refine lv_aload_n (pc := 0) hx hb dX4_most_0 rfl (lv_at hl 0 rfl) ?_
    refine mj_ci (pc := 1) (mj_runV hcx hW [] h (Nat.le_trans (by decide) hd) (lw_V q1533 q1535 qs72 q125 q1536) yd_areTables (by decide) rfl rfl (Nat.le_of_ble_eq_true rfl) hl.1 dX4_most_1) hS (fun r1 σ2 h H locs hW hS => ?_)
    refine lv_if_eq (pc := 4) (tgt := 17) hx hb dX4_most_4 (by decide) (fun c3 => ?_) (fun c3 => ?_)
    · have h := h.1 c3
      refine lv_ldcw (pc := 17) (v := (-1000000 : Int32)) hx hb hown (hts _ q1676) dX4_most_17 ?_
      exact mj_reti (pc := 20) hcx hW hS rfl h dX4_most_20
    · have h := h.2 c3
      refine lv_iload_n (pc := 7) hx hb dX4_most_7 rfl (lv_at hl 1 rfl) ?_
      refine lv_iconst (pc := 8) (v := (0 : Int32)) hx hb dX4_most_8 (by decide) ?_
      refine lv_bipush (pc := 9) (v := (6 : Int32)) hx hb dX4_most_9 (by decide) ?_
      refine mj_ci (pc := 11) (mj_runS hcx hW [.int x1, .int (0 : Int32), .int (6 : Int32)] h (Nat.le_trans (by decide) hd) (lw_S q1401 q1402 q125 q1403) yd_in.2 (by decide) rfl rfl (Nat.le_of_ble_eq_true rfl) hl.1 dX4_most_11) hS (fun r4 σ5 h H locs hW hS => ?_)
      refine lv_if_ne (pc := 14) (tgt := 21) hx hb dX4_most_14 (by decide) (fun c6 => ?_) (fun c6 => ?_)
      · have h := h.2 c6
        refine lv_aload_n (pc := 21) hx hb dX4_most_21 rfl (lv_at hl 0 rfl) ?_
        refine mj_cv (pc := 22) (mj_runV hcx hW [] h (Nat.le_trans (by decide) hd) (lw_V q1565 q1567 qs80 q125 q1568) yd_joinsNow (by decide) rfl rfl (Nat.le_of_ble_eq_true rfl) hl.1 dX4_most_22) hS (fun σ8 h H locs hW hS => ?_)
        refine lv_iload_n (pc := 25) hx hb dX4_most_25 rfl (lv_at hl 1 rfl) ?_
        by_cases c9 : x1 = (0 : Int32)
        · have h := h.1 c9
          refine lv_tableIn (pc := 26) (off := 38) (tgt := 64) hx hb dX4_most_26 (by rw [c9]; decide) (by rw [c9]; decide) (by rw [c9]; rfl) (by decide) ?_
          refine lv_aload_n (pc := 64) hx hb dX4_most_64 rfl (lv_at hl 0 rfl) ?_
          refine mj_ci (pc := 65) (mj_runV hcx hW [] h (Nat.le_trans (by decide) hd) (lw_V q1852 q1854 qs117 q125 q1855) yd_sumOfRows (by decide) rfl rfl (Nat.le_of_ble_eq_true rfl) hl.1 dX4_most_65) hS (fun r10 σ11 h H locs hW hS => ?_)
          exact mj_reti (pc := 68) hcx hW hS rfl h dX4_most_68
        · have h := h.2 c9
          by_cases c12 : x1 = (1 : Int32)
          · have h := h.1 c12
            refine lv_tableIn (pc := 26) (off := 43) (tgt := 69) hx hb dX4_most_26 (by rw [c12]; decide) (by rw [c12]; decide) (by rw [c12]; rfl) (by decide) ?_
            refine lv_aload_n (pc := 69) hx hb dX4_most_69 rfl (lv_at hl 0 rfl) ?_
            refine lv_iload_n (pc := 70) hx hb dX4_most_70 rfl (lv_at hl 1 rfl) ?_
            refine lv_iconst (pc := 71) (v := (2 : Int32)) hx hb dX4_most_71 (by decide) ?_
            refine lv_icmp_ne (pc := 72) (tgt := 79) hx hb dX4_most_72 (by decide) (fun c13 => ?_) (fun c13 => ?_)
            · have h := h.2 c13
              refine lv_iconst (pc := 79) (v := (0 : Int32)) hx hb dX4_most_79 (by decide) ?_
              refine mj_ci (pc := 80) (mj_runV hcx hW [.int (0 : Int32)] h (Nat.le_trans (by decide) hd) (lw_V q1856 q1858 qs118 q125 q1859) yd_greatestTable (by decide) rfl rfl (Nat.le_of_ble_eq_true rfl) hl.1 dX4_most_80) hS (fun r14 σ15 h H locs hW hS => ?_)
              exact mj_reti (pc := 83) hcx hW hS rfl h dX4_most_83
            · have h := h.1 c13
              refine lv_iconst (pc := 75) (v := (1 : Int32)) hx hb dX4_most_75 (by decide) ?_
              refine lv_goto (pc := 76) (tgt := 80) hx hb dX4_most_76 (by decide) ?_
              refine mj_ci (pc := 80) (mj_runV hcx hW [.int (1 : Int32)] h (Nat.le_trans (by decide) hd) (lw_V q1856 q1858 qs118 q125 q1859) yd_greatestTable (by decide) rfl rfl (Nat.le_of_ble_eq_true rfl) hl.1 dX4_most_80) hS (fun r16 σ17 h H locs hW hS => ?_)
              exact mj_reti (pc := 83) hcx hW hS rfl h dX4_most_83
          · have h := h.2 c12
            by_cases c18 : x1 = (2 : Int32)
            · have h := h.1 c18
              refine lv_tableIn (pc := 26) (off := 43) (tgt := 69) hx hb dX4_most_26 (by rw [c18]; decide) (by rw [c18]; decide) (by rw [c18]; rfl) (by decide) ?_
              refine lv_aload_n (pc := 69) hx hb dX4_most_69 rfl (lv_at hl 0 rfl) ?_
              refine lv_iload_n (pc := 70) hx hb dX4_most_70 rfl (lv_at hl 1 rfl) ?_
              refine lv_iconst (pc := 71) (v := (2 : Int32)) hx hb dX4_most_71 (by decide) ?_
              refine lv_icmp_ne (pc := 72) (tgt := 79) hx hb dX4_most_72 (by decide) (fun c19 => ?_) (fun c19 => ?_)
              · have h := h.2 c19
                refine lv_iconst (pc := 79) (v := (0 : Int32)) hx hb dX4_most_79 (by decide) ?_
                refine mj_ci (pc := 80) (mj_runV hcx hW [.int (0 : Int32)] h (Nat.le_trans (by decide) hd) (lw_V q1856 q1858 qs118 q125 q1859) yd_greatestTable (by decide) rfl rfl (Nat.le_of_ble_eq_true rfl) hl.1 dX4_most_80) hS (fun r20 σ21 h H locs hW hS => ?_)
                exact mj_reti (pc := 83) hcx hW hS rfl h dX4_most_83
              · have h := h.1 c19
                refine lv_iconst (pc := 75) (v := (1 : Int32)) hx hb dX4_most_75 (by decide) ?_
                refine lv_goto (pc := 76) (tgt := 80) hx hb dX4_most_76 (by decide) ?_
                refine mj_ci (pc := 80) (mj_runV hcx hW [.int (1 : Int32)] h (Nat.le_trans (by decide) hd) (lw_V q1856 q1858 qs118 q125 q1859) yd_greatestTable (by decide) rfl rfl (Nat.le_of_ble_eq_true rfl) hl.1 dX4_most_80) hS (fun r22 σ23 h H locs hW hS => ?_)
                exact mj_reti (pc := 83) hcx hW hS rfl h dX4_most_83
            · have h := h.2 c18
              by_cases c24 : x1 = (3 : Int32)
              · have h := h.1 c24
                refine lv_tableIn (pc := 26) (off := 58) (tgt := 84) hx hb dX4_most_26 (by rw [c24]; decide) (by rw [c24]; decide) (by rw [c24]; rfl) (by decide) ?_
                refine lv_aload_n (pc := 84) hx hb dX4_most_84 rfl (lv_at hl 0 rfl) ?_
                refine mj_ci (pc := 85) (mj_runV hcx hW [] h (Nat.le_trans (by decide) hd) (lw_V q1863 q1865 qs119 q125 q1866) yd_notGiven (by decide) rfl rfl (Nat.le_of_ble_eq_true rfl) hl.1 dX4_most_85) hS (fun r25 σ26 h H locs hW hS => ?_)
                exact mj_reti (pc := 88) hcx hW hS rfl h dX4_most_88
              · have h := h.2 c24
                by_cases c27 : x1 = (4 : Int32)
                · have h := h.1 c27
                  refine lv_tableIn (pc := 26) (off := 63) (tgt := 89) hx hb dX4_most_26 (by rw [c27]; decide) (by rw [c27]; decide) (by rw [c27]; rfl) (by decide) ?_
                  refine lv_aload_n (pc := 89) hx hb dX4_most_89 rfl (lv_at hl 0 rfl) ?_
                  refine mj_ci (pc := 90) (mj_runV hcx hW [] h (Nat.le_trans (by decide) hd) (lw_V q1867 q1869 qs120 q125 q1870) yd_couples (by decide) rfl rfl (Nat.le_of_ble_eq_true rfl) hl.1 dX4_most_90) hS (fun r28 σ29 h H locs hW hS => ?_)
                  exact mj_reti (pc := 93) hcx hW hS rfl h dX4_most_93
                · have h := h.2 c27
                  by_cases c30 : x1 = (5 : Int32)
                  · have h := h.1 c30
                    refine lv_tableIn (pc := 26) (off := 68) (tgt := 94) hx hb dX4_most_26 (by rw [c30]; decide) (by rw [c30]; decide) (by rw [c30]; rfl) (by decide) ?_
                    refine lv_aload_n (pc := 94) hx hb dX4_most_94 rfl (lv_at hl 0 rfl) ?_
                    refine lv_iconst (pc := 95) (v := (0 : Int32)) hx hb dX4_most_95 (by decide) ?_
                    refine mj_cv (pc := 96) (mj_runV hcx hW [.int (0 : Int32)] h (Nat.le_trans (by decide) hd) (lw_V q1569 q1571 qs81 q125 q1572) yd_joins (by decide) rfl rfl (Nat.le_of_ble_eq_true rfl) hl.1 dX4_most_96) hS (fun σ32 h H locs hW hS => ?_)
                    refine lv_aload_n (pc := 99) hx hb dX4_most_99 rfl (lv_at hl 0 rfl) ?_
                    refine mj_geti (pc := 100) hcx hW 27 (by decide) rfl q1282 dX4_most_100 ?_
                    exact mj_reti (pc := 103) hcx hW hS rfl h dX4_most_103
                  · have h := h.2 c30
                    refine lv_tableOut (pc := 26) (tgt := 104) hx hb dX4_most_26 (mj_sw6 c9 c12 c18 c24 c27 c30) (by decide) ?_
                    refine lv_aload_n (pc := 104) hx hb dX4_most_104 rfl (lv_at hl 0 rfl) ?_
                    refine mj_cv (pc := 105) (mj_runV hcx hW [] h (Nat.le_trans (by decide) hd) (lw_V q1721 q1723 qs103 q125 q1724) yd_triesOrders (by decide) rfl rfl (Nat.le_of_ble_eq_true rfl) hl.1 dX4_most_105) hS (fun σ34 h H locs hW hS => ?_)
                    refine lv_aload_n (pc := 108) hx hb dX4_most_108 rfl (lv_at hl 0 rfl) ?_
                    refine mj_geti (pc := 109) hcx hW 33 (by decide) rfl q1288 dX4_most_109 ?_
                    exact mj_reti (pc := 112) hcx hW hS rfl h dX4_most_112
      · have h := h.1 c6
        refine lv_ldcw (pc := 17) (v := (-1000000 : Int32)) hx hb hown (hts _ q1676) dX4_most_17 ?_
        exact mj_reti (pc := 20) hcx hW hS rfl h dX4_most_20)
/-! rowsNow -/
set_option maxHeartbeats 4000000 in
set_option maxRecDepth 100000 in
theorem mb_rowsNow {E : mj_E} {σ : mj_S} {P : Int32 → mj_S → Prop} (hE : mj_ok E) (h : ms_joinsNow E σ (fun σ2 => P (mj_F σ2 26) σ2)) : ms_rowsNow E σ P :=
  mj_enter (k := 23) (lv := [(0, .ref (mj_o E))]) hE rfl (Nat.le_of_ble_eq_true rfl) rfl (by
    intro d hd p e s m args below meth c hcx H locs ls hW hS hl
    have hx := hcx.1
    have hb := hcx.2.1
    have hown := hcx.2.2.2.2.2.1
    have hts := hcx.2.2.2.2.2.2.1
    refine lv_aload_n (pc := 0) hx hb dX4_rowsNow_0 rfl (lv_at hl 0 rfl) ?_
    refine mj_cv (pc := 1) (mj_runV hcx hW [] h (Nat.le_trans (by decide) hd) (lw_V q1565 q1567 qs80 q125 q1568) yd_joinsNow (by decide) rfl rfl (Nat.le_of_ble_eq_true rfl) hl.1 dX4_rowsNow_1) hS (fun σ2 h H locs hW hS => ?_)
    refine lv_aload_n (pc := 4) hx hb dX4_rowsNow_4 rfl (lv_at hl 0 rfl) ?_
    refine mj_geti (pc := 5) hcx hW 26 (by decide) rfl q1281 dX4_rowsNow_5 ?_
    exact mj_reti (pc := 8) hcx hW hS rfl h dX4_rowsNow_8)
/-! tells -/
set_option maxHeartbeats 4000000 in
set_option maxRecDepth 100000 in
theorem mb_tells {E : mj_E} {σ : mj_S} {x1 : Int32} {x2 : Int32} {P : Int32 → mj_S → Prop} (hE : mj_ok E) (h : ms_isAsked E σ x1 (fun r1 σ2 => ((r1 = 0 → P (0 : Int32) σ2) ∧ (¬ r1 = 0 → ms_isAsked E σ2 x2 (fun r4 σ5 => ((r4 = 0 → P (0 : Int32) σ5) ∧ (¬ r4 = 0 → ms_joinsNow E σ5 (fun σ8 => ms_isTold E σ8 x1 x2 (fun r9 σ10 => (narrow .boolean (.int r9) = .int r9 ∧ P r9 σ10)))))))))) : ms_tells E σ x1 x2 P :=
  mj_enter (k := 23) (lv := [(0, .ref (mj_o E)), (1, .int x1), (2, .int x2)]) hE rfl (Nat.le_of_ble_eq_true rfl) rfl (by
    intro d hd p e s m args below meth c hcx H locs ls hW hS hl
    have hx := hcx.1
    have hb := hcx.2.1
    have hown := hcx.2.2.2.2.2.1
    have hts := hcx.2.2.2.2.2.2.1
    refine lv_aload_n (pc := 0) hx hb dX4_tells_0 rfl (lv_at hl 0 rfl) ?_
    refine lv_iload_n (pc := 1) hx hb dX4_tells_1 rfl (lv_at hl 1 rfl) ?_
    refine mj_ci (pc := 2) (mj_runV hcx hW [.int x1] h (Nat.le_trans (by decide) hd) (lw_V q1701 q1703 qs101 q125 q1704) yd_isAsked (by decide) rfl rfl (Nat.le_of_ble_eq_true rfl) hl.1 dX4_tells_2) hS (fun r1 σ2 h H locs hW hS => ?_)
    refine lv_if_eq (pc := 5) (tgt := 16) hx hb dX4_tells_5 (by decide) (fun c3 => ?_) (fun c3 => ?_)
    · have h := h.1 c3
      refine lv_iconst (pc := 16) (v := (0 : Int32)) hx hb dX4_tells_16 (by decide) ?_
      exact mj_reti (pc := 17) hcx hW hS rfl h dX4_tells_17
    · have h := h.2 c3
      refine lv_aload_n (pc := 8) hx hb dX4_tells_8 rfl (lv_at hl 0 rfl) ?_
      refine lv_iload_n (pc := 9) hx hb dX4_tells_9 rfl (lv_at hl 2 rfl) ?_
      refine mj_ci (pc := 10) (mj_runV hcx hW [.int x2] h (Nat.le_trans (by decide) hd) (lw_V q1701 q1703 qs101 q125 q1704) yd_isAsked (by decide) rfl rfl (Nat.le_of_ble_eq_true rfl) hl.1 dX4_tells_10) hS (fun r4 σ5 h H locs hW hS => ?_)
      refine lv_if_ne (pc := 13) (tgt := 18) hx hb dX4_tells_13 (by decide) (fun c6 => ?_) (fun c6 => ?_)
      · have h := h.2 c6
        refine lv_aload_n (pc := 18) hx hb dX4_tells_18 rfl (lv_at hl 0 rfl) ?_
        refine mj_cv (pc := 19) (mj_runV hcx hW [] h (Nat.le_trans (by decide) hd) (lw_V q1565 q1567 qs80 q125 q1568) yd_joinsNow (by decide) rfl rfl (Nat.le_of_ble_eq_true rfl) hl.1 dX4_tells_19) hS (fun σ8 h H locs hW hS => ?_)
        refine lv_aload_n (pc := 22) hx hb dX4_tells_22 rfl (lv_at hl 0 rfl) ?_
        refine lv_iload_n (pc := 23) hx hb dX4_tells_23 rfl (lv_at hl 1 rfl) ?_
        refine lv_iload_n (pc := 24) hx hb dX4_tells_24 rfl (lv_at hl 2 rfl) ?_
        refine mj_ci (pc := 25) (mj_runV hcx hW [.int x1, .int x2] h (Nat.le_trans (by decide) hd) (lw_V q1769 q1771 qs108 q125 q1772) yd_isTold (by decide) rfl rfl (Nat.le_of_ble_eq_true rfl) hl.1 dX4_tells_25) hS (fun r9 σ10 h H locs hW hS => ?_)
        obtain ⟨g11, h⟩ := h
        exact mj_reti (pc := 28) hcx hW hS g11 h dX4_tells_28
      · have h := h.1 c6
        refine lv_iconst (pc := 16) (v := (0 : Int32)) hx hb dX4_tells_16 (by decide) ?_
        exact mj_reti (pc := 17) hcx hW hS rfl h dX4_tells_17)
/-! would -/
set_option maxHeartbeats 4000000 in
set_option maxRecDepth 100000 in
theorem mb_would {E : mj_E} {σ : mj_S} {x1 : Int32} {x2 : Int32} {x3 : Int32} {x4 : Int32} {x5 : Int32} {P : Int32 → mj_S → Prop} (hE : mj_ok E) (h : ms_whyPut E σ x1 x2 x3 x4 (fun r1 σ2 => ((r1 = (-1 : Int32) → ms_in E σ2 x5 (0 : Int32) (1 : Int32) (fun r4 σ5 => ((r4 = 0 → P (-1 : Int32) σ5) ∧ (¬ r4 = 0 → ms_putAside E σ5 (fun σ8 => ms_putsNow E σ8 x1 x2 x3 x4 (fun r9 σ10 => ms_joinsNow E σ10 (fun σ12 => ms_bringBack E σ12 (fun σ14 => ((x5 = 0 → P (mj_F σ14 26) σ14) ∧ (¬ x5 = 0 → P (mj_F σ14 27) σ14)))))))))) ∧ (¬ r1 = (-1 : Int32) → P (-1 : Int32) σ2)))) : ms_would E σ x1 x2 x3 x4 x5 P :=
  mj_enter (k := 23) (lv := [(0, .ref (mj_o E)), (1, .int x1), (2, .int x2), (3, .int x3), (4, .int x4), (5, .int x5)]) hE rfl (Nat.le_of_ble_eq_true rfl) rfl (by
    intro d hd p e s m args below meth c hcx H locs ls hW hS hl
    have hx := hcx.1
    have hb := hcx.2.1
    have hown := hcx.2.2.2.2.2.1
    have hts := hcx.2.2.2.2.2.2.1
    refine lv_aload_n (pc := 0) hx hb dX4_would_0 rfl (lv_at hl 0 rfl) ?_
    refine lv_iload_n (pc := 1) hx hb dX4_would_1 rfl (lv_at hl 1 rfl) ?_
    refine lv_iload_n (pc := 2) hx hb dX4_would_2 rfl (lv_at hl 2 rfl) ?_
    refine lv_iload_n (pc := 3) hx hb dX4_would_3 rfl (lv_at hl 3 rfl) ?_
    refine lv_iload (pc := 4) hx hb dX4_would_4 (lv_at hl 4 rfl) ?_
    refine mj_ci (pc := 6) (mj_runV hcx hW [.int x1, .int x2, .int x3, .int x4] h (Nat.le_trans (by decide) hd) (lw_V q1517 q1519 qs68 q125 q1520) yd_whyPut (by decide) rfl rfl (Nat.le_of_ble_eq_true rfl) hl.1 dX4_would_6) hS (fun r1 σ2 h H locs hW hS => ?_)
    refine lv_iconst (pc := 9) (v := (-1 : Int32)) hx hb dX4_would_9 (by decide) ?_
    refine lv_icmp_ne (pc := 10) (tgt := 23) hx hb dX4_would_10 (by decide) (fun c3 => ?_) (fun c3 => ?_)
    · have h := h.2 c3
      refine lv_iconst (pc := 23) (v := (-1 : Int32)) hx hb dX4_would_23 (by decide) ?_
      exact mj_reti (pc := 24) hcx hW hS rfl h dX4_would_24
    · have h := h.1 c3
      refine lv_iload (pc := 13) hx hb dX4_would_13 (lv_at hl 5 rfl) ?_
      refine lv_iconst (pc := 15) (v := (0 : Int32)) hx hb dX4_would_15 (by decide) ?_
      refine lv_iconst (pc := 16) (v := (1 : Int32)) hx hb dX4_would_16 (by decide) ?_
      refine mj_ci (pc := 17) (mj_runS hcx hW [.int x5, .int (0 : Int32), .int (1 : Int32)] h (Nat.le_trans (by decide) hd) (lw_S q1401 q1402 q125 q1403) yd_in.2 (by decide) rfl rfl (Nat.le_of_ble_eq_true rfl) hl.1 dX4_would_17) hS (fun r4 σ5 h H locs hW hS => ?_)
      refine lv_if_ne (pc := 20) (tgt := 25) hx hb dX4_would_20 (by decide) (fun c6 => ?_) (fun c6 => ?_)
      · have h := h.2 c6
        refine lv_aload_n (pc := 25) hx hb dX4_would_25 rfl (lv_at hl 0 rfl) ?_
        refine mj_cv (pc := 26) (mj_runV hcx hW [] h (Nat.le_trans (by decide) hd) (lw_V q1820 q1822 qs113 q125 q1823) yd_putAside (by decide) rfl rfl (Nat.le_of_ble_eq_true rfl) hl.1 dX4_would_26) hS (fun σ8 h H locs hW hS => ?_)
        refine lv_aload_n (pc := 29) hx hb dX4_would_29 rfl (lv_at hl 0 rfl) ?_
        refine lv_iload_n (pc := 30) hx hb dX4_would_30 rfl (lv_at hl 1 rfl) ?_
        refine lv_iload_n (pc := 31) hx hb dX4_would_31 rfl (lv_at hl 2 rfl) ?_
        refine lv_iload_n (pc := 32) hx hb dX4_would_32 rfl (lv_at hl 3 rfl) ?_
        refine lv_iload (pc := 33) hx hb dX4_would_33 (lv_at hl 4 rfl) ?_
        refine mj_ci (pc := 35) (mj_runV hcx hW [.int x1, .int x2, .int x3, .int x4] h (Nat.le_trans (by decide) hd) (lw_V q1501 q1503 qs65 q125 q1504) yd_putsNow (by decide) rfl rfl (Nat.le_of_ble_eq_true rfl) hl.1 dX4_would_35) hS (fun r9 σ10 h H locs hW hS => ?_)
        refine lv_pop (pc := 38) hx hb dX4_would_38 rfl ?_
        refine lv_aload_n (pc := 39) hx hb dX4_would_39 rfl (lv_at hl 0 rfl) ?_
        refine mj_cv (pc := 40) (mj_runV hcx hW [] h (Nat.le_trans (by decide) hd) (lw_V q1565 q1567 qs80 q125 q1568) yd_joinsNow (by decide) rfl rfl (Nat.le_of_ble_eq_true rfl) hl.1 dX4_would_40) hS (fun σ12 h H locs hW hS => ?_)
        refine lv_aload_n (pc := 43) hx hb dX4_would_43 rfl (lv_at hl 0 rfl) ?_
        refine mj_cv (pc := 44) (mj_runV hcx hW [] h (Nat.le_trans (by decide) hd) (lw_V q1824 q1826 qs114 q125 q1827) yd_bringBack (by decide) rfl rfl (Nat.le_of_ble_eq_true rfl) hl.1 dX4_would_44) hS (fun σ14 h H locs hW hS => ?_)
        refine lv_iload (pc := 47) hx hb dX4_would_47 (lv_at hl 5 rfl) ?_
        refine lv_if_ne (pc := 49) (tgt := 59) hx hb dX4_would_49 (by decide) (fun c15 => ?_) (fun c15 => ?_)
        · have h := h.2 c15
          refine lv_aload_n (pc := 59) hx hb dX4_would_59 rfl (lv_at hl 0 rfl) ?_
          refine mj_geti (pc := 60) hcx hW 27 (by decide) rfl q1282 dX4_would_60 ?_
          exact mj_reti (pc := 63) hcx hW hS rfl h dX4_would_63
        · have h := h.1 c15
          refine lv_aload_n (pc := 52) hx hb dX4_would_52 rfl (lv_at hl 0 rfl) ?_
          refine mj_geti (pc := 53) hcx hW 26 (by decide) rfl q1281 dX4_would_53 ?_
          refine lv_goto (pc := 56) (tgt := 63) hx hb dX4_would_56 (by decide) ?_
          exact mj_reti (pc := 63) hcx hW hS rfl h dX4_would_63
      · have h := h.1 c6
        refine lv_iconst (pc := 23) (v := (-1 : Int32)) hx hb dX4_would_23 (by decide) ?_
        exact mj_reti (pc := 24) hcx hW hS rfl h dX4_would_24)
/-! back -/
set_option maxHeartbeats 4000000 in
set_option maxRecDepth 100000 in
theorem mb_back_11 {E : mj_E} {σ : mj_S} {x1 : Int32} {P : Int32 → mj_S → Prop} (h : (((331 : Int32) ≤ x1 → ms_rowsNow E (mj_sF σ 29 (0 : Int32)) (fun r2 σ3 => P r2 σ3)) ∧ (¬ (331 : Int32) ≤ x1 → (vp_in x1 331 ∧ (vp_in x1 331 ∧ mg_back_11 E (mj_sA σ 13 x1.toNatClampNeg (mj_A σ 41 x1.toNatClampNeg)) (x1 + (1 : Int32)) P))))) : mg_back_11 E σ x1 P := by
  intro d hd p e s m args below meth c hcx H locs ls hW hS hl
  have hx := hcx.1
  have hb := hcx.2.1
  have hown := hcx.2.2.2.2.2.1
  have hts := hcx.2.2.2.2.2.2.1
  refine lv_iload_n (pc := 11) hx hb dX4_back_11 rfl (lv_at hl 1 rfl) ?_
  refine lv_sipush (pc := 12) (v := (331 : Int32)) hx hb dX4_back_12 (by decide) ?_
  refine lv_icmp_ge (pc := 15) (tgt := 36) hx hb dX4_back_15 (by decide) (fun c1 => ?_) (fun c1 => ?_)
  · have h := h.1 c1
    refine lv_aload_n (pc := 36) hx hb dX4_back_36 rfl (lv_at hl 0 rfl) ?_
    refine lv_iconst (pc := 37) (v := (0 : Int32)) hx hb dX4_back_37 (by decide) ?_
    refine mj_puti (pc := 38) hcx hW hS 29 (by decide) rfl rfl rfl rfl q1284 dX4_back_38 (fun H locs hW hS => ?_)
    refine lv_aload_n (pc := 41) hx hb dX4_back_41 rfl (lv_at hl 0 rfl) ?_
    refine mj_ci (pc := 42) (mj_runV hcx hW [] h (Nat.le_trans (by decide) hd) (lw_V q1561 q1563 qs79 q125 q1564) yd_rowsNow (by decide) rfl rfl (Nat.le_of_ble_eq_true rfl) hl.1 dX4_back_42) hS (fun r2 σ3 h H locs hW hS => ?_)
    exact mj_reti (pc := 45) hcx hW hS rfl h dX4_back_45
  · have h := h.2 c1
    refine lv_aload_n (pc := 18) hx hb dX4_back_18 rfl (lv_at hl 0 rfl) ?_
    refine mj_geta (pc := 19) hcx hW 13 (by decide) rfl q1268 dX4_back_19 ?_
    refine lv_iload_n (pc := 22) hx hb dX4_back_22 rfl (lv_at hl 1 rfl) ?_
    refine lv_aload_n (pc := 23) hx hb dX4_back_23 rfl (lv_at hl 0 rfl) ?_
    refine mj_geta (pc := 24) hcx hW 41 (by decide) rfl q1296 dX4_back_24 ?_
    refine lv_iload_n (pc := 27) hx hb dX4_back_27 rfl (lv_at hl 1 rfl) ?_
    obtain ⟨g4, h⟩ := h
    refine mj_ald (pc := 28) hcx hW 41 rfl rfl g4 dX4_back_28 ?_
    obtain ⟨g5, h⟩ := h
    refine mj_ast (pc := 29) hcx hW hS 13 rfl rfl g5 dX4_back_29 (fun H locs hW hS => ?_)
    refine lv_iinc (pc := 30) (v := (x1 + (1 : Int32))) (lv' := [(1, .int (x1 + (1 : Int32))), (0, .ref (mj_o E))]) hx hb dX4_back_30 hl (k := 1) rfl rfl (by decide) rfl (fun ls hl => ?_)
    refine lv_goto (pc := 33) (tgt := 11) hx hb dX4_back_33 (by decide) ?_
    exact h d hd p e s m args below meth c hcx H locs _ hW hS (lv_sub hl [1, 0] rfl)
set_option maxHeartbeats 4000000 in
set_option maxRecDepth 100000 in
theorem mb_back {E : mj_E} {σ : mj_S} {P : Int32 → mj_S → Prop} (hE : mj_ok E) (h : (((mj_F σ 42) = 0 → P (-1 : Int32) σ) ∧ (¬ (mj_F σ 42) = 0 → mg_back_11 E σ (0 : Int32) P))) : ms_back E σ P :=
  mj_enter (k := 24) (lv := [(0, .ref (mj_o E))]) hE rfl (Nat.le_of_ble_eq_true rfl) rfl (by
    intro d hd p e s m args below meth c hcx H locs ls hW hS hl
    have hx := hcx.1
    have hb := hcx.2.1
    have hown := hcx.2.2.2.2.2.1
    have hts := hcx.2.2.2.2.2.2.1
    refine lv_aload_n (pc := 0) hx hb dX4_back_0 rfl (lv_at hl 0 rfl) ?_
    refine mj_geti (pc := 1) hcx hW 42 (by decide) rfl q1297 dX4_back_1 ?_
    refine lv_if_ne (pc := 4) (tgt := 9) hx hb dX4_back_4 (by decide) (fun c1 => ?_) (fun c1 => ?_)
    · have h := h.2 c1
      refine lv_iconst (pc := 9) (v := (0 : Int32)) hx hb dX4_back_9 (by decide) ?_
      refine lv_istore_n (pc := 10) (lv' := [(1, .int (0 : Int32)), (0, .ref (mj_o E))]) hx hb dX4_back_10 rfl hl (by decide) rfl (fun ls hl => ?_)
      exact h d hd p e s m args below meth c hcx H locs _ hW hS (lv_sub hl [1, 0] rfl)
    · have h := h.1 c1
      refine lv_iconst (pc := 7) (v := (-1 : Int32)) hx hb dX4_back_7 (by decide) ?_
      exact mj_reti (pc := 8) hcx hW hS rfl h dX4_back_8)
/-! distinct -/
set_option maxHeartbeats 4000000 in
set_option maxRecDepth 100000 in
theorem mb_distinct {E : mj_E} {σ : mj_S} {x1 : Int32} {x2 : Int32} {P : Int32 → mj_S → Prop} (hE : mj_ok E) (h : ms_isAsked E σ x1 (fun r1 σ2 => ((r1 = 0 → P (-1 : Int32) σ2) ∧ (¬ r1 = 0 → ms_in E σ2 x2 (0 : Int32) (3 : Int32) (fun r4 σ5 => ((r4 = 0 → P (-1 : Int32) σ5) ∧ (¬ r4 = 0 → ms_counts E σ5 (fun σ8 => ((x2 = 0 → (vp_in x1 4 ∧ P (mj_A σ8 36 x1.toNatClampNeg) σ8)) ∧ (¬ x2 = 0 → ms_extremeOf E σ8 x1 x2 (fun r10 σ11 => P r10 σ11))))))))))) : ms_distinct E σ x1 x2 P :=
  mj_enter (k := 24) (lv := [(0, .ref (mj_o E)), (1, .int x1), (2, .int x2)]) hE rfl (Nat.le_of_ble_eq_true rfl) rfl (by
    intro d hd p e s m args below meth c hcx H locs ls hW hS hl
    have hx := hcx.1
    have hb := hcx.2.1
    have hown := hcx.2.2.2.2.2.1
    have hts := hcx.2.2.2.2.2.2.1
    refine lv_aload_n (pc := 0) hx hb dX4_distinct_0 rfl (lv_at hl 0 rfl) ?_
    refine lv_iload_n (pc := 1) hx hb dX4_distinct_1 rfl (lv_at hl 1 rfl) ?_
    refine mj_ci (pc := 2) (mj_runV hcx hW [.int x1] h (Nat.le_trans (by decide) hd) (lw_V q1701 q1703 qs101 q125 q1704) yd_isAsked (by decide) rfl rfl (Nat.le_of_ble_eq_true rfl) hl.1 dX4_distinct_2) hS (fun r1 σ2 h H locs hW hS => ?_)
    refine lv_if_eq (pc := 5) (tgt := 17) hx hb dX4_distinct_5 (by decide) (fun c3 => ?_) (fun c3 => ?_)
    · have h := h.1 c3
      refine lv_iconst (pc := 17) (v := (-1 : Int32)) hx hb dX4_distinct_17 (by decide) ?_
      exact mj_reti (pc := 18) hcx hW hS rfl h dX4_distinct_18
    · have h := h.2 c3
      refine lv_iload_n (pc := 8) hx hb dX4_distinct_8 rfl (lv_at hl 2 rfl) ?_
      refine lv_iconst (pc := 9) (v := (0 : Int32)) hx hb dX4_distinct_9 (by decide) ?_
      refine lv_iconst (pc := 10) (v := (3 : Int32)) hx hb dX4_distinct_10 (by decide) ?_
      refine mj_ci (pc := 11) (mj_runS hcx hW [.int x2, .int (0 : Int32), .int (3 : Int32)] h (Nat.le_trans (by decide) hd) (lw_S q1401 q1402 q125 q1403) yd_in.2 (by decide) rfl rfl (Nat.le_of_ble_eq_true rfl) hl.1 dX4_distinct_11) hS (fun r4 σ5 h H locs hW hS => ?_)
      refine lv_if_ne (pc := 14) (tgt := 19) hx hb dX4_distinct_14 (by decide) (fun c6 => ?_) (fun c6 => ?_)
      · have h := h.2 c6
        refine lv_aload_n (pc := 19) hx hb dX4_distinct_19 rfl (lv_at hl 0 rfl) ?_
        refine mj_cv (pc := 20) (mj_runV hcx hW [] h (Nat.le_trans (by decide) hd) (lw_V q1749 q1751 qs106 q125 q1752) yd_counts (by decide) rfl rfl (Nat.le_of_ble_eq_true rfl) hl.1 dX4_distinct_20) hS (fun σ8 h H locs hW hS => ?_)
        refine lv_iload_n (pc := 23) hx hb dX4_distinct_23 rfl (lv_at hl 2 rfl) ?_
        refine lv_if_ne (pc := 24) (tgt := 36) hx hb dX4_distinct_24 (by decide) (fun c9 => ?_) (fun c9 => ?_)
        · have h := h.2 c9
          refine lv_aload_n (pc := 36) hx hb dX4_distinct_36 rfl (lv_at hl 0 rfl) ?_
          refine lv_iload_n (pc := 37) hx hb dX4_distinct_37 rfl (lv_at hl 1 rfl) ?_
          refine lv_iload_n (pc := 38) hx hb dX4_distinct_38 rfl (lv_at hl 2 rfl) ?_
          refine mj_ci (pc := 39) (mj_runV hcx hW [.int x1, .int x2] h (Nat.le_trans (by decide) hd) (lw_V q1761 q1763 qs107 q125 q1764) yd_extremeOf (by decide) rfl rfl (Nat.le_of_ble_eq_true rfl) hl.1 dX4_distinct_39) hS (fun r10 σ11 h H locs hW hS => ?_)
          exact mj_reti (pc := 42) hcx hW hS rfl h dX4_distinct_42
        · have h := h.1 c9
          refine lv_aload_n (pc := 27) hx hb dX4_distinct_27 rfl (lv_at hl 0 rfl) ?_
          refine mj_geta (pc := 28) hcx hW 36 (by decide) rfl q1291 dX4_distinct_28 ?_
          refine lv_iload_n (pc := 31) hx hb dX4_distinct_31 rfl (lv_at hl 1 rfl) ?_
          obtain ⟨g12, h⟩ := h
          refine mj_ald (pc := 32) hcx hW 36 rfl rfl g12 dX4_distinct_32 ?_
          refine lv_goto (pc := 33) (tgt := 42) hx hb dX4_distinct_33 (by decide) ?_
          exact mj_reti (pc := 42) hcx hW hS rfl h dX4_distinct_42
      · have h := h.1 c6
        refine lv_iconst (pc := 17) (v := (-1 : Int32)) hx hb dX4_distinct_17 (by decide) ?_
        exact mj_reti (pc := 18) hcx hW hS rfl h dX4_distinct_18)
/-! hasMean -/
set_option maxHeartbeats 4000000 in
set_option maxRecDepth 100000 in
theorem mb_hasMean {E : mj_E} {σ : mj_S} {x1 : Int32} {P : Int32 → mj_S → Prop} (hE : mj_ok E) (h : ms_isAsked E σ x1 (fun r1 σ2 => ((r1 = 0 → P (0 : Int32) σ2) ∧ (¬ r1 = 0 → ms_rowsNow E σ2 (fun r4 σ5 => ((r4 ≤ 0 → P (0 : Int32) σ5) ∧ (¬ r4 ≤ 0 → P (1 : Int32) σ5))))))) : ms_hasMean E σ x1 P :=
  mj_enter (k := 24) (lv := [(0, .ref (mj_o E)), (1, .int x1)]) hE rfl (Nat.le_of_ble_eq_true rfl) rfl (by
    intro d hd p e s m args below meth c hcx H locs ls hW hS hl
    have hx := hcx.1
    have hb := hcx.2.1
    have hown := hcx.2.2.2.2.2.1
    have hts := hcx.2.2.2.2.2.2.1
    refine lv_aload_n (pc := 0) hx hb dX4_hasMean_0 rfl (lv_at hl 0 rfl) ?_
    refine lv_iload_n (pc := 1) hx hb dX4_hasMean_1 rfl (lv_at hl 1 rfl) ?_
    refine mj_ci (pc := 2) (mj_runV hcx hW [.int x1] h (Nat.le_trans (by decide) hd) (lw_V q1701 q1703 qs101 q125 q1704) yd_isAsked (by decide) rfl rfl (Nat.le_of_ble_eq_true rfl) hl.1 dX4_hasMean_2) hS (fun r1 σ2 h H locs hW hS => ?_)
    refine lv_if_eq (pc := 5) (tgt := 19) hx hb dX4_hasMean_5 (by decide) (fun c3 => ?_) (fun c3 => ?_)
    · have h := h.1 c3
      refine lv_iconst (pc := 19) (v := (0 : Int32)) hx hb dX4_hasMean_19 (by decide) ?_
      exact mj_reti (pc := 20) hcx hW hS rfl h dX4_hasMean_20
    · have h := h.2 c3
      refine lv_aload_n (pc := 8) hx hb dX4_hasMean_8 rfl (lv_at hl 0 rfl) ?_
      refine mj_ci (pc := 9) (mj_runV hcx hW [] h (Nat.le_trans (by decide) hd) (lw_V q1561 q1563 qs79 q125 q1564) yd_rowsNow (by decide) rfl rfl (Nat.le_of_ble_eq_true rfl) hl.1 dX4_hasMean_9) hS (fun r4 σ5 h H locs hW hS => ?_)
      refine lv_if_le (pc := 12) (tgt := 19) hx hb dX4_hasMean_12 (by decide) (fun c6 => ?_) (fun c6 => ?_)
      · have h := h.1 c6
        refine lv_iconst (pc := 19) (v := (0 : Int32)) hx hb dX4_hasMean_19 (by decide) ?_
        exact mj_reti (pc := 20) hcx hW hS rfl h dX4_hasMean_20
      · have h := h.2 c6
        refine lv_iconst (pc := 15) (v := (1 : Int32)) hx hb dX4_hasMean_15 (by decide) ?_
        refine lv_goto (pc := 16) (tgt := 20) hx hb dX4_hasMean_16 (by decide) ?_
        exact mj_reti (pc := 20) hcx hW hS rfl h dX4_hasMean_20)
/-! image -/
set_option maxHeartbeats 4000000 in
set_option maxRecDepth 100000 in
theorem mb_image_11 {E : mj_E} {σ : mj_S} {x1 : Int32} {P : Int32 → mj_S → Prop} (h : (((331 : Int32) ≤ x1 → ms_rowsNow E (mj_sF σ 42 (1 : Int32)) (fun r2 σ3 => P r2 σ3)) ∧ (¬ (331 : Int32) ≤ x1 → (vp_in x1 331 ∧ (vp_in x1 331 ∧ mg_image_11 E (mj_sA σ 41 x1.toNatClampNeg (mj_A σ 13 x1.toNatClampNeg)) (x1 + (1 : Int32)) P))))) : mg_image_11 E σ x1 P := by
  intro d hd p e s m args below meth c hcx H locs ls hW hS hl
  have hx := hcx.1
  have hb := hcx.2.1
  have hown := hcx.2.2.2.2.2.1
  have hts := hcx.2.2.2.2.2.2.1
  refine lv_iload_n (pc := 11) hx hb dX4_image_11 rfl (lv_at hl 1 rfl) ?_
  refine lv_sipush (pc := 12) (v := (331 : Int32)) hx hb dX4_image_12 (by decide) ?_
  refine lv_icmp_ge (pc := 15) (tgt := 36) hx hb dX4_image_15 (by decide) (fun c1 => ?_) (fun c1 => ?_)
  · have h := h.1 c1
    refine lv_aload_n (pc := 36) hx hb dX4_image_36 rfl (lv_at hl 0 rfl) ?_
    refine lv_iconst (pc := 37) (v := (1 : Int32)) hx hb dX4_image_37 (by decide) ?_
    refine mj_puti (pc := 38) hcx hW hS 42 (by decide) rfl rfl rfl rfl q1297 dX4_image_38 (fun H locs hW hS => ?_)
    refine lv_aload_n (pc := 41) hx hb dX4_image_41 rfl (lv_at hl 0 rfl) ?_
    refine mj_ci (pc := 42) (mj_runV hcx hW [] h (Nat.le_trans (by decide) hd) (lw_V q1561 q1563 qs79 q125 q1564) yd_rowsNow (by decide) rfl rfl (Nat.le_of_ble_eq_true rfl) hl.1 dX4_image_42) hS (fun r2 σ3 h H locs hW hS => ?_)
    exact mj_reti (pc := 45) hcx hW hS rfl h dX4_image_45
  · have h := h.2 c1
    refine lv_aload_n (pc := 18) hx hb dX4_image_18 rfl (lv_at hl 0 rfl) ?_
    refine mj_geta (pc := 19) hcx hW 41 (by decide) rfl q1296 dX4_image_19 ?_
    refine lv_iload_n (pc := 22) hx hb dX4_image_22 rfl (lv_at hl 1 rfl) ?_
    refine lv_aload_n (pc := 23) hx hb dX4_image_23 rfl (lv_at hl 0 rfl) ?_
    refine mj_geta (pc := 24) hcx hW 13 (by decide) rfl q1268 dX4_image_24 ?_
    refine lv_iload_n (pc := 27) hx hb dX4_image_27 rfl (lv_at hl 1 rfl) ?_
    obtain ⟨g4, h⟩ := h
    refine mj_ald (pc := 28) hcx hW 13 rfl rfl g4 dX4_image_28 ?_
    obtain ⟨g5, h⟩ := h
    refine mj_ast (pc := 29) hcx hW hS 41 rfl rfl g5 dX4_image_29 (fun H locs hW hS => ?_)
    refine lv_iinc (pc := 30) (v := (x1 + (1 : Int32))) (lv' := [(1, .int (x1 + (1 : Int32))), (0, .ref (mj_o E))]) hx hb dX4_image_30 hl (k := 1) rfl rfl (by decide) rfl (fun ls hl => ?_)
    refine lv_goto (pc := 33) (tgt := 11) hx hb dX4_image_33 (by decide) ?_
    exact h d hd p e s m args below meth c hcx H locs _ hW hS (lv_sub hl [1, 0] rfl)
set_option maxHeartbeats 4000000 in
set_option maxRecDepth 100000 in
theorem mb_image {E : mj_E} {σ : mj_S} {P : Int32 → mj_S → Prop} (hE : mj_ok E) (h : ms_areTables E σ (fun r1 σ2 => ((r1 = 0 → P (-1 : Int32) σ2) ∧ (¬ r1 = 0 → mg_image_11 E σ2 (0 : Int32) P)))) : ms_image E σ P :=
  mj_enter (k := 24) (lv := [(0, .ref (mj_o E))]) hE rfl (Nat.le_of_ble_eq_true rfl) rfl (by
    intro d hd p e s m args below meth c hcx H locs ls hW hS hl
    have hx := hcx.1
    have hb := hcx.2.1
    have hown := hcx.2.2.2.2.2.1
    have hts := hcx.2.2.2.2.2.2.1
    refine lv_aload_n (pc := 0) hx hb dX4_image_0 rfl (lv_at hl 0 rfl) ?_
    refine mj_ci (pc := 1) (mj_runV hcx hW [] h (Nat.le_trans (by decide) hd) (lw_V q1533 q1535 qs72 q125 q1536) yd_areTables (by decide) rfl rfl (Nat.le_of_ble_eq_true rfl) hl.1 dX4_image_1) hS (fun r1 σ2 h H locs hW hS => ?_)
    refine lv_if_ne (pc := 4) (tgt := 9) hx hb dX4_image_4 (by decide) (fun c3 => ?_) (fun c3 => ?_)
    · have h := h.2 c3
      refine lv_iconst (pc := 9) (v := (0 : Int32)) hx hb dX4_image_9 (by decide) ?_
      refine lv_istore_n (pc := 10) (lv' := [(1, .int (0 : Int32)), (0, .ref (mj_o E))]) hx hb dX4_image_10 rfl hl (by decide) rfl (fun ls hl => ?_)
      exact h d hd p e s m args below meth c hcx H locs _ hW hS (lv_sub hl [1, 0] rfl)
    · have h := h.1 c3
      refine lv_iconst (pc := 7) (v := (-1 : Int32)) hx hb dX4_image_7 (by decide) ?_
      exact mj_reti (pc := 8) hcx hW hS rfl h dX4_image_8)
/-! note -/
set_option maxHeartbeats 4000000 in
set_option maxRecDepth 100000 in
theorem mb_note_62 {E : mj_E} {σ : mj_S} {x1 : Int32} {x2 : Int32} {P : mj_S → Prop} (h : (vp_in (150 : Int32) 331 ∧ (vp_in ((151 : Int32) + ((3 : Int32) * (mj_A σ 13 (150 : Int32).toNatClampNeg))) 331 ∧ (vp_in (((151 : Int32) + ((3 : Int32) * (mj_A σ 13 (150 : Int32).toNatClampNeg))) + (1 : Int32)) 331 ∧ ms_rowsNow E (mj_sA (mj_sA σ 13 ((151 : Int32) + ((3 : Int32) * (mj_A σ 13 (150 : Int32).toNatClampNeg))).toNatClampNeg x1) 13 (((151 : Int32) + ((3 : Int32) * (mj_A σ 13 (150 : Int32).toNatClampNeg))) + (1 : Int32)).toNatClampNeg x2) (fun r4 σ5 => (vp_in (((151 : Int32) + ((3 : Int32) * (mj_A σ 13 (150 : Int32).toNatClampNeg))) + (2 : Int32)) 331 ∧ (vp_in (150 : Int32) 331 ∧ (vp_in (150 : Int32) 331 ∧ P (mj_sA (mj_sA σ5 13 (((151 : Int32) + ((3 : Int32) * (mj_A σ 13 (150 : Int32).toNatClampNeg))) + (2 : Int32)).toNatClampNeg r4) 13 (150 : Int32).toNatClampNeg ((mj_A (mj_sA σ5 13 (((151 : Int32) + ((3 : Int32) * (mj_A σ 13 (150 : Int32).toNatClampNeg))) + (2 : Int32)).toNatClampNeg r4) 13 (150 : Int32).toNatClampNeg) + (1 : Int32))))))))))) : mg_note_62 E σ x1 x2 P := by
  intro d hd p e s m args below meth c hcx H locs ls hW hS hl
  have hx := hcx.1
  have hb := hcx.2.1
  have hown := hcx.2.2.2.2.2.1
  have hts := hcx.2.2.2.2.2.2.1
  refine lv_sipush (pc := 62) (v := (151 : Int32)) hx hb dX4_note_62 (by decide) ?_
  refine lv_iconst (pc := 65) (v := (3 : Int32)) hx hb dX4_note_65 (by decide) ?_
  refine lv_aload_n (pc := 66) hx hb dX4_note_66 rfl (lv_at hl 0 rfl) ?_
  refine mj_geta (pc := 67) hcx hW 13 (by decide) rfl q1268 dX4_note_67 ?_
  refine lv_sipush (pc := 70) (v := (150 : Int32)) hx hb dX4_note_70 (by decide) ?_
  obtain ⟨g1, h⟩ := h
  refine mj_ald (pc := 73) hcx hW 13 rfl rfl g1 dX4_note_73 ?_
  refine lv_imul (pc := 74) hx hb dX4_note_74 ?_
  refine lv_iadd (pc := 75) hx hb dX4_note_75 ?_
  refine lv_istore_n (pc := 76) (lv' := [(3, .int ((151 : Int32) + ((3 : Int32) * (mj_A σ 13 (150 : Int32).toNatClampNeg)))), (0, .ref (mj_o E)), (1, .int x1), (2, .int x2)]) hx hb dX4_note_76 rfl hl (by decide) rfl (fun ls hl => ?_)
  refine lv_aload_n (pc := 77) hx hb dX4_note_77 rfl (lv_at hl 1 rfl) ?_
  refine mj_geta (pc := 78) hcx hW 13 (by decide) rfl q1268 dX4_note_78 ?_
  refine lv_iload_n (pc := 81) hx hb dX4_note_81 rfl (lv_at hl 0 rfl) ?_
  refine lv_iload_n (pc := 82) hx hb dX4_note_82 rfl (lv_at hl 2 rfl) ?_
  obtain ⟨g2, h⟩ := h
  refine mj_ast (pc := 83) hcx hW hS 13 rfl rfl g2 dX4_note_83 (fun H locs hW hS => ?_)
  refine lv_aload_n (pc := 84) hx hb dX4_note_84 rfl (lv_at hl 1 rfl) ?_
  refine mj_geta (pc := 85) hcx hW 13 (by decide) rfl q1268 dX4_note_85 ?_
  refine lv_iload_n (pc := 88) hx hb dX4_note_88 rfl (lv_at hl 0 rfl) ?_
  refine lv_iconst (pc := 89) (v := (1 : Int32)) hx hb dX4_note_89 (by decide) ?_
  refine lv_iadd (pc := 90) hx hb dX4_note_90 ?_
  refine lv_iload_n (pc := 91) hx hb dX4_note_91 rfl (lv_at hl 3 rfl) ?_
  obtain ⟨g3, h⟩ := h
  refine mj_ast (pc := 92) hcx hW hS 13 rfl rfl g3 dX4_note_92 (fun H locs hW hS => ?_)
  refine lv_aload_n (pc := 93) hx hb dX4_note_93 rfl (lv_at hl 1 rfl) ?_
  refine mj_geta (pc := 94) hcx hW 13 (by decide) rfl q1268 dX4_note_94 ?_
  refine lv_iload_n (pc := 97) hx hb dX4_note_97 rfl (lv_at hl 0 rfl) ?_
  refine lv_iconst (pc := 98) (v := (2 : Int32)) hx hb dX4_note_98 (by decide) ?_
  refine lv_iadd (pc := 99) hx hb dX4_note_99 ?_
  refine lv_aload_n (pc := 100) hx hb dX4_note_100 rfl (lv_at hl 1 rfl) ?_
  refine mj_ci (pc := 101) (mj_runV hcx hW [] h (Nat.le_trans (by decide) hd) (lw_V q1561 q1563 qs79 q125 q1564) yd_rowsNow (by decide) rfl rfl (Nat.le_of_ble_eq_true rfl) hl.1 dX4_note_101) hS (fun r4 σ5 h H locs hW hS => ?_)
  obtain ⟨g6, h⟩ := h
  refine mj_ast (pc := 104) hcx hW hS 13 rfl rfl g6 dX4_note_104 (fun H locs hW hS => ?_)
  refine lv_aload_n (pc := 105) hx hb dX4_note_105 rfl (lv_at hl 1 rfl) ?_
  refine mj_geta (pc := 106) hcx hW 13 (by decide) rfl q1268 dX4_note_106 ?_
  refine lv_sipush (pc := 109) (v := (150 : Int32)) hx hb dX4_note_109 (by decide) ?_
  refine lv_dup2_11 (pc := 112) hx hb dX4_note_112 rfl rfl ?_
  obtain ⟨g7, h⟩ := h
  refine mj_ald (pc := 113) hcx hW 13 rfl rfl g7 dX4_note_113 ?_
  refine lv_iconst (pc := 114) (v := (1 : Int32)) hx hb dX4_note_114 (by decide) ?_
  refine lv_iadd (pc := 115) hx hb dX4_note_115 ?_
  obtain ⟨g8, h⟩ := h
  refine mj_ast (pc := 116) hcx hW hS 13 rfl rfl g8 dX4_note_116 (fun H locs hW hS => ?_)
  exact mj_retv (pc := 117) hcx hW hS h dX4_note_117
set_option maxHeartbeats 4000000 in
set_option maxRecDepth 100000 in
theorem mb_note_15 {E : mj_E} {σ : mj_S} {x1 : Int32} {x2 : Int32} {x3 : Int32} {P : mj_S → Prop} (h : (((180 : Int32) ≤ x3 → (vp_in (150 : Int32) 331 ∧ (vp_in (150 : Int32) 331 ∧ mg_note_62 E (mj_sA σ 13 (150 : Int32).toNatClampNeg ((mj_A σ 13 (150 : Int32).toNatClampNeg) - (1 : Int32))) x1 x2 P))) ∧ (¬ (180 : Int32) ≤ x3 → (vp_in ((151 : Int32) + x3) 331 ∧ (vp_in (((151 : Int32) + x3) - (3 : Int32)) 331 ∧ mg_note_15 E (mj_sA σ 13 (((151 : Int32) + x3) - (3 : Int32)).toNatClampNeg (mj_A σ 13 ((151 : Int32) + x3).toNatClampNeg)) x1 x2 (x3 + (1 : Int32)) P))))) : mg_note_15 E σ x1 x2 x3 P := by
  intro d hd p e s m args below meth c hcx H locs ls hW hS hl
  have hx := hcx.1
  have hb := hcx.2.1
  have hown := hcx.2.2.2.2.2.1
  have hts := hcx.2.2.2.2.2.2.1
  refine lv_iload_n (pc := 15) hx hb dX4_note_15 rfl (lv_at hl 3 rfl) ?_
  refine lv_sipush (pc := 16) (v := (180 : Int32)) hx hb dX4_note_16 (by decide) ?_
  refine lv_icmp_ge (pc := 19) (tgt := 50) hx hb dX4_note_19 (by decide) (fun c1 => ?_) (fun c1 => ?_)
  · have h := h.1 c1
    refine lv_aload_n (pc := 50) hx hb dX4_note_50 rfl (lv_at hl 0 rfl) ?_
    refine mj_geta (pc := 51) hcx hW 13 (by decide) rfl q1268 dX4_note_51 ?_
    refine lv_sipush (pc := 54) (v := (150 : Int32)) hx hb dX4_note_54 (by decide) ?_
    refine lv_dup2_11 (pc := 57) hx hb dX4_note_57 rfl rfl ?_
    obtain ⟨g2, h⟩ := h
    refine mj_ald (pc := 58) hcx hW 13 rfl rfl g2 dX4_note_58 ?_
    refine lv_iconst (pc := 59) (v := (1 : Int32)) hx hb dX4_note_59 (by decide) ?_
    refine lv_isub (pc := 60) hx hb dX4_note_60 ?_
    obtain ⟨g3, h⟩ := h
    refine mj_ast (pc := 61) hcx hW hS 13 rfl rfl g3 dX4_note_61 (fun H locs hW hS => ?_)
    exact h d hd p e s m args below meth c hcx H locs _ hW hS (lv_sub hl [0, 1, 2] rfl)
  · have h := h.2 c1
    refine lv_aload_n (pc := 22) hx hb dX4_note_22 rfl (lv_at hl 0 rfl) ?_
    refine mj_geta (pc := 23) hcx hW 13 (by decide) rfl q1268 dX4_note_23 ?_
    refine lv_sipush (pc := 26) (v := (151 : Int32)) hx hb dX4_note_26 (by decide) ?_
    refine lv_iload_n (pc := 29) hx hb dX4_note_29 rfl (lv_at hl 3 rfl) ?_
    refine lv_iadd (pc := 30) hx hb dX4_note_30 ?_
    refine lv_iconst (pc := 31) (v := (3 : Int32)) hx hb dX4_note_31 (by decide) ?_
    refine lv_isub (pc := 32) hx hb dX4_note_32 ?_
    refine lv_aload_n (pc := 33) hx hb dX4_note_33 rfl (lv_at hl 0 rfl) ?_
    refine mj_geta (pc := 34) hcx hW 13 (by decide) rfl q1268 dX4_note_34 ?_
    refine lv_sipush (pc := 37) (v := (151 : Int32)) hx hb dX4_note_37 (by decide) ?_
    refine lv_iload_n (pc := 40) hx hb dX4_note_40 rfl (lv_at hl 3 rfl) ?_
    refine lv_iadd (pc := 41) hx hb dX4_note_41 ?_
    obtain ⟨g4, h⟩ := h
    refine mj_ald (pc := 42) hcx hW 13 rfl rfl g4 dX4_note_42 ?_
    obtain ⟨g5, h⟩ := h
    refine mj_ast (pc := 43) hcx hW hS 13 rfl rfl g5 dX4_note_43 (fun H locs hW hS => ?_)
    refine lv_iinc (pc := 44) (v := (x3 + (1 : Int32))) (lv' := [(3, .int (x3 + (1 : Int32))), (0, .ref (mj_o E)), (1, .int x1), (2, .int x2)]) hx hb dX4_note_44 hl (k := 3) rfl rfl (by decide) rfl (fun ls hl => ?_)
    refine lv_goto (pc := 47) (tgt := 15) hx hb dX4_note_47 (by decide) ?_
    exact h d hd p e s m args below meth c hcx H locs _ hW hS (lv_sub hl [1, 2, 3, 0] rfl)
set_option maxHeartbeats 4000000 in
set_option maxRecDepth 100000 in
theorem mb_note {E : mj_E} {σ : mj_S} {x1 : Int32} {x2 : Int32} {P : mj_S → Prop} (hE : mj_ok E) (h : (vp_in (150 : Int32) 331 ∧ (((mj_A σ 13 (150 : Int32).toNatClampNeg) = (60 : Int32) → mg_note_15 E σ x1 x2 (3 : Int32) P) ∧ (¬ (mj_A σ 13 (150 : Int32).toNatClampNeg) = (60 : Int32) → mg_note_62 E σ x1 x2 P)))) : ms_note E σ x1 x2 P :=
  mj_enter (k := 24) (lv := [(0, .ref (mj_o E)), (1, .int x1), (2, .int x2)]) hE rfl (Nat.le_of_ble_eq_true rfl) rfl (by
    intro d hd p e s m args below meth c hcx H locs ls hW hS hl
    have hx := hcx.1
    have hb := hcx.2.1
    have hown := hcx.2.2.2.2.2.1
    have hts := hcx.2.2.2.2.2.2.1
    refine lv_aload_n (pc := 0) hx hb dX4_note_0 rfl (lv_at hl 0 rfl) ?_
    refine mj_geta (pc := 1) hcx hW 13 (by decide) rfl q1268 dX4_note_1 ?_
    refine lv_sipush (pc := 4) (v := (150 : Int32)) hx hb dX4_note_4 (by decide) ?_
    obtain ⟨g1, h⟩ := h
    refine mj_ald (pc := 7) hcx hW 13 rfl rfl g1 dX4_note_7 ?_
    refine lv_bipush (pc := 8) (v := (60 : Int32)) hx hb dX4_note_8 (by decide) ?_
    refine lv_icmp_ne (pc := 10) (tgt := 62) hx hb dX4_note_10 (by decide) (fun c2 => ?_) (fun c2 => ?_)
    · have h := h.2 c2
      exact h d hd p e s m args below meth c hcx H locs _ hW hS (lv_sub hl [0, 1, 2] rfl)
    · have h := h.1 c2
      refine lv_iconst (pc := 13) (v := (3 : Int32)) hx hb dX4_note_13 (by decide) ?_
      refine lv_istore_n (pc := 14) (lv' := [(3, .int (3 : Int32)), (0, .ref (mj_o E)), (1, .int x1), (2, .int x2)]) hx hb dX4_note_14 rfl hl (by decide) rfl (fun ls hl => ?_)
      exact h d hd p e s m args below meth c hcx H locs _ hW hS (lv_sub hl [1, 2, 3, 0] rfl))
/-! projected -/
set_option maxHeartbeats 4000000 in
set_option maxRecDepth 100000 in
theorem mb_projected_36 {E : mj_E} {σ : mj_S} {x1 : Int32} {x2 : Int32} {P : Int32 → mj_S → Prop} (h : (((20736 : Int32) ≤ x2 → mg_projected_60 E σ x1 (0 : Int32) (0 : Int32) P) ∧ (¬ (20736 : Int32) ≤ x2 → (vp_in x2 20736 ∧ mg_projected_36 E (mj_sA σ 37 x2.toNatClampNeg (0 : Int32)) x1 (x2 + (1 : Int32)) P)))) : mg_projected_36 E σ x1 x2 P := by
  intro d hd p e s m args below meth c hcx H locs ls hW hS hl
  have hx := hcx.1
  have hb := hcx.2.1
  have hown := hcx.2.2.2.2.2.1
  have hts := hcx.2.2.2.2.2.2.1
  refine lv_iload_n (pc := 36) hx hb dX4_projected_36 rfl (lv_at hl 2 rfl) ?_
  refine lv_sipush (pc := 37) (v := (20736 : Int32)) hx hb dX4_projected_37 (by decide) ?_
  refine lv_icmp_ge (pc := 40) (tgt := 56) hx hb dX4_projected_40 (by decide) (fun c1 => ?_) (fun c1 => ?_)
  · have h := h.1 c1
    refine lv_iconst (pc := 56) (v := (0 : Int32)) hx hb dX4_projected_56 (by decide) ?_
    refine lv_istore_n (pc := 57) (lv' := [(2, .int (0 : Int32)), (0, .ref (mj_o E)), (1, .int x1)]) hx hb dX4_projected_57 rfl hl (by decide) rfl (fun ls hl => ?_)
    refine lv_iconst (pc := 58) (v := (0 : Int32)) hx hb dX4_projected_58 (by decide) ?_
    refine lv_istore_n (pc := 59) (lv' := [(3, .int (0 : Int32)), (2, .int (0 : Int32)), (0, .ref (mj_o E)), (1, .int x1)]) hx hb dX4_projected_59 rfl hl (by decide) rfl (fun ls hl => ?_)
    exact h d hd p e s m args below meth c hcx H locs _ hW hS (lv_sub hl [2, 3, 1, 0] rfl)
  · have h := h.2 c1
    refine lv_aload_n (pc := 43) hx hb dX4_projected_43 rfl (lv_at hl 0 rfl) ?_
    refine mj_geta (pc := 44) hcx hW 37 (by decide) rfl q1292 dX4_projected_44 ?_
    refine lv_iload_n (pc := 47) hx hb dX4_projected_47 rfl (lv_at hl 2 rfl) ?_
    refine lv_iconst (pc := 48) (v := (0 : Int32)) hx hb dX4_projected_48 (by decide) ?_
    obtain ⟨g2, h⟩ := h
    refine mj_zst (pc := 49) hcx hW hS g2 rfl dX4_projected_49 (fun H locs hW hS => ?_)
    refine lv_iinc (pc := 50) (v := (x2 + (1 : Int32))) (lv' := [(2, .int (x2 + (1 : Int32))), (0, .ref (mj_o E)), (1, .int x1)]) hx hb dX4_projected_50 hl (k := 2) rfl rfl (by decide) rfl (fun ls hl => ?_)
    refine lv_goto (pc := 53) (tgt := 36) hx hb dX4_projected_53 (by decide) ?_
    exact h d hd p e s m args below meth c hcx H locs _ hW hS (lv_sub hl [1, 2, 0] rfl)
set_option maxHeartbeats 4000000 in
set_option maxRecDepth 100000 in
theorem mb_projected_60 {E : mj_E} {σ : mj_S} {x1 : Int32} {x2 : Int32} {x3 : Int32} {P : Int32 → mj_S → Prop} (h : (((mj_F σ 26) ≤ x3 → P x2 σ) ∧ (¬ (mj_F σ 26) ≤ x3 → mg_projected_74 E σ x1 x2 x3 (0 : Int32) (0 : Int32) P))) : mg_projected_60 E σ x1 x2 x3 P := by
  intro d hd p e s m args below meth c hcx H locs ls hW hS hl
  have hx := hcx.1
  have hb := hcx.2.1
  have hown := hcx.2.2.2.2.2.1
  have hts := hcx.2.2.2.2.2.2.1
  refine lv_iload_n (pc := 60) hx hb dX4_projected_60 rfl (lv_at hl 3 rfl) ?_
  refine lv_aload_n (pc := 61) hx hb dX4_projected_61 rfl (lv_at hl 0 rfl) ?_
  refine mj_geti (pc := 62) hcx hW 26 (by decide) rfl q1281 dX4_projected_62 ?_
  refine lv_icmp_ge (pc := 65) (tgt := 158) hx hb dX4_projected_65 (by decide) (fun c1 => ?_) (fun c1 => ?_)
  · have h := h.1 c1
    refine lv_iload_n (pc := 158) hx hb dX4_projected_158 rfl (lv_at hl 2 rfl) ?_
    exact mj_reti (pc := 159) hcx hW hS rfl h dX4_projected_159
  · have h := h.2 c1
    refine lv_iconst (pc := 68) (v := (0 : Int32)) hx hb dX4_projected_68 (by decide) ?_
    refine lv_istore (pc := 69) (lv' := [(4, .int (0 : Int32)), (0, .ref (mj_o E)), (1, .int x1), (2, .int x2), (3, .int x3)]) hx hb dX4_projected_69 hl (by decide) rfl (fun ls hl => ?_)
    refine lv_iconst (pc := 71) (v := (0 : Int32)) hx hb dX4_projected_71 (by decide) ?_
    refine lv_istore (pc := 72) (lv' := [(5, .int (0 : Int32)), (4, .int (0 : Int32)), (0, .ref (mj_o E)), (1, .int x1), (2, .int x2), (3, .int x3)]) hx hb dX4_projected_72 hl (by decide) rfl (fun ls hl => ?_)
    exact h d hd p e s m args below meth c hcx H locs _ hW hS (lv_sub hl [2, 3, 4, 5, 1, 0] rfl)
set_option maxHeartbeats 4000000 in
set_option maxRecDepth 100000 in
theorem mb_projected_74 {E : mj_E} {σ : mj_S} {x1 : Int32} {x2 : Int32} {x3 : Int32} {x4 : Int32} {x5 : Int32} {P : Int32 → mj_S → Prop} (h : (((4 : Int32) ≤ x5 → (vp_in x4 20736 ∧ (((mj_A σ 37 x4.toNatClampNeg) = 0 → (vp_in x4 20736 ∧ mg_projected_60 E (mj_sA σ 37 x4.toNatClampNeg (1 : Int32)) x1 (x2 + (1 : Int32)) (x3 + (1 : Int32)) P)) ∧ (¬ (mj_A σ 37 x4.toNatClampNeg) = 0 → (vp_in x4 20736 ∧ mg_projected_60 E (mj_sA σ 37 x4.toNatClampNeg (1 : Int32)) x1 (x2 + (0 : Int32)) (x3 + (1 : Int32)) P))))) ∧ (¬ (4 : Int32) ≤ x5 → ms_has E σ x1 x5 (fun r6 σ7 => ((r6 = 0 → mg_projected_74 E σ7 x1 x2 x3 x4 (x5 + (1 : Int32)) P) ∧ (¬ r6 = 0 → ms_numberOf E σ7 x3 x5 (fun r9 σ10 => (vp_in (((100 : Int32) * x5) + r9) 400 ∧ mg_projected_74 E σ10 x1 x2 x3 (((12 : Int32) * x4) + (mj_A σ10 35 (((100 : Int32) * x5) + r9).toNatClampNeg)) (x5 + (1 : Int32)) P)))))))) : mg_projected_74 E σ x1 x2 x3 x4 x5 P := by
  intro d hd p e s m args below meth c hcx H locs ls hW hS hl
  have hx := hcx.1
  have hb := hcx.2.1
  have hown := hcx.2.2.2.2.2.1
  have hts := hcx.2.2.2.2.2.2.1
  refine lv_iload (pc := 74) hx hb dX4_projected_74 (lv_at hl 5 rfl) ?_
  refine lv_iconst (pc := 76) (v := (4 : Int32)) hx hb dX4_projected_76 (by decide) ?_
  refine lv_icmp_ge (pc := 77) (tgt := 126) hx hb dX4_projected_77 (by decide) (fun c1 => ?_) (fun c1 => ?_)
  · have h := h.1 c1
    refine lv_iload_n (pc := 126) hx hb dX4_projected_126 rfl (lv_at hl 2 rfl) ?_
    refine lv_aload_n (pc := 127) hx hb dX4_projected_127 rfl (lv_at hl 0 rfl) ?_
    refine mj_geta (pc := 128) hcx hW 37 (by decide) rfl q1292 dX4_projected_128 ?_
    refine lv_iload (pc := 131) hx hb dX4_projected_131 (lv_at hl 4 rfl) ?_
    obtain ⟨g2, h⟩ := h
    refine mj_zld (pc := 133) hcx hW g2 dX4_projected_133 ?_
    refine lv_if_eq (pc := 134) (tgt := 141) hx hb dX4_projected_134 (by decide) (fun c3 => ?_) (fun c3 => ?_)
    · have h := h.1 c3
      refine lv_iconst (pc := 141) (v := (1 : Int32)) hx hb dX4_projected_141 (by decide) ?_
      refine lv_iadd (pc := 142) hx hb dX4_projected_142 ?_
      refine lv_istore_n (pc := 143) (lv' := [(2, .int (x2 + (1 : Int32))), (0, .ref (mj_o E)), (1, .int x1), (3, .int x3), (4, .int x4), (5, .int x5)]) hx hb dX4_projected_143 rfl hl (by decide) rfl (fun ls hl => ?_)
      refine lv_aload_n (pc := 144) hx hb dX4_projected_144 rfl (lv_at hl 1 rfl) ?_
      refine mj_geta (pc := 145) hcx hW 37 (by decide) rfl q1292 dX4_projected_145 ?_
      refine lv_iload (pc := 148) hx hb dX4_projected_148 (lv_at hl 4 rfl) ?_
      refine lv_iconst (pc := 150) (v := (1 : Int32)) hx hb dX4_projected_150 (by decide) ?_
      obtain ⟨g4, h⟩ := h
      refine mj_zst (pc := 151) hcx hW hS g4 rfl dX4_projected_151 (fun H locs hW hS => ?_)
      refine lv_iinc (pc := 152) (v := (x3 + (1 : Int32))) (lv' := [(3, .int (x3 + (1 : Int32))), (2, .int (x2 + (1 : Int32))), (0, .ref (mj_o E)), (1, .int x1), (4, .int x4), (5, .int x5)]) hx hb dX4_projected_152 hl (k := 3) rfl rfl (by decide) rfl (fun ls hl => ?_)
      refine lv_goto (pc := 155) (tgt := 60) hx hb dX4_projected_155 (by decide) ?_
      exact h d hd p e s m args below meth c hcx H locs _ hW hS (lv_sub hl [2, 3, 1, 0] rfl)
    · have h := h.2 c3
      refine lv_iconst (pc := 137) (v := (0 : Int32)) hx hb dX4_projected_137 (by decide) ?_
      refine lv_goto (pc := 138) (tgt := 142) hx hb dX4_projected_138 (by decide) ?_
      refine lv_iadd (pc := 142) hx hb dX4_projected_142 ?_
      refine lv_istore_n (pc := 143) (lv' := [(2, .int (x2 + (0 : Int32))), (0, .ref (mj_o E)), (1, .int x1), (3, .int x3), (4, .int x4), (5, .int x5)]) hx hb dX4_projected_143 rfl hl (by decide) rfl (fun ls hl => ?_)
      refine lv_aload_n (pc := 144) hx hb dX4_projected_144 rfl (lv_at hl 1 rfl) ?_
      refine mj_geta (pc := 145) hcx hW 37 (by decide) rfl q1292 dX4_projected_145 ?_
      refine lv_iload (pc := 148) hx hb dX4_projected_148 (lv_at hl 4 rfl) ?_
      refine lv_iconst (pc := 150) (v := (1 : Int32)) hx hb dX4_projected_150 (by decide) ?_
      obtain ⟨g5, h⟩ := h
      refine mj_zst (pc := 151) hcx hW hS g5 rfl dX4_projected_151 (fun H locs hW hS => ?_)
      refine lv_iinc (pc := 152) (v := (x3 + (1 : Int32))) (lv' := [(3, .int (x3 + (1 : Int32))), (2, .int (x2 + (0 : Int32))), (0, .ref (mj_o E)), (1, .int x1), (4, .int x4), (5, .int x5)]) hx hb dX4_projected_152 hl (k := 3) rfl rfl (by decide) rfl (fun ls hl => ?_)
      refine lv_goto (pc := 155) (tgt := 60) hx hb dX4_projected_155 (by decide) ?_
      exact h d hd p e s m args below meth c hcx H locs _ hW hS (lv_sub hl [2, 3, 1, 0] rfl)
  · have h := h.2 c1
    refine lv_iload_n (pc := 80) hx hb dX4_projected_80 rfl (lv_at hl 1 rfl) ?_
    refine lv_iload (pc := 81) hx hb dX4_projected_81 (lv_at hl 5 rfl) ?_
    refine mj_ci (pc := 83) (mj_runS hcx hW [.int x1, .int x5] h (Nat.le_trans (by decide) hd) (lw_S q1440 q1441 q125 q1442) yd_has.2 (by decide) rfl rfl (Nat.le_of_ble_eq_true rfl) hl.1 dX4_projected_83) hS (fun r6 σ7 h H locs hW hS => ?_)
    refine lv_if_eq (pc := 86) (tgt := 116) hx hb dX4_projected_86 (by decide) (fun c8 => ?_) (fun c8 => ?_)
    · have h := h.1 c8
      refine lv_iload (pc := 116) hx hb dX4_projected_116 (lv_at hl 4 rfl) ?_
      refine lv_istore (pc := 118) (lv' := [(4, .int x4), (0, .ref (mj_o E)), (1, .int x1), (2, .int x2), (3, .int x3), (5, .int x5)]) hx hb dX4_projected_118 hl (by decide) rfl (fun ls hl => ?_)
      refine lv_iinc (pc := 120) (v := (x5 + (1 : Int32))) (lv' := [(5, .int (x5 + (1 : Int32))), (4, .int x4), (0, .ref (mj_o E)), (1, .int x1), (2, .int x2), (3, .int x3)]) hx hb dX4_projected_120 hl (k := 5) rfl rfl (by decide) rfl (fun ls hl => ?_)
      refine lv_goto (pc := 123) (tgt := 74) hx hb dX4_projected_123 (by decide) ?_
      exact h d hd p e s m args below meth c hcx H locs _ hW hS (lv_sub hl [2, 3, 4, 5, 1, 0] rfl)
    · have h := h.2 c8
      refine lv_bipush (pc := 89) (v := (12 : Int32)) hx hb dX4_projected_89 (by decide) ?_
      refine lv_iload (pc := 91) hx hb dX4_projected_91 (lv_at hl 4 rfl) ?_
      refine lv_imul (pc := 93) hx hb dX4_projected_93 ?_
      refine lv_aload_n (pc := 94) hx hb dX4_projected_94 rfl (lv_at hl 0 rfl) ?_
      refine mj_geta (pc := 95) hcx hW 35 (by decide) rfl q1290 dX4_projected_95 ?_
      refine lv_bipush (pc := 98) (v := (100 : Int32)) hx hb dX4_projected_98 (by decide) ?_
      refine lv_iload (pc := 100) hx hb dX4_projected_100 (lv_at hl 5 rfl) ?_
      refine lv_imul (pc := 102) hx hb dX4_projected_102 ?_
      refine lv_aload_n (pc := 103) hx hb dX4_projected_103 rfl (lv_at hl 0 rfl) ?_
      refine lv_iload_n (pc := 104) hx hb dX4_projected_104 rfl (lv_at hl 3 rfl) ?_
      refine lv_iload (pc := 105) hx hb dX4_projected_105 (lv_at hl 5 rfl) ?_
      refine mj_ci (pc := 107) (mj_runV hcx hW [.int x3, .int x5] h (Nat.le_trans (by decide) hd) (lw_V q1705 q1707 qs102 q125 q1708) yd_numberOf (by decide) rfl rfl (Nat.le_of_ble_eq_true rfl) hl.1 dX4_projected_107) hS (fun r9 σ10 h H locs hW hS => ?_)
      refine lv_iadd (pc := 110) hx hb dX4_projected_110 ?_
      obtain ⟨g11, h⟩ := h
      refine mj_ald (pc := 111) hcx hW 35 rfl rfl g11 dX4_projected_111 ?_
      refine lv_iadd (pc := 112) hx hb dX4_projected_112 ?_
      refine lv_goto (pc := 113) (tgt := 118) hx hb dX4_projected_113 (by decide) ?_
      refine lv_istore (pc := 118) (lv' := [(4, .int (((12 : Int32) * x4) + (mj_A σ10 35 (((100 : Int32) * x5) + r9).toNatClampNeg))), (0, .ref (mj_o E)), (1, .int x1), (2, .int x2), (3, .int x3), (5, .int x5)]) hx hb dX4_projected_118 hl (by decide) rfl (fun ls hl => ?_)
      refine lv_iinc (pc := 120) (v := (x5 + (1 : Int32))) (lv' := [(5, .int (x5 + (1 : Int32))), (4, .int (((12 : Int32) * x4) + (mj_A σ10 35 (((100 : Int32) * x5) + r9).toNatClampNeg))), (0, .ref (mj_o E)), (1, .int x1), (2, .int x2), (3, .int x3)]) hx hb dX4_projected_120 hl (k := 5) rfl rfl (by decide) rfl (fun ls hl => ?_)
      refine lv_goto (pc := 123) (tgt := 74) hx hb dX4_projected_123 (by decide) ?_
      exact h d hd p e s m args below meth c hcx H locs _ hW hS (lv_sub hl [2, 3, 4, 5, 1, 0] rfl)
set_option maxHeartbeats 4000000 in
set_option maxRecDepth 100000 in
theorem mb_projected {E : mj_E} {σ : mj_S} {x1 : Int32} {P : Int32 → mj_S → Prop} (hE : mj_ok E) (h : ms_areTables E σ (fun r1 σ2 => ((r1 = 0 → P (-1 : Int32) σ2) ∧ (¬ r1 = 0 → ms_in E σ2 x1 (1 : Int32) (15 : Int32) (fun r4 σ5 => ((r4 = 0 → P (-1 : Int32) σ5) ∧ (¬ r4 = 0 → ms_asked E σ5 (fun r7 σ8 => (((x1 &&& (r7 ^^^ (-1 : Int32))) = 0 → ms_counts E σ8 (fun σ11 => mg_projected_36 E σ11 x1 (0 : Int32) P)) ∧ (¬ (x1 &&& (r7 ^^^ (-1 : Int32))) = 0 → P (-1 : Int32) σ8)))))))))) : ms_projected E σ x1 P :=
  mj_enter (k := 24) (lv := [(0, .ref (mj_o E)), (1, .int x1)]) hE rfl (Nat.le_of_ble_eq_true rfl) rfl (by
    intro d hd p e s m args below meth c hcx H locs ls hW hS hl
    have hx := hcx.1
    have hb := hcx.2.1
    have hown := hcx.2.2.2.2.2.1
    have hts := hcx.2.2.2.2.2.2.1
    refine lv_aload_n (pc := 0) hx hb dX4_projected_0 rfl (lv_at hl 0 rfl) ?_
    refine mj_ci (pc := 1) (mj_runV hcx hW [] h (Nat.le_trans (by decide) hd) (lw_V q1533 q1535 qs72 q125 q1536) yd_areTables (by decide) rfl rfl (Nat.le_of_ble_eq_true rfl) hl.1 dX4_projected_1) hS (fun r1 σ2 h H locs hW hS => ?_)
    refine lv_if_eq (pc := 4) (tgt := 28) hx hb dX4_projected_4 (by decide) (fun c3 => ?_) (fun c3 => ?_)
    · have h := h.1 c3
      refine lv_iconst (pc := 28) (v := (-1 : Int32)) hx hb dX4_projected_28 (by decide) ?_
      exact mj_reti (pc := 29) hcx hW hS rfl h dX4_projected_29
    · have h := h.2 c3
      refine lv_iload_n (pc := 7) hx hb dX4_projected_7 rfl (lv_at hl 1 rfl) ?_
      refine lv_iconst (pc := 8) (v := (1 : Int32)) hx hb dX4_projected_8 (by decide) ?_
      refine lv_bipush (pc := 9) (v := (15 : Int32)) hx hb dX4_projected_9 (by decide) ?_
      refine mj_ci (pc := 11) (mj_runS hcx hW [.int x1, .int (1 : Int32), .int (15 : Int32)] h (Nat.le_trans (by decide) hd) (lw_S q1401 q1402 q125 q1403) yd_in.2 (by decide) rfl rfl (Nat.le_of_ble_eq_true rfl) hl.1 dX4_projected_11) hS (fun r4 σ5 h H locs hW hS => ?_)
      refine lv_if_eq (pc := 14) (tgt := 28) hx hb dX4_projected_14 (by decide) (fun c6 => ?_) (fun c6 => ?_)
      · have h := h.1 c6
        refine lv_iconst (pc := 28) (v := (-1 : Int32)) hx hb dX4_projected_28 (by decide) ?_
        exact mj_reti (pc := 29) hcx hW hS rfl h dX4_projected_29
      · have h := h.2 c6
        refine lv_iload_n (pc := 17) hx hb dX4_projected_17 rfl (lv_at hl 1 rfl) ?_
        refine lv_aload_n (pc := 18) hx hb dX4_projected_18 rfl (lv_at hl 0 rfl) ?_
        refine mj_ci (pc := 19) (mj_runV hcx hW [] h (Nat.le_trans (by decide) hd) (lw_V q1577 q1579 qs83 q125 q1580) yd_asked (by decide) rfl rfl (Nat.le_of_ble_eq_true rfl) hl.1 dX4_projected_19) hS (fun r7 σ8 h H locs hW hS => ?_)
        refine lv_iconst (pc := 22) (v := (-1 : Int32)) hx hb dX4_projected_22 (by decide) ?_
        refine lv_ixor (pc := 23) hx hb dX4_projected_23 ?_
        refine lv_iand (pc := 24) hx hb dX4_projected_24 ?_
        refine lv_if_eq (pc := 25) (tgt := 30) hx hb dX4_projected_25 (by decide) (fun c9 => ?_) (fun c9 => ?_)
        · have h := h.1 c9
          refine lv_aload_n (pc := 30) hx hb dX4_projected_30 rfl (lv_at hl 0 rfl) ?_
          refine mj_cv (pc := 31) (mj_runV hcx hW [] h (Nat.le_trans (by decide) hd) (lw_V q1749 q1751 qs106 q125 q1752) yd_counts (by decide) rfl rfl (Nat.le_of_ble_eq_true rfl) hl.1 dX4_projected_31) hS (fun σ11 h H locs hW hS => ?_)
          refine lv_iconst (pc := 34) (v := (0 : Int32)) hx hb dX4_projected_34 (by decide) ?_
          refine lv_istore_n (pc := 35) (lv' := [(2, .int (0 : Int32)), (0, .ref (mj_o E)), (1, .int x1)]) hx hb dX4_projected_35 rfl hl (by decide) rfl (fun ls hl => ?_)
          exact h d hd p e s m args below meth c hcx H locs _ hW hS (lv_sub hl [1, 2, 0] rfl)
        · have h := h.2 c9
          refine lv_iconst (pc := 28) (v := (-1 : Int32)) hx hb dX4_projected_28 (by decide) ?_
          exact mj_reti (pc := 29) hcx hW hS rfl h dX4_projected_29)
/-! row -/
set_option maxHeartbeats 4000000 in
set_option maxRecDepth 100000 in
theorem mb_row {E : mj_E} {σ : mj_S} {x1 : Int32} {x2 : Int32} {P : Int32 → mj_S → Prop} (hE : mj_ok E) (h : ms_isAsked E σ x2 (fun r1 σ2 => ((r1 = 0 → P (-1 : Int32) σ2) ∧ (¬ r1 = 0 → ((x1 < 0 → P (-1 : Int32) σ2) ∧ (¬ x1 < 0 → ms_rowsNow E σ2 (fun r5 σ6 => ((r5 ≤ x1 → P (-1 : Int32) σ6) ∧ (¬ r5 ≤ x1 → ms_numberOf E σ6 x1 x2 (fun r8 σ9 => P r8 σ9)))))))))) : ms_row E σ x1 x2 P :=
  mj_enter (k := 24) (lv := [(0, .ref (mj_o E)), (1, .int x1), (2, .int x2)]) hE rfl (Nat.le_of_ble_eq_true rfl) rfl (by
    intro d hd p e s m args below meth c hcx H locs ls hW hS hl
    have hx := hcx.1
    have hb := hcx.2.1
    have hown := hcx.2.2.2.2.2.1
    have hts := hcx.2.2.2.2.2.2.1
    refine lv_aload_n (pc := 0) hx hb dX4_row_0 rfl (lv_at hl 0 rfl) ?_
    refine lv_iload_n (pc := 1) hx hb dX4_row_1 rfl (lv_at hl 2 rfl) ?_
    refine mj_ci (pc := 2) (mj_runV hcx hW [.int x2] h (Nat.le_trans (by decide) hd) (lw_V q1701 q1703 qs101 q125 q1704) yd_isAsked (by decide) rfl rfl (Nat.le_of_ble_eq_true rfl) hl.1 dX4_row_2) hS (fun r1 σ2 h H locs hW hS => ?_)
    refine lv_if_eq (pc := 5) (tgt := 29) hx hb dX4_row_5 (by decide) (fun c3 => ?_) (fun c3 => ?_)
    · have h := h.1 c3
      refine lv_iconst (pc := 29) (v := (-1 : Int32)) hx hb dX4_row_29 (by decide) ?_
      exact mj_reti (pc := 30) hcx hW hS rfl h dX4_row_30
    · have h := h.2 c3
      refine lv_iload_n (pc := 8) hx hb dX4_row_8 rfl (lv_at hl 1 rfl) ?_
      refine lv_if_lt (pc := 9) (tgt := 29) hx hb dX4_row_9 (by decide) (fun c4 => ?_) (fun c4 => ?_)
      · have h := h.1 c4
        refine lv_iconst (pc := 29) (v := (-1 : Int32)) hx hb dX4_row_29 (by decide) ?_
        exact mj_reti (pc := 30) hcx hW hS rfl h dX4_row_30
      · have h := h.2 c4
        refine lv_iload_n (pc := 12) hx hb dX4_row_12 rfl (lv_at hl 1 rfl) ?_
        refine lv_aload_n (pc := 13) hx hb dX4_row_13 rfl (lv_at hl 0 rfl) ?_
        refine mj_ci (pc := 14) (mj_runV hcx hW [] h (Nat.le_trans (by decide) hd) (lw_V q1561 q1563 qs79 q125 q1564) yd_rowsNow (by decide) rfl rfl (Nat.le_of_ble_eq_true rfl) hl.1 dX4_row_14) hS (fun r5 σ6 h H locs hW hS => ?_)
        refine lv_icmp_ge (pc := 17) (tgt := 29) hx hb dX4_row_17 (by decide) (fun c7 => ?_) (fun c7 => ?_)
        · have h := h.1 c7
          refine lv_iconst (pc := 29) (v := (-1 : Int32)) hx hb dX4_row_29 (by decide) ?_
          exact mj_reti (pc := 30) hcx hW hS rfl h dX4_row_30
        · have h := h.2 c7
          refine lv_aload_n (pc := 20) hx hb dX4_row_20 rfl (lv_at hl 0 rfl) ?_
          refine lv_iload_n (pc := 21) hx hb dX4_row_21 rfl (lv_at hl 1 rfl) ?_
          refine lv_iload_n (pc := 22) hx hb dX4_row_22 rfl (lv_at hl 2 rfl) ?_
          refine mj_ci (pc := 23) (mj_runV hcx hW [.int x1, .int x2] h (Nat.le_trans (by decide) hd) (lw_V q1705 q1707 qs102 q125 q1708) yd_numberOf (by decide) rfl rfl (Nat.le_of_ble_eq_true rfl) hl.1 dX4_row_23) hS (fun r8 σ9 h H locs hW hS => ?_)
          refine lv_goto (pc := 26) (tgt := 30) hx hb dX4_row_26 (by decide) ?_
          exact mj_reti (pc := 30) hcx hW hS rfl h dX4_row_30)
/-! rows -/
set_option maxHeartbeats 4000000 in
set_option maxRecDepth 100000 in
theorem mb_rows {E : mj_E} {σ : mj_S} {P : Int32 → mj_S → Prop} (hE : mj_ok E) (h : ms_areTables E σ (fun r1 σ2 => ((r1 = 0 → P (-1 : Int32) σ2) ∧ (¬ r1 = 0 → ms_rowsNow E σ2 (fun r4 σ5 => P r4 σ5))))) : ms_rows E σ P :=
  mj_enter (k := 24) (lv := [(0, .ref (mj_o E))]) hE rfl (Nat.le_of_ble_eq_true rfl) rfl (by
    intro d hd p e s m args below meth c hcx H locs ls hW hS hl
    have hx := hcx.1
    have hb := hcx.2.1
    have hown := hcx.2.2.2.2.2.1
    have hts := hcx.2.2.2.2.2.2.1
    refine lv_aload_n (pc := 0) hx hb dX4_rows_0 rfl (lv_at hl 0 rfl) ?_
    refine mj_ci (pc := 1) (mj_runV hcx hW [] h (Nat.le_trans (by decide) hd) (lw_V q1533 q1535 qs72 q125 q1536) yd_areTables (by decide) rfl rfl (Nat.le_of_ble_eq_true rfl) hl.1 dX4_rows_1) hS (fun r1 σ2 h H locs hW hS => ?_)
    refine lv_if_eq (pc := 4) (tgt := 14) hx hb dX4_rows_4 (by decide) (fun c3 => ?_) (fun c3 => ?_)
    · have h := h.1 c3
      refine lv_iconst (pc := 14) (v := (-1 : Int32)) hx hb dX4_rows_14 (by decide) ?_
      exact mj_reti (pc := 15) hcx hW hS rfl h dX4_rows_15
    · have h := h.2 c3
      refine lv_aload_n (pc := 7) hx hb dX4_rows_7 rfl (lv_at hl 0 rfl) ?_
      refine mj_ci (pc := 8) (mj_runV hcx hW [] h (Nat.le_trans (by decide) hd) (lw_V q1561 q1563 qs79 q125 q1564) yd_rowsNow (by decide) rfl rfl (Nat.le_of_ble_eq_true rfl) hl.1 dX4_rows_8) hS (fun r4 σ5 h H locs hW hS => ?_)
      refine lv_goto (pc := 11) (tgt := 15) hx hb dX4_rows_11 (by decide) ?_
      exact mj_reti (pc := 15) hcx hW hS rfl h dX4_rows_15)
/-! times -/
set_option maxHeartbeats 4000000 in
set_option maxRecDepth 100000 in
theorem mb_times {E : mj_E} {σ : mj_S} {x1 : Int32} {x2 : Int32} {P : Int32 → mj_S → Prop} (hE : mj_ok E) (h : ms_isAsked E σ x1 (fun r1 σ2 => ((r1 = 0 → P (-1 : Int32) σ2) ∧ (¬ r1 = 0 → ms_counts E σ2 (fun σ5 => ms_in E σ5 x2 (0 : Int32) (99 : Int32) (fun r6 σ7 => ((r6 = 0 → P (0 : Int32) σ7) ∧ (¬ r6 = 0 → (vp_in (((100 : Int32) * x1) + x2) 400 ∧ P (mj_A σ7 34 (((100 : Int32) * x1) + x2).toNatClampNeg) σ7))))))))) : ms_times E σ x1 x2 P :=
  mj_enter (k := 24) (lv := [(0, .ref (mj_o E)), (1, .int x1), (2, .int x2)]) hE rfl (Nat.le_of_ble_eq_true rfl) rfl (by
    intro d hd p e s m args below meth c hcx H locs ls hW hS hl
    have hx := hcx.1
    have hb := hcx.2.1
    have hown := hcx.2.2.2.2.2.1
    have hts := hcx.2.2.2.2.2.2.1
    refine lv_aload_n (pc := 0) hx hb dX4_times_0 rfl (lv_at hl 0 rfl) ?_
    refine lv_iload_n (pc := 1) hx hb dX4_times_1 rfl (lv_at hl 1 rfl) ?_
    refine mj_ci (pc := 2) (mj_runV hcx hW [.int x1] h (Nat.le_trans (by decide) hd) (lw_V q1701 q1703 qs101 q125 q1704) yd_isAsked (by decide) rfl rfl (Nat.le_of_ble_eq_true rfl) hl.1 dX4_times_2) hS (fun r1 σ2 h H locs hW hS => ?_)
    refine lv_if_ne (pc := 5) (tgt := 10) hx hb dX4_times_5 (by decide) (fun c3 => ?_) (fun c3 => ?_)
    · have h := h.2 c3
      refine lv_aload_n (pc := 10) hx hb dX4_times_10 rfl (lv_at hl 0 rfl) ?_
      refine mj_cv (pc := 11) (mj_runV hcx hW [] h (Nat.le_trans (by decide) hd) (lw_V q1749 q1751 qs106 q125 q1752) yd_counts (by decide) rfl rfl (Nat.le_of_ble_eq_true rfl) hl.1 dX4_times_11) hS (fun σ5 h H locs hW hS => ?_)
      refine lv_iload_n (pc := 14) hx hb dX4_times_14 rfl (lv_at hl 2 rfl) ?_
      refine lv_iconst (pc := 15) (v := (0 : Int32)) hx hb dX4_times_15 (by decide) ?_
      refine lv_bipush (pc := 16) (v := (99 : Int32)) hx hb dX4_times_16 (by decide) ?_
      refine mj_ci (pc := 18) (mj_runS hcx hW [.int x2, .int (0 : Int32), .int (99 : Int32)] h (Nat.le_trans (by decide) hd) (lw_S q1401 q1402 q125 q1403) yd_in.2 (by decide) rfl rfl (Nat.le_of_ble_eq_true rfl) hl.1 dX4_times_18) hS (fun r6 σ7 h H locs hW hS => ?_)
      refine lv_if_eq (pc := 21) (tgt := 38) hx hb dX4_times_21 (by decide) (fun c8 => ?_) (fun c8 => ?_)
      · have h := h.1 c8
        refine lv_iconst (pc := 38) (v := (0 : Int32)) hx hb dX4_times_38 (by decide) ?_
        exact mj_reti (pc := 39) hcx hW hS rfl h dX4_times_39
      · have h := h.2 c8
        refine lv_aload_n (pc := 24) hx hb dX4_times_24 rfl (lv_at hl 0 rfl) ?_
        refine mj_geta (pc := 25) hcx hW 34 (by decide) rfl q1289 dX4_times_25 ?_
        refine lv_bipush (pc := 28) (v := (100 : Int32)) hx hb dX4_times_28 (by decide) ?_
        refine lv_iload_n (pc := 30) hx hb dX4_times_30 rfl (lv_at hl 1 rfl) ?_
        refine lv_imul (pc := 31) hx hb dX4_times_31 ?_
        refine lv_iload_n (pc := 32) hx hb dX4_times_32 rfl (lv_at hl 2 rfl) ?_
        refine lv_iadd (pc := 33) hx hb dX4_times_33 ?_
        obtain ⟨g9, h⟩ := h
        refine mj_ald (pc := 34) hcx hW 34 rfl rfl g9 dX4_times_34 ?_
        refine lv_goto (pc := 35) (tgt := 39) hx hb dX4_times_35 (by decide) ?_
        exact mj_reti (pc := 39) hcx hW hS rfl h dX4_times_39
    · have h := h.1 c3
      refine lv_iconst (pc := 8) (v := (-1 : Int32)) hx hb dX4_times_8 (by decide) ?_
      exact mj_reti (pc := 9) hcx hW hS rfl h dX4_times_9)
/-! without -/
set_option maxHeartbeats 4000000 in
set_option maxRecDepth 100000 in
theorem mb_without {E : mj_E} {σ : mj_S} {x1 : Int32} {P : Int32 → mj_S → Prop} (hE : mj_ok E) (h : ms_isTable E σ x1 (fun r1 σ2 => ((r1 = 0 → P (-1 : Int32) σ2) ∧ (¬ r1 = 0 → (vp_in (0 : Int32) 331 ∧ (((mj_A σ2 13 (0 : Int32).toNatClampNeg) = ((1 : Int32) <<< (x1 &&& 31)) → P (-1 : Int32) σ2) ∧ (¬ (mj_A σ2 13 (0 : Int32).toNatClampNeg) = ((1 : Int32) <<< (x1 &&& 31)) → (vp_in (0 : Int32) 331 ∧ (vp_in (0 : Int32) 331 ∧ (vp_in (0 : Int32) 331 ∧ ms_rowsNow E (mj_sA σ2 13 (0 : Int32).toNatClampNeg ((mj_A σ2 13 (0 : Int32).toNatClampNeg) &&& (((1 : Int32) <<< (x1 &&& 31)) ^^^ (-1 : Int32)))) (fun r9 σ10 => (vp_in (0 : Int32) 331 ∧ P r9 (mj_sA σ10 13 (0 : Int32).toNatClampNeg (mj_A σ2 13 (0 : Int32).toNatClampNeg)))))))))))))) : ms_without E σ x1 P :=
  mj_enter (k := 24) (lv := [(0, .ref (mj_o E)), (1, .int x1)]) hE rfl (Nat.le_of_ble_eq_true rfl) rfl (by
    intro d hd p e s m args below meth c hcx H locs ls hW hS hl
    have hx := hcx.1
    have hb := hcx.2.1
    have hown := hcx.2.2.2.2.2.1
    have hts := hcx.2.2.2.2.2.2.1
    refine lv_aload_n (pc := 0) hx hb dX4_without_0 rfl (lv_at hl 0 rfl) ?_
    refine lv_iload_n (pc := 1) hx hb dX4_without_1 rfl (lv_at hl 1 rfl) ?_
    refine mj_ci (pc := 2) (mj_runV hcx hW [.int x1] h (Nat.le_trans (by decide) hd) (lw_V q1521 q1523 qs69 q125 q1524) yd_isTable (by decide) rfl rfl (Nat.le_of_ble_eq_true rfl) hl.1 dX4_without_2) hS (fun r1 σ2 h H locs hW hS => ?_)
    refine lv_if_eq (pc := 5) (tgt := 20) hx hb dX4_without_5 (by decide) (fun c3 => ?_) (fun c3 => ?_)
    · have h := h.1 c3
      refine lv_iconst (pc := 20) (v := (-1 : Int32)) hx hb dX4_without_20 (by decide) ?_
      exact mj_reti (pc := 21) hcx hW hS rfl h dX4_without_21
    · have h := h.2 c3
      refine lv_aload_n (pc := 8) hx hb dX4_without_8 rfl (lv_at hl 0 rfl) ?_
      refine mj_geta (pc := 9) hcx hW 13 (by decide) rfl q1268 dX4_without_9 ?_
      refine lv_iconst (pc := 12) (v := (0 : Int32)) hx hb dX4_without_12 (by decide) ?_
      obtain ⟨g4, h⟩ := h
      refine mj_ald (pc := 13) hcx hW 13 rfl rfl g4 dX4_without_13 ?_
      refine lv_iconst (pc := 14) (v := (1 : Int32)) hx hb dX4_without_14 (by decide) ?_
      refine lv_iload_n (pc := 15) hx hb dX4_without_15 rfl (lv_at hl 1 rfl) ?_
      refine lv_ishl (pc := 16) hx hb dX4_without_16 ?_
      refine lv_icmp_ne (pc := 17) (tgt := 22) hx hb dX4_without_17 (by decide) (fun c5 => ?_) (fun c5 => ?_)
      · have h := h.2 c5
        refine lv_aload_n (pc := 22) hx hb dX4_without_22 rfl (lv_at hl 0 rfl) ?_
        refine mj_geta (pc := 23) hcx hW 13 (by decide) rfl q1268 dX4_without_23 ?_
        refine lv_iconst (pc := 26) (v := (0 : Int32)) hx hb dX4_without_26 (by decide) ?_
        obtain ⟨g6, h⟩ := h
        refine mj_ald (pc := 27) hcx hW 13 rfl rfl g6 dX4_without_27 ?_
        refine lv_istore_n (pc := 28) (lv' := [(2, .int (mj_A σ2 13 (0 : Int32).toNatClampNeg)), (0, .ref (mj_o E)), (1, .int x1)]) hx hb dX4_without_28 rfl hl (by decide) rfl (fun ls hl => ?_)
        refine lv_aload_n (pc := 29) hx hb dX4_without_29 rfl (lv_at hl 1 rfl) ?_
        refine mj_geta (pc := 30) hcx hW 13 (by decide) rfl q1268 dX4_without_30 ?_
        refine lv_iconst (pc := 33) (v := (0 : Int32)) hx hb dX4_without_33 (by decide) ?_
        refine lv_dup2_11 (pc := 34) hx hb dX4_without_34 rfl rfl ?_
        obtain ⟨g7, h⟩ := h
        refine mj_ald (pc := 35) hcx hW 13 rfl rfl g7 dX4_without_35 ?_
        refine lv_iconst (pc := 36) (v := (1 : Int32)) hx hb dX4_without_36 (by decide) ?_
        refine lv_iload_n (pc := 37) hx hb dX4_without_37 rfl (lv_at hl 2 rfl) ?_
        refine lv_ishl (pc := 38) hx hb dX4_without_38 ?_
        refine lv_iconst (pc := 39) (v := (-1 : Int32)) hx hb dX4_without_39 (by decide) ?_
        refine lv_ixor (pc := 40) hx hb dX4_without_40 ?_
        refine lv_iand (pc := 41) hx hb dX4_without_41 ?_
        obtain ⟨g8, h⟩ := h
        refine mj_ast (pc := 42) hcx hW hS 13 rfl rfl g8 dX4_without_42 (fun H locs hW hS => ?_)
        refine lv_aload_n (pc := 43) hx hb dX4_without_43 rfl (lv_at hl 1 rfl) ?_
        refine mj_ci (pc := 44) (mj_runV hcx hW [] h (Nat.le_trans (by decide) hd) (lw_V q1561 q1563 qs79 q125 q1564) yd_rowsNow (by decide) rfl rfl (Nat.le_of_ble_eq_true rfl) hl.1 dX4_without_44) hS (fun r9 σ10 h H locs hW hS => ?_)
        refine lv_istore_n (pc := 47) (lv' := [(3, .int r9), (2, .int (mj_A σ2 13 (0 : Int32).toNatClampNeg)), (0, .ref (mj_o E)), (1, .int x1)]) hx hb dX4_without_47 rfl hl (by decide) rfl (fun ls hl => ?_)
        refine lv_aload_n (pc := 48) hx hb dX4_without_48 rfl (lv_at hl 2 rfl) ?_
        refine mj_geta (pc := 49) hcx hW 13 (by decide) rfl q1268 dX4_without_49 ?_
        refine lv_iconst (pc := 52) (v := (0 : Int32)) hx hb dX4_without_52 (by decide) ?_
        refine lv_iload_n (pc := 53) hx hb dX4_without_53 rfl (lv_at hl 1 rfl) ?_
        obtain ⟨g11, h⟩ := h
        refine mj_ast (pc := 54) hcx hW hS 13 rfl rfl g11 dX4_without_54 (fun H locs hW hS => ?_)
        refine lv_iload_n (pc := 55) hx hb dX4_without_55 rfl (lv_at hl 0 rfl) ?_
        exact mj_reti (pc := 56) hcx hW hS rfl h dX4_without_56
      · have h := h.1 c5
        refine lv_iconst (pc := 20) (v := (-1 : Int32)) hx hb dX4_without_20 (by decide) ?_
        exact mj_reti (pc := 21) hcx hW hS rfl h dX4_without_21)
/-! act -/
set_option maxHeartbeats 4000000 in
set_option maxRecDepth 100000 in
theorem mb_act {E : mj_E} {σ : mj_S} {x1 : Int32} {x2 : Int32} {x3 : Int32} {x4 : Int32} {x5 : Int32} {P : Int32 → mj_S → Prop} (hE : mj_ok E) (h : ms_keep E σ (fun σ2 => ms_doNow E σ2 x1 x2 x3 x4 x5 (fun r3 σ4 => ms_note E σ4 x1 x2 (fun σ6 => P r3 σ6)))) : ms_act E σ x1 x2 x3 x4 x5 P :=
  mj_enter (k := 25) (lv := [(0, .ref (mj_o E)), (1, .int x1), (2, .int x2), (3, .int x3), (4, .int x4), (5, .int x5)]) hE rfl (Nat.le_of_ble_eq_true rfl) rfl (by
    intro d hd p e s m args below meth c hcx H locs ls hW hS hl
    have hx := hcx.1
    have hb := hcx.2.1
    have hown := hcx.2.2.2.2.2.1
    have hts := hcx.2.2.2.2.2.2.1
    refine lv_aload_n (pc := 0) hx hb dX4_act_0 rfl (lv_at hl 0 rfl) ?_
    refine mj_cv (pc := 1) (mj_runV hcx hW [] h (Nat.le_trans (by decide) hd) (lw_V q1541 q1543 qs74 q125 q1544) yd_keep (by decide) rfl rfl (Nat.le_of_ble_eq_true rfl) hl.1 dX4_act_1) hS (fun σ2 h H locs hW hS => ?_)
    refine lv_aload_n (pc := 4) hx hb dX4_act_4 rfl (lv_at hl 0 rfl) ?_
    refine lv_iload_n (pc := 5) hx hb dX4_act_5 rfl (lv_at hl 1 rfl) ?_
    refine lv_iload_n (pc := 6) hx hb dX4_act_6 rfl (lv_at hl 2 rfl) ?_
    refine lv_iload_n (pc := 7) hx hb dX4_act_7 rfl (lv_at hl 3 rfl) ?_
    refine lv_iload (pc := 8) hx hb dX4_act_8 (lv_at hl 4 rfl) ?_
    refine lv_iload (pc := 10) hx hb dX4_act_10 (lv_at hl 5 rfl) ?_
    refine mj_ci (pc := 12) (mj_runV hcx hW [.int x1, .int x2, .int x3, .int x4, .int x5] h (Nat.le_trans (by decide) hd) (lw_V q1545 q1547 qs75 q125 q1548) yd_doNow (by decide) rfl rfl (Nat.le_of_ble_eq_true rfl) hl.1 dX4_act_12) hS (fun r3 σ4 h H locs hW hS => ?_)
    refine lv_istore (pc := 15) (lv' := [(6, .int r3), (0, .ref (mj_o E)), (1, .int x1), (2, .int x2), (3, .int x3), (4, .int x4), (5, .int x5)]) hx hb dX4_act_15 hl (by decide) rfl (fun ls hl => ?_)
    refine lv_aload_n (pc := 17) hx hb dX4_act_17 rfl (lv_at hl 1 rfl) ?_
    refine lv_iload_n (pc := 18) hx hb dX4_act_18 rfl (lv_at hl 2 rfl) ?_
    refine lv_iload_n (pc := 19) hx hb dX4_act_19 rfl (lv_at hl 3 rfl) ?_
    refine mj_cv (pc := 20) (mj_runV hcx hW [.int x1, .int x2] h (Nat.le_trans (by decide) hd) (lw_V q1557 q1559 qs78 q125 q1560) yd_note (by decide) rfl rfl (Nat.le_of_ble_eq_true rfl) hl.1 dX4_act_20) hS (fun σ6 h H locs hW hS => ?_)
    refine lv_iload (pc := 23) hx hb dX4_act_23 (lv_at hl 0 rfl) ?_
    exact mj_reti (pc := 25) hcx hW hS rfl h dX4_act_25)
/-! mean -/
set_option maxHeartbeats 4000000 in
set_option maxRecDepth 100000 in
theorem mb_mean {E : mj_E} {σ : mj_S} {x1 : Int32} {P : Int64 → mj_S → Prop} (hE : mj_ok E) (h : ms_hasMean E σ x1 (fun r1 σ2 => ((r1 = 0 → P (-1000000 : Int64) σ2) ∧ (¬ r1 = 0 → ms_meanOf E σ2 x1 (fun r4 σ5 => ms_doubleToLongBits E σ5 r4 (fun r6 σ7 => P r6 σ7)))))) : ms_mean E σ x1 P :=
  mj_enter (k := 25) (lv := [(0, .ref (mj_o E)), (1, .int x1)]) hE rfl (Nat.le_of_ble_eq_true rfl) rfl (by
    intro d hd p e s m args below meth c hcx H locs ls hW hS hl
    have hx := hcx.1
    have hb := hcx.2.1
    have hown := hcx.2.2.2.2.2.1
    have hts := hcx.2.2.2.2.2.2.1
    refine lv_aload_n (pc := 0) hx hb dX4_mean_0 rfl (lv_at hl 0 rfl) ?_
    refine lv_iload_n (pc := 1) hx hb dX4_mean_1 rfl (lv_at hl 1 rfl) ?_
    refine mj_ci (pc := 2) (mj_runV hcx hW [.int x1] h (Nat.le_trans (by decide) hd) (lw_V q1793 q1795 qs111 q125 q1796) yd_hasMean (by decide) rfl rfl (Nat.le_of_ble_eq_true rfl) hl.1 dX4_mean_2) hS (fun r1 σ2 h H locs hW hS => ?_)
    refine lv_if_eq (pc := 5) (tgt := 19) hx hb dX4_mean_5 (by decide) (fun c3 => ?_) (fun c3 => ?_)
    · have h := h.1 c3
      refine lv_ldc2 (pc := 19) (v := (-1000000 : Int64)) hx hb hown (hts _ q1802) dX4_mean_19 ?_
      exact mj_retl (pc := 22) hcx hW hS h dX4_mean_22
    · have h := h.2 c3
      refine lv_aload_n (pc := 8) hx hb dX4_mean_8 rfl (lv_at hl 0 rfl) ?_
      refine lv_iload_n (pc := 9) hx hb dX4_mean_9 rfl (lv_at hl 1 rfl) ?_
      refine mj_cd (pc := 10) (mj_runV hcx hW [.int x1] h (Nat.le_trans (by decide) hd) (lw_V q1797 q1799 qs112 q125 q1800) yd_meanOf (by decide) rfl rfl (Nat.le_of_ble_eq_true rfl) hl.1 dX4_mean_10) hS (fun r4 σ5 h H locs hW hS => ?_)
      refine mj_cl (pc := 13) (mj_runS hcx hW [.double r4] h (Nat.le_trans (by decide) hd) (lw_S q1801 q1107 q146 q1108) yd_doubleToLongBits.2 (by decide) rfl rfl (Nat.le_of_ble_eq_true rfl) hl.1 dX4_mean_13) hS (fun r6 σ7 h H locs hW hS => ?_)
      refine lv_goto (pc := 16) (tgt := 22) hx hb dX4_mean_16 (by decide) ?_
      exact mj_retl (pc := 22) hcx hW hS h dX4_mean_22)
/-! meanAs -/
set_option maxHeartbeats 4000000 in
set_option maxRecDepth 100000 in
theorem mb_meanAs {E : mj_E} {σ : mj_S} {x1 : Int32} {x2 : Int32} {P : Int32 → mj_S → Prop} (hE : mj_ok E) (h : ms_in E σ x2 (0 : Int32) (1 : Int32) (fun r1 σ2 => ((r1 = 0 → P (-1000000 : Int32) σ2) ∧ (¬ r1 = 0 → ms_hasMean E σ2 x1 (fun r4 σ5 => ((r4 = 0 → P (-1000000 : Int32) σ5) ∧ (¬ r4 = 0 → ((x2 = 0 → ms_meanOf E σ5 x1 (fun r10 σ11 => (vf_n32 (FP.d2f r10) ∧ ms_floatToIntBits E σ11 (FP.d2f r10) (fun r13 σ14 => P r13 σ14)))) ∧ (¬ x2 = 0 → ms_meanOf E σ5 x1 (fun r8 σ9 => P (FP.d2i r8) σ9)))))))))) : ms_meanAs E σ x1 x2 P :=
  mj_enter (k := 25) (lv := [(0, .ref (mj_o E)), (1, .int x1), (2, .int x2)]) hE rfl (Nat.le_of_ble_eq_true rfl) rfl (by
    intro d hd p e s m args below meth c hcx H locs ls hW hS hl
    have hx := hcx.1
    have hb := hcx.2.1
    have hown := hcx.2.2.2.2.2.1
    have hts := hcx.2.2.2.2.2.2.1
    refine lv_iload_n (pc := 0) hx hb dX4_meanAs_0 rfl (lv_at hl 2 rfl) ?_
    refine lv_iconst (pc := 1) (v := (0 : Int32)) hx hb dX4_meanAs_1 (by decide) ?_
    refine lv_iconst (pc := 2) (v := (1 : Int32)) hx hb dX4_meanAs_2 (by decide) ?_
    refine mj_ci (pc := 3) (mj_runS hcx hW [.int x2, .int (0 : Int32), .int (1 : Int32)] h (Nat.le_trans (by decide) hd) (lw_S q1401 q1402 q125 q1403) yd_in.2 (by decide) rfl rfl (Nat.le_of_ble_eq_true rfl) hl.1 dX4_meanAs_3) hS (fun r1 σ2 h H locs hW hS => ?_)
    refine lv_if_eq (pc := 6) (tgt := 17) hx hb dX4_meanAs_6 (by decide) (fun c3 => ?_) (fun c3 => ?_)
    · have h := h.1 c3
      refine lv_ldcw (pc := 17) (v := (-1000000 : Int32)) hx hb hown (hts _ q1676) dX4_meanAs_17 ?_
      exact mj_reti (pc := 20) hcx hW hS rfl h dX4_meanAs_20
    · have h := h.2 c3
      refine lv_aload_n (pc := 9) hx hb dX4_meanAs_9 rfl (lv_at hl 0 rfl) ?_
      refine lv_iload_n (pc := 10) hx hb dX4_meanAs_10 rfl (lv_at hl 1 rfl) ?_
      refine mj_ci (pc := 11) (mj_runV hcx hW [.int x1] h (Nat.le_trans (by decide) hd) (lw_V q1793 q1795 qs111 q125 q1796) yd_hasMean (by decide) rfl rfl (Nat.le_of_ble_eq_true rfl) hl.1 dX4_meanAs_11) hS (fun r4 σ5 h H locs hW hS => ?_)
      refine lv_if_ne (pc := 14) (tgt := 21) hx hb dX4_meanAs_14 (by decide) (fun c6 => ?_) (fun c6 => ?_)
      · have h := h.2 c6
        refine lv_iload_n (pc := 21) hx hb dX4_meanAs_21 rfl (lv_at hl 2 rfl) ?_
        refine lv_if_ne (pc := 22) (tgt := 37) hx hb dX4_meanAs_22 (by decide) (fun c7 => ?_) (fun c7 => ?_)
        · have h := h.2 c7
          refine lv_aload_n (pc := 37) hx hb dX4_meanAs_37 rfl (lv_at hl 0 rfl) ?_
          refine lv_iload_n (pc := 38) hx hb dX4_meanAs_38 rfl (lv_at hl 1 rfl) ?_
          refine mj_cd (pc := 39) (mj_runV hcx hW [.int x1] h (Nat.le_trans (by decide) hd) (lw_V q1797 q1799 qs112 q125 q1800) yd_meanOf (by decide) rfl rfl (Nat.le_of_ble_eq_true rfl) hl.1 dX4_meanAs_39) hS (fun r8 σ9 h H locs hW hS => ?_)
          refine lv_d2i (pc := 42) hx hb dX4_meanAs_42 ?_
          exact mj_reti (pc := 43) hcx hW hS rfl h dX4_meanAs_43
        · have h := h.1 c7
          refine lv_aload_n (pc := 25) hx hb dX4_meanAs_25 rfl (lv_at hl 0 rfl) ?_
          refine lv_iload_n (pc := 26) hx hb dX4_meanAs_26 rfl (lv_at hl 1 rfl) ?_
          refine mj_cd (pc := 27) (mj_runV hcx hW [.int x1] h (Nat.le_trans (by decide) hd) (lw_V q1797 q1799 qs112 q125 q1800) yd_meanOf (by decide) rfl rfl (Nat.le_of_ble_eq_true rfl) hl.1 dX4_meanAs_27) hS (fun r10 σ11 h H locs hW hS => ?_)
          obtain ⟨g12, h⟩ := h
          refine lv_d2f (pc := 30) hx hb dX4_meanAs_30 g12 ?_
          refine mj_ci (pc := 31) (mj_runS hcx hW [.float (FP.d2f r10)] h (Nat.le_trans (by decide) hd) (lw_S q1807 q1122 q147 q1123) yd_floatToIntBits.2 (by decide) rfl rfl (Nat.le_of_ble_eq_true rfl) hl.1 dX4_meanAs_31) hS (fun r13 σ14 h H locs hW hS => ?_)
          refine lv_goto (pc := 34) (tgt := 43) hx hb dX4_meanAs_34 (by decide) ?_
          exact mj_reti (pc := 43) hcx hW hS rfl h dX4_meanAs_43
      · have h := h.1 c6
        refine lv_ldcw (pc := 17) (v := (-1000000 : Int32)) hx hb hown (hts _ q1676) dX4_meanAs_17 ?_
        exact mj_reti (pc := 20) hcx hW hS rfl h dX4_meanAs_20)
/-! skew -/
set_option maxHeartbeats 4000000 in
set_option maxRecDepth 100000 in
theorem mb_skew {E : mj_E} {σ : mj_S} {x1 : Int32} {P : Int32 → mj_S → Prop} (hE : mj_ok E) (h : ms_hasMean E σ x1 (fun r1 σ2 => ((r1 = 0 → P (-1000000 : Int32) σ2) ∧ (¬ r1 = 0 → ms_counts E σ2 (fun σ5 => ms_extremeOf E σ5 x1 (3 : Int32) (fun r6 σ7 => (vp_in (((100 : Int32) * x1) + r6) 400 ∧ (vf_n32 (FP.fdiv (FP.i2f (mj_A σ7 34 (((100 : Int32) * x1) + r6).toNatClampNeg)) (FP.i2f (mj_F σ7 26))) ∧ ms_floatToIntBits E σ7 (FP.fdiv (FP.i2f (mj_A σ7 34 (((100 : Int32) * x1) + r6).toNatClampNeg)) (FP.i2f (mj_F σ7 26))) (fun r10 σ11 => P r10 σ11))))))))) : ms_skew E σ x1 P :=
  mj_enter (k := 25) (lv := [(0, .ref (mj_o E)), (1, .int x1)]) hE rfl (Nat.le_of_ble_eq_true rfl) rfl (by
    intro d hd p e s m args below meth c hcx H locs ls hW hS hl
    have hx := hcx.1
    have hb := hcx.2.1
    have hown := hcx.2.2.2.2.2.1
    have hts := hcx.2.2.2.2.2.2.1
    refine lv_aload_n (pc := 0) hx hb dX4_skew_0 rfl (lv_at hl 0 rfl) ?_
    refine lv_iload_n (pc := 1) hx hb dX4_skew_1 rfl (lv_at hl 1 rfl) ?_
    refine mj_ci (pc := 2) (mj_runV hcx hW [.int x1] h (Nat.le_trans (by decide) hd) (lw_V q1793 q1795 qs111 q125 q1796) yd_hasMean (by decide) rfl rfl (Nat.le_of_ble_eq_true rfl) hl.1 dX4_skew_2) hS (fun r1 σ2 h H locs hW hS => ?_)
    refine lv_if_ne (pc := 5) (tgt := 12) hx hb dX4_skew_5 (by decide) (fun c3 => ?_) (fun c3 => ?_)
    · have h := h.2 c3
      refine lv_aload_n (pc := 12) hx hb dX4_skew_12 rfl (lv_at hl 0 rfl) ?_
      refine mj_cv (pc := 13) (mj_runV hcx hW [] h (Nat.le_trans (by decide) hd) (lw_V q1749 q1751 qs106 q125 q1752) yd_counts (by decide) rfl rfl (Nat.le_of_ble_eq_true rfl) hl.1 dX4_skew_13) hS (fun σ5 h H locs hW hS => ?_)
      refine lv_aload_n (pc := 16) hx hb dX4_skew_16 rfl (lv_at hl 0 rfl) ?_
      refine mj_geta (pc := 17) hcx hW 34 (by decide) rfl q1289 dX4_skew_17 ?_
      refine lv_bipush (pc := 20) (v := (100 : Int32)) hx hb dX4_skew_20 (by decide) ?_
      refine lv_iload_n (pc := 22) hx hb dX4_skew_22 rfl (lv_at hl 1 rfl) ?_
      refine lv_imul (pc := 23) hx hb dX4_skew_23 ?_
      refine lv_aload_n (pc := 24) hx hb dX4_skew_24 rfl (lv_at hl 0 rfl) ?_
      refine lv_iload_n (pc := 25) hx hb dX4_skew_25 rfl (lv_at hl 1 rfl) ?_
      refine lv_iconst (pc := 26) (v := (3 : Int32)) hx hb dX4_skew_26 (by decide) ?_
      refine mj_ci (pc := 27) (mj_runV hcx hW [.int x1, .int (3 : Int32)] h (Nat.le_trans (by decide) hd) (lw_V q1761 q1763 qs107 q125 q1764) yd_extremeOf (by decide) rfl rfl (Nat.le_of_ble_eq_true rfl) hl.1 dX4_skew_27) hS (fun r6 σ7 h H locs hW hS => ?_)
      refine lv_iadd (pc := 30) hx hb dX4_skew_30 ?_
      obtain ⟨g8, h⟩ := h
      refine mj_ald (pc := 31) hcx hW 34 rfl rfl g8 dX4_skew_31 ?_
      refine lv_istore_n (pc := 32) (lv' := [(2, .int (mj_A σ7 34 (((100 : Int32) * x1) + r6).toNatClampNeg)), (0, .ref (mj_o E)), (1, .int x1)]) hx hb dX4_skew_32 rfl hl (by decide) rfl (fun ls hl => ?_)
      refine lv_iload_n (pc := 33) hx hb dX4_skew_33 rfl (lv_at hl 0 rfl) ?_
      refine lv_i2f (pc := 34) hx hb dX4_skew_34 ?_
      refine lv_aload_n (pc := 35) hx hb dX4_skew_35 rfl (lv_at hl 1 rfl) ?_
      refine mj_geti (pc := 36) hcx hW 26 (by decide) rfl q1281 dX4_skew_36 ?_
      refine lv_i2f (pc := 39) hx hb dX4_skew_39 ?_
      obtain ⟨g9, h⟩ := h
      refine lv_fdiv (pc := 40) hx hb dX4_skew_40 g9 ?_
      refine mj_ci (pc := 41) (mj_runS hcx hW [.float (FP.fdiv (FP.i2f (mj_A σ7 34 (((100 : Int32) * x1) + r6).toNatClampNeg)) (FP.i2f (mj_F σ7 26)))] h (Nat.le_trans (by decide) hd) (lw_S q1807 q1122 q147 q1123) yd_floatToIntBits.2 (by decide) rfl rfl (Nat.le_of_ble_eq_true rfl) hl.1 dX4_skew_41) hS (fun r10 σ11 h H locs hW hS => ?_)
      exact mj_reti (pc := 44) hcx hW hS rfl h dX4_skew_44
    · have h := h.1 c3
      refine lv_ldcw (pc := 8) (v := (-1000000 : Int32)) hx hb hown (hts _ q1676) dX4_skew_8 ?_
      exact mj_reti (pc := 11) hcx hW hS rfl h dX4_skew_11)
/-! spread -/
set_option maxHeartbeats 4000000 in
set_option maxRecDepth 100000 in
theorem mb_spread_24 {E : mj_E} {σ : mj_S} {x1 : Int32} {x2 : UInt64} {x4 : UInt64} {x6 : Int32} {P : Int64 → mj_S → Prop} (h : (((mj_F σ 26) ≤ x6 → (vf_n64 (FP.ddiv x4 (FP.i2d (mj_F σ 26))) ∧ ms_doubleToLongBits E σ (FP.ddiv x4 (FP.i2d (mj_F σ 26))) (fun r3 σ4 => P r3 σ4))) ∧ (¬ (mj_F σ 26) ≤ x6 → ms_numberOf E σ x6 x1 (fun r5 σ6 => (vf_n64 (FP.dsub (FP.i2d r5) x2) ∧ ((0 ≤ (Op.cmpValue (FP.dcmp (FP.dsub (FP.i2d r5) x2) FP.dconst0) .g) → (vf_n64 (FP.dadd x4 (FP.dsub (FP.i2d r5) x2)) ∧ mg_spread_24 E σ6 x1 x2 (FP.dadd x4 (FP.dsub (FP.i2d r5) x2)) (x6 + (1 : Int32)) P)) ∧ (¬ 0 ≤ (Op.cmpValue (FP.dcmp (FP.dsub (FP.i2d r5) x2) FP.dconst0) .g) → (vf_n64 (FP.dadd x4 (FP.dneg (FP.dsub (FP.i2d r5) x2))) ∧ mg_spread_24 E σ6 x1 x2 (FP.dadd x4 (FP.dneg (FP.dsub (FP.i2d r5) x2))) (x6 + (1 : Int32)) P)))))))) : mg_spread_24 E σ x1 x2 x4 x6 P := by
  intro d hd p e s m args below meth c hcx H locs ls hW hS hl
  have hx := hcx.1
  have hb := hcx.2.1
  have hown := hcx.2.2.2.2.2.1
  have hts := hcx.2.2.2.2.2.2.1
  refine lv_iload (pc := 24) hx hb dX4_spread_24 (lv_at hl 4 rfl) ?_
  refine lv_aload_n (pc := 26) hx hb dX4_spread_26 rfl (lv_at hl 0 rfl) ?_
  refine mj_geti (pc := 27) hcx hW 26 (by decide) rfl q1281 dX4_spread_27 ?_
  refine lv_icmp_ge (pc := 30) (tgt := 71) hx hb dX4_spread_30 (by decide) (fun c1 => ?_) (fun c1 => ?_)
  · have h := h.1 c1
    refine lv_dload (pc := 71) hx hb dX4_spread_71 (lv_at hl 3 rfl) ?_
    refine lv_aload_n (pc := 73) hx hb dX4_spread_73 rfl (lv_at hl 0 rfl) ?_
    refine mj_geti (pc := 74) hcx hW 26 (by decide) rfl q1281 dX4_spread_74 ?_
    refine lv_i2d (pc := 77) hx hb dX4_spread_77 ?_
    obtain ⟨g2, h⟩ := h
    refine lv_ddiv (pc := 78) hx hb dX4_spread_78 g2 ?_
    refine mj_cl (pc := 79) (mj_runS hcx hW [.double (FP.ddiv x4 (FP.i2d (mj_F σ 26)))] h (Nat.le_trans (by decide) hd) (lw_S q1801 q1107 q146 q1108) yd_doubleToLongBits.2 (by decide) rfl rfl (Nat.le_of_ble_eq_true rfl) hl.1 dX4_spread_79) hS (fun r3 σ4 h H locs hW hS => ?_)
    exact mj_retl (pc := 82) hcx hW hS h dX4_spread_82
  · have h := h.2 c1
    refine lv_aload_n (pc := 33) hx hb dX4_spread_33 rfl (lv_at hl 0 rfl) ?_
    refine lv_iload (pc := 34) hx hb dX4_spread_34 (lv_at hl 4 rfl) ?_
    refine lv_iload_n (pc := 36) hx hb dX4_spread_36 rfl (lv_at hl 1 rfl) ?_
    refine mj_ci (pc := 37) (mj_runV hcx hW [.int x6, .int x1] h (Nat.le_trans (by decide) hd) (lw_V q1705 q1707 qs102 q125 q1708) yd_numberOf (by decide) rfl rfl (Nat.le_of_ble_eq_true rfl) hl.1 dX4_spread_37) hS (fun r5 σ6 h H locs hW hS => ?_)
    refine lv_i2d (pc := 40) hx hb dX4_spread_40 ?_
    refine lv_dload_n (pc := 41) hx hb dX4_spread_41 rfl (lv_at hl 2 rfl) ?_
    obtain ⟨g7, h⟩ := h
    refine lv_dsub (pc := 42) hx hb dX4_spread_42 g7 ?_
    refine lv_dstore (pc := 43) (lv' := [(7, .double (FP.dsub (FP.i2d r5) x2)), (0, .ref (mj_o E)), (1, .int x1), (2, .double x2), (4, .double x4), (6, .int x6)]) hx hb dX4_spread_43 hl (by decide) rfl (fun ls hl => ?_)
    refine lv_dload (pc := 45) hx hb dX4_spread_45 (lv_at hl 4 rfl) ?_
    refine lv_dload (pc := 47) hx hb dX4_spread_47 (lv_at hl 0 rfl) ?_
    refine lv_dconst0 (pc := 49) hx hb dX4_spread_49 ?_
    refine lv_dcmp (pc := 50) hx hb dX4_spread_50 ?_
    refine lv_if_ge (pc := 51) (tgt := 60) hx hb dX4_spread_51 (by decide) (fun c8 => ?_) (fun c8 => ?_)
    · have h := h.1 c8
      refine lv_dload (pc := 60) hx hb dX4_spread_60 (lv_at hl 0 rfl) ?_
      obtain ⟨g9, h⟩ := h
      refine lv_dadd (pc := 62) hx hb dX4_spread_62 g9 ?_
      refine lv_dstore (pc := 63) (lv' := [(4, .double (FP.dadd x4 (FP.dsub (FP.i2d r5) x2))), (7, .double (FP.dsub (FP.i2d r5) x2)), (0, .ref (mj_o E)), (1, .int x1), (2, .double x2), (6, .int x6)]) hx hb dX4_spread_63 hl (by decide) rfl (fun ls hl => ?_)
      refine lv_iinc (pc := 65) (v := (x6 + (1 : Int32))) (lv' := [(6, .int (x6 + (1 : Int32))), (4, .double (FP.dadd x4 (FP.dsub (FP.i2d r5) x2))), (7, .double (FP.dsub (FP.i2d r5) x2)), (0, .ref (mj_o E)), (1, .int x1), (2, .double x2)]) hx hb dX4_spread_65 hl (k := 5) rfl rfl (by decide) rfl (fun ls hl => ?_)
      refine lv_goto (pc := 68) (tgt := 24) hx hb dX4_spread_68 (by decide) ?_
      exact h d hd p e s m args below meth c hcx H locs _ hW hS (lv_sub hl [3, 4, 5, 1, 0] rfl)
    · have h := h.2 c8
      refine lv_dload (pc := 54) hx hb dX4_spread_54 (lv_at hl 0 rfl) ?_
      refine lv_dneg (pc := 56) hx hb dX4_spread_56 ?_
      refine lv_goto (pc := 57) (tgt := 62) hx hb dX4_spread_57 (by decide) ?_
      obtain ⟨g10, h⟩ := h
      refine lv_dadd (pc := 62) hx hb dX4_spread_62 g10 ?_
      refine lv_dstore (pc := 63) (lv' := [(4, .double (FP.dadd x4 (FP.dneg (FP.dsub (FP.i2d r5) x2)))), (7, .double (FP.dsub (FP.i2d r5) x2)), (0, .ref (mj_o E)), (1, .int x1), (2, .double x2), (6, .int x6)]) hx hb dX4_spread_63 hl (by decide) rfl (fun ls hl => ?_)
      refine lv_iinc (pc := 65) (v := (x6 + (1 : Int32))) (lv' := [(6, .int (x6 + (1 : Int32))), (4, .double (FP.dadd x4 (FP.dneg (FP.dsub (FP.i2d r5) x2)))), (7, .double (FP.dsub (FP.i2d r5) x2)), (0, .ref (mj_o E)), (1, .int x1), (2, .double x2)]) hx hb dX4_spread_65 hl (k := 5) rfl rfl (by decide) rfl (fun ls hl => ?_)
      refine lv_goto (pc := 68) (tgt := 24) hx hb dX4_spread_68 (by decide) ?_
      exact h d hd p e s m args below meth c hcx H locs _ hW hS (lv_sub hl [3, 4, 5, 1, 0] rfl)
set_option maxHeartbeats 4000000 in
set_option maxRecDepth 100000 in
theorem mb_spread {E : mj_E} {σ : mj_S} {x1 : Int32} {P : Int64 → mj_S → Prop} (hE : mj_ok E) (h : ms_hasMean E σ x1 (fun r1 σ2 => ((r1 = 0 → P (-1000000 : Int64) σ2) ∧ (¬ r1 = 0 → ms_meanOf E σ2 x1 (fun r4 σ5 => mg_spread_24 E σ5 x1 r4 FP.dconst0 (0 : Int32) P))))) : ms_spread E σ x1 P :=
  mj_enter (k := 25) (lv := [(0, .ref (mj_o E)), (1, .int x1)]) hE rfl (Nat.le_of_ble_eq_true rfl) rfl (by
    intro d hd p e s m args below meth c hcx H locs ls hW hS hl
    have hx := hcx.1
    have hb := hcx.2.1
    have hown := hcx.2.2.2.2.2.1
    have hts := hcx.2.2.2.2.2.2.1
    refine lv_aload_n (pc := 0) hx hb dX4_spread_0 rfl (lv_at hl 0 rfl) ?_
    refine lv_iload_n (pc := 1) hx hb dX4_spread_1 rfl (lv_at hl 1 rfl) ?_
    refine mj_ci (pc := 2) (mj_runV hcx hW [.int x1] h (Nat.le_trans (by decide) hd) (lw_V q1793 q1795 qs111 q125 q1796) yd_hasMean (by decide) rfl rfl (Nat.le_of_ble_eq_true rfl) hl.1 dX4_spread_2) hS (fun r1 σ2 h H locs hW hS => ?_)
    refine lv_if_ne (pc := 5) (tgt := 12) hx hb dX4_spread_5 (by decide) (fun c3 => ?_) (fun c3 => ?_)
    · have h := h.2 c3
      refine lv_aload_n (pc := 12) hx hb dX4_spread_12 rfl (lv_at hl 0 rfl) ?_
      refine lv_iload_n (pc := 13) hx hb dX4_spread_13 rfl (lv_at hl 1 rfl) ?_
      refine mj_cd (pc := 14) (mj_runV hcx hW [.int x1] h (Nat.le_trans (by decide) hd) (lw_V q1797 q1799 qs112 q125 q1800) yd_meanOf (by decide) rfl rfl (Nat.le_of_ble_eq_true rfl) hl.1 dX4_spread_14) hS (fun r4 σ5 h H locs hW hS => ?_)
      refine lv_dstore_n (pc := 17) (lv' := [(2, .double r4), (0, .ref (mj_o E)), (1, .int x1)]) hx hb dX4_spread_17 rfl hl (by decide) rfl (fun ls hl => ?_)
      refine lv_dconst0 (pc := 18) hx hb dX4_spread_18 ?_
      refine lv_dstore (pc := 19) (lv' := [(4, .double FP.dconst0), (2, .double r4), (0, .ref (mj_o E)), (1, .int x1)]) hx hb dX4_spread_19 hl (by decide) rfl (fun ls hl => ?_)
      refine lv_iconst (pc := 21) (v := (0 : Int32)) hx hb dX4_spread_21 (by decide) ?_
      refine lv_istore (pc := 22) (lv' := [(6, .int (0 : Int32)), (4, .double FP.dconst0), (2, .double r4), (0, .ref (mj_o E)), (1, .int x1)]) hx hb dX4_spread_22 hl (by decide) rfl (fun ls hl => ?_)
      exact h d hd p e s m args below meth c hcx H locs _ hW hS (lv_sub hl [3, 4, 2, 1, 0] rfl)
    · have h := h.1 c3
      refine lv_ldc2 (pc := 8) (v := (-1000000 : Int64)) hx hb hown (hts _ q1802) dX4_spread_8 ?_
      exact mj_retl (pc := 11) hcx hW hS h dX4_spread_11)
/-! goSteps -/
set_option maxHeartbeats 4000000 in
set_option maxRecDepth 100000 in
theorem mb_goSteps_2 {E : mj_E} {σ : mj_S} {x1 : Int32} {x2 : Int32} {x3 : Int32} {P : Int32 → mj_S → Prop} (h : (vp_in x1 5 ∧ (((mj_A σ 11 x1.toNatClampNeg) ≤ x3 → (vp_in x1 5 ∧ P (mj_A σ 11 x1.toNatClampNeg) σ)) ∧ (¬ (mj_A σ 11 x1.toNatClampNeg) ≤ x3 → (vp_in ((5 : Int32) * (((12 : Int32) * x1) + x3)) 300 ∧ (vp_in (((5 : Int32) * (((12 : Int32) * x1) + x3)) + (1 : Int32)) 300 ∧ (vp_in (((5 : Int32) * (((12 : Int32) * x1) + x3)) + (2 : Int32)) 300 ∧ (vp_in (((5 : Int32) * (((12 : Int32) * x1) + x3)) + (3 : Int32)) 300 ∧ (vp_in (((5 : Int32) * (((12 : Int32) * x1) + x3)) + (4 : Int32)) 300 ∧ ms_whyNot E σ (mj_A σ 10 ((5 : Int32) * (((12 : Int32) * x1) + x3)).toNatClampNeg) (mj_A σ 10 (((5 : Int32) * (((12 : Int32) * x1) + x3)) + (1 : Int32)).toNatClampNeg) (mj_A σ 10 (((5 : Int32) * (((12 : Int32) * x1) + x3)) + (2 : Int32)).toNatClampNeg) (mj_A σ 10 (((5 : Int32) * (((12 : Int32) * x1) + x3)) + (3 : Int32)).toNatClampNeg) (mj_A σ 10 (((5 : Int32) * (((12 : Int32) * x1) + x3)) + (4 : Int32)).toNatClampNeg) (fun r9 σ10 => ((r9 = (-1 : Int32) → ((x2 = 0 → (vp_in ((5 : Int32) * (((12 : Int32) * x1) + x3)) 300 ∧ (vp_in (((5 : Int32) * (((12 : Int32) * x1) + x3)) + (1 : Int32)) 300 ∧ (vp_in (((5 : Int32) * (((12 : Int32) * x1) + x3)) + (2 : Int32)) 300 ∧ (vp_in (((5 : Int32) * (((12 : Int32) * x1) + x3)) + (3 : Int32)) 300 ∧ (vp_in (((5 : Int32) * (((12 : Int32) * x1) + x3)) + (4 : Int32)) 300 ∧ ms_doNow E σ10 (mj_A σ10 10 ((5 : Int32) * (((12 : Int32) * x1) + x3)).toNatClampNeg) (mj_A σ10 10 (((5 : Int32) * (((12 : Int32) * x1) + x3)) + (1 : Int32)).toNatClampNeg) (mj_A σ10 10 (((5 : Int32) * (((12 : Int32) * x1) + x3)) + (2 : Int32)).toNatClampNeg) (mj_A σ10 10 (((5 : Int32) * (((12 : Int32) * x1) + x3)) + (3 : Int32)).toNatClampNeg) (mj_A σ10 10 (((5 : Int32) * (((12 : Int32) * x1) + x3)) + (4 : Int32)).toNatClampNeg) (fun r18 σ19 => mg_goSteps_2 E σ19 x1 x2 (x3 + (1 : Int32)) P))))))) ∧ (¬ x2 = 0 → (vp_in ((5 : Int32) * (((12 : Int32) * x1) + x3)) 300 ∧ (vp_in (((5 : Int32) * (((12 : Int32) * x1) + x3)) + (1 : Int32)) 300 ∧ (vp_in (((5 : Int32) * (((12 : Int32) * x1) + x3)) + (2 : Int32)) 300 ∧ (vp_in (((5 : Int32) * (((12 : Int32) * x1) + x3)) + (3 : Int32)) 300 ∧ (vp_in (((5 : Int32) * (((12 : Int32) * x1) + x3)) + (4 : Int32)) 300 ∧ ms_act E σ10 (mj_A σ10 10 ((5 : Int32) * (((12 : Int32) * x1) + x3)).toNatClampNeg) (mj_A σ10 10 (((5 : Int32) * (((12 : Int32) * x1) + x3)) + (1 : Int32)).toNatClampNeg) (mj_A σ10 10 (((5 : Int32) * (((12 : Int32) * x1) + x3)) + (2 : Int32)).toNatClampNeg) (mj_A σ10 10 (((5 : Int32) * (((12 : Int32) * x1) + x3)) + (3 : Int32)).toNatClampNeg) (mj_A σ10 10 (((5 : Int32) * (((12 : Int32) * x1) + x3)) + (4 : Int32)).toNatClampNeg) (fun r25 σ26 => mg_goSteps_2 E σ26 x1 x2 (x3 + (1 : Int32)) P))))))))) ∧ (¬ r9 = (-1 : Int32) → P x3 σ10)))))))))))) : mg_goSteps_2 E σ x1 x2 x3 P := by
  intro d hd p e s m args below meth c hcx H locs ls hW hS hl
  have hx := hcx.1
  have hb := hcx.2.1
  have hown := hcx.2.2.2.2.2.1
  have hts := hcx.2.2.2.2.2.2.1
  refine lv_iload_n (pc := 2) hx hb dX4_goSteps_2 rfl (lv_at hl 3 rfl) ?_
  refine lv_aload_n (pc := 3) hx hb dX4_goSteps_3 rfl (lv_at hl 0 rfl) ?_
  refine mj_geta (pc := 4) hcx hW 11 (by decide) rfl q1266 dX4_goSteps_4 ?_
  refine lv_iload_n (pc := 7) hx hb dX4_goSteps_7 rfl (lv_at hl 1 rfl) ?_
  obtain ⟨g1, h⟩ := h
  refine mj_ald (pc := 8) hcx hW 11 rfl rfl g1 dX4_goSteps_8 ?_
  refine lv_icmp_ge (pc := 9) (tgt := 184) hx hb dX4_goSteps_9 (by decide) (fun c2 => ?_) (fun c2 => ?_)
  · have h := h.1 c2
    refine lv_aload_n (pc := 184) hx hb dX4_goSteps_184 rfl (lv_at hl 0 rfl) ?_
    refine mj_geta (pc := 185) hcx hW 11 (by decide) rfl q1266 dX4_goSteps_185 ?_
    refine lv_iload_n (pc := 188) hx hb dX4_goSteps_188 rfl (lv_at hl 1 rfl) ?_
    obtain ⟨g3, h⟩ := h
    refine mj_ald (pc := 189) hcx hW 11 rfl rfl g3 dX4_goSteps_189 ?_
    exact mj_reti (pc := 190) hcx hW hS rfl h dX4_goSteps_190
  · have h := h.2 c2
    refine lv_iconst (pc := 12) (v := (5 : Int32)) hx hb dX4_goSteps_12 (by decide) ?_
    refine lv_bipush (pc := 13) (v := (12 : Int32)) hx hb dX4_goSteps_13 (by decide) ?_
    refine lv_iload_n (pc := 15) hx hb dX4_goSteps_15 rfl (lv_at hl 1 rfl) ?_
    refine lv_imul (pc := 16) hx hb dX4_goSteps_16 ?_
    refine lv_iload_n (pc := 17) hx hb dX4_goSteps_17 rfl (lv_at hl 3 rfl) ?_
    refine lv_iadd (pc := 18) hx hb dX4_goSteps_18 ?_
    refine lv_imul (pc := 19) hx hb dX4_goSteps_19 ?_
    refine lv_istore (pc := 20) (lv' := [(4, .int ((5 : Int32) * (((12 : Int32) * x1) + x3))), (0, .ref (mj_o E)), (1, .int x1), (2, .int x2), (3, .int x3)]) hx hb dX4_goSteps_20 hl (by decide) rfl (fun ls hl => ?_)
    refine lv_aload_n (pc := 22) hx hb dX4_goSteps_22 rfl (lv_at hl 1 rfl) ?_
    refine lv_aload_n (pc := 23) hx hb dX4_goSteps_23 rfl (lv_at hl 1 rfl) ?_
    refine mj_geta (pc := 24) hcx hW 10 (by decide) rfl q1265 dX4_goSteps_24 ?_
    refine lv_iload (pc := 27) hx hb dX4_goSteps_27 (lv_at hl 0 rfl) ?_
    obtain ⟨g4, h⟩ := h
    refine mj_ald (pc := 29) hcx hW 10 rfl rfl g4 dX4_goSteps_29 ?_
    refine lv_aload_n (pc := 30) hx hb dX4_goSteps_30 rfl (lv_at hl 1 rfl) ?_
    refine mj_geta (pc := 31) hcx hW 10 (by decide) rfl q1265 dX4_goSteps_31 ?_
    refine lv_iload (pc := 34) hx hb dX4_goSteps_34 (lv_at hl 0 rfl) ?_
    refine lv_iconst (pc := 36) (v := (1 : Int32)) hx hb dX4_goSteps_36 (by decide) ?_
    refine lv_iadd (pc := 37) hx hb dX4_goSteps_37 ?_
    obtain ⟨g5, h⟩ := h
    refine mj_ald (pc := 38) hcx hW 10 rfl rfl g5 dX4_goSteps_38 ?_
    refine lv_aload_n (pc := 39) hx hb dX4_goSteps_39 rfl (lv_at hl 1 rfl) ?_
    refine mj_geta (pc := 40) hcx hW 10 (by decide) rfl q1265 dX4_goSteps_40 ?_
    refine lv_iload (pc := 43) hx hb dX4_goSteps_43 (lv_at hl 0 rfl) ?_
    refine lv_iconst (pc := 45) (v := (2 : Int32)) hx hb dX4_goSteps_45 (by decide) ?_
    refine lv_iadd (pc := 46) hx hb dX4_goSteps_46 ?_
    obtain ⟨g6, h⟩ := h
    refine mj_ald (pc := 47) hcx hW 10 rfl rfl g6 dX4_goSteps_47 ?_
    refine lv_aload_n (pc := 48) hx hb dX4_goSteps_48 rfl (lv_at hl 1 rfl) ?_
    refine mj_geta (pc := 49) hcx hW 10 (by decide) rfl q1265 dX4_goSteps_49 ?_
    refine lv_iload (pc := 52) hx hb dX4_goSteps_52 (lv_at hl 0 rfl) ?_
    refine lv_iconst (pc := 54) (v := (3 : Int32)) hx hb dX4_goSteps_54 (by decide) ?_
    refine lv_iadd (pc := 55) hx hb dX4_goSteps_55 ?_
    obtain ⟨g7, h⟩ := h
    refine mj_ald (pc := 56) hcx hW 10 rfl rfl g7 dX4_goSteps_56 ?_
    refine lv_aload_n (pc := 57) hx hb dX4_goSteps_57 rfl (lv_at hl 1 rfl) ?_
    refine mj_geta (pc := 58) hcx hW 10 (by decide) rfl q1265 dX4_goSteps_58 ?_
    refine lv_iload (pc := 61) hx hb dX4_goSteps_61 (lv_at hl 0 rfl) ?_
    refine lv_iconst (pc := 63) (v := (4 : Int32)) hx hb dX4_goSteps_63 (by decide) ?_
    refine lv_iadd (pc := 64) hx hb dX4_goSteps_64 ?_
    obtain ⟨g8, h⟩ := h
    refine mj_ald (pc := 65) hcx hW 10 rfl rfl g8 dX4_goSteps_65 ?_
    refine mj_ci (pc := 66) (mj_runV hcx hW [.int (mj_A σ 10 ((5 : Int32) * (((12 : Int32) * x1) + x3)).toNatClampNeg), .int (mj_A σ 10 (((5 : Int32) * (((12 : Int32) * x1) + x3)) + (1 : Int32)).toNatClampNeg), .int (mj_A σ 10 (((5 : Int32) * (((12 : Int32) * x1) + x3)) + (2 : Int32)).toNatClampNeg), .int (mj_A σ 10 (((5 : Int32) * (((12 : Int32) * x1) + x3)) + (3 : Int32)).toNatClampNeg), .int (mj_A σ 10 (((5 : Int32) * (((12 : Int32) * x1) + x3)) + (4 : Int32)).toNatClampNeg)] h (Nat.le_trans (by decide) hd) (lw_V q1513 q1515 qs67 q125 q1516) yd_whyNot (by decide) rfl rfl (Nat.le_of_ble_eq_true rfl) hl.1 dX4_goSteps_66) hS (fun r9 σ10 h H locs hW hS => ?_)
    refine lv_iconst (pc := 69) (v := (-1 : Int32)) hx hb dX4_goSteps_69 (by decide) ?_
    refine lv_icmp_eq (pc := 70) (tgt := 75) hx hb dX4_goSteps_70 (by decide) (fun c11 => ?_) (fun c11 => ?_)
    · have h := h.1 c11
      refine lv_iload_n (pc := 75) hx hb dX4_goSteps_75 rfl (lv_at hl 3 rfl) ?_
      refine lv_if_eq (pc := 76) (tgt := 130) hx hb dX4_goSteps_76 (by decide) (fun c12 => ?_) (fun c12 => ?_)
      · have h := h.1 c12
        refine lv_aload_n (pc := 130) hx hb dX4_goSteps_130 rfl (lv_at hl 1 rfl) ?_
        refine lv_aload_n (pc := 131) hx hb dX4_goSteps_131 rfl (lv_at hl 1 rfl) ?_
        refine mj_geta (pc := 132) hcx hW 10 (by decide) rfl q1265 dX4_goSteps_132 ?_
        refine lv_iload (pc := 135) hx hb dX4_goSteps_135 (lv_at hl 0 rfl) ?_
        obtain ⟨g13, h⟩ := h
        refine mj_ald (pc := 137) hcx hW 10 rfl rfl g13 dX4_goSteps_137 ?_
        refine lv_aload_n (pc := 138) hx hb dX4_goSteps_138 rfl (lv_at hl 1 rfl) ?_
        refine mj_geta (pc := 139) hcx hW 10 (by decide) rfl q1265 dX4_goSteps_139 ?_
        refine lv_iload (pc := 142) hx hb dX4_goSteps_142 (lv_at hl 0 rfl) ?_
        refine lv_iconst (pc := 144) (v := (1 : Int32)) hx hb dX4_goSteps_144 (by decide) ?_
        refine lv_iadd (pc := 145) hx hb dX4_goSteps_145 ?_
        obtain ⟨g14, h⟩ := h
        refine mj_ald (pc := 146) hcx hW 10 rfl rfl g14 dX4_goSteps_146 ?_
        refine lv_aload_n (pc := 147) hx hb dX4_goSteps_147 rfl (lv_at hl 1 rfl) ?_
        refine mj_geta (pc := 148) hcx hW 10 (by decide) rfl q1265 dX4_goSteps_148 ?_
        refine lv_iload (pc := 151) hx hb dX4_goSteps_151 (lv_at hl 0 rfl) ?_
        refine lv_iconst (pc := 153) (v := (2 : Int32)) hx hb dX4_goSteps_153 (by decide) ?_
        refine lv_iadd (pc := 154) hx hb dX4_goSteps_154 ?_
        obtain ⟨g15, h⟩ := h
        refine mj_ald (pc := 155) hcx hW 10 rfl rfl g15 dX4_goSteps_155 ?_
        refine lv_aload_n (pc := 156) hx hb dX4_goSteps_156 rfl (lv_at hl 1 rfl) ?_
        refine mj_geta (pc := 157) hcx hW 10 (by decide) rfl q1265 dX4_goSteps_157 ?_
        refine lv_iload (pc := 160) hx hb dX4_goSteps_160 (lv_at hl 0 rfl) ?_
        refine lv_iconst (pc := 162) (v := (3 : Int32)) hx hb dX4_goSteps_162 (by decide) ?_
        refine lv_iadd (pc := 163) hx hb dX4_goSteps_163 ?_
        obtain ⟨g16, h⟩ := h
        refine mj_ald (pc := 164) hcx hW 10 rfl rfl g16 dX4_goSteps_164 ?_
        refine lv_aload_n (pc := 165) hx hb dX4_goSteps_165 rfl (lv_at hl 1 rfl) ?_
        refine mj_geta (pc := 166) hcx hW 10 (by decide) rfl q1265 dX4_goSteps_166 ?_
        refine lv_iload (pc := 169) hx hb dX4_goSteps_169 (lv_at hl 0 rfl) ?_
        refine lv_iconst (pc := 171) (v := (4 : Int32)) hx hb dX4_goSteps_171 (by decide) ?_
        refine lv_iadd (pc := 172) hx hb dX4_goSteps_172 ?_
        obtain ⟨g17, h⟩ := h
        refine mj_ald (pc := 173) hcx hW 10 rfl rfl g17 dX4_goSteps_173 ?_
        refine mj_ci (pc := 174) (mj_runV hcx hW [.int (mj_A σ10 10 ((5 : Int32) * (((12 : Int32) * x1) + x3)).toNatClampNeg), .int (mj_A σ10 10 (((5 : Int32) * (((12 : Int32) * x1) + x3)) + (1 : Int32)).toNatClampNeg), .int (mj_A σ10 10 (((5 : Int32) * (((12 : Int32) * x1) + x3)) + (2 : Int32)).toNatClampNeg), .int (mj_A σ10 10 (((5 : Int32) * (((12 : Int32) * x1) + x3)) + (3 : Int32)).toNatClampNeg), .int (mj_A σ10 10 (((5 : Int32) * (((12 : Int32) * x1) + x3)) + (4 : Int32)).toNatClampNeg)] h (Nat.le_trans (by decide) hd) (lw_V q1545 q1547 qs75 q125 q1548) yd_doNow (by decide) rfl rfl (Nat.le_of_ble_eq_true rfl) hl.1 dX4_goSteps_174) hS (fun r18 σ19 h H locs hW hS => ?_)
        refine lv_pop (pc := 177) hx hb dX4_goSteps_177 rfl ?_
        refine lv_iinc (pc := 178) (v := (x3 + (1 : Int32))) (lv' := [(3, .int (x3 + (1 : Int32))), (4, .int ((5 : Int32) * (((12 : Int32) * x1) + x3))), (0, .ref (mj_o E)), (1, .int x1), (2, .int x2)]) hx hb dX4_goSteps_178 hl (k := 4) rfl rfl (by decide) rfl (fun ls hl => ?_)
        refine lv_goto (pc := 181) (tgt := 2) hx hb dX4_goSteps_181 (by decide) ?_
        exact h d hd p e s m args below meth c hcx H locs _ hW hS (lv_sub hl [2, 3, 4, 0] rfl)
      · have h := h.2 c12
        refine lv_aload_n (pc := 79) hx hb dX4_goSteps_79 rfl (lv_at hl 1 rfl) ?_
        refine lv_aload_n (pc := 80) hx hb dX4_goSteps_80 rfl (lv_at hl 1 rfl) ?_
        refine mj_geta (pc := 81) hcx hW 10 (by decide) rfl q1265 dX4_goSteps_81 ?_
        refine lv_iload (pc := 84) hx hb dX4_goSteps_84 (lv_at hl 0 rfl) ?_
        obtain ⟨g20, h⟩ := h
        refine mj_ald (pc := 86) hcx hW 10 rfl rfl g20 dX4_goSteps_86 ?_
        refine lv_aload_n (pc := 87) hx hb dX4_goSteps_87 rfl (lv_at hl 1 rfl) ?_
        refine mj_geta (pc := 88) hcx hW 10 (by decide) rfl q1265 dX4_goSteps_88 ?_
        refine lv_iload (pc := 91) hx hb dX4_goSteps_91 (lv_at hl 0 rfl) ?_
        refine lv_iconst (pc := 93) (v := (1 : Int32)) hx hb dX4_goSteps_93 (by decide) ?_
        refine lv_iadd (pc := 94) hx hb dX4_goSteps_94 ?_
        obtain ⟨g21, h⟩ := h
        refine mj_ald (pc := 95) hcx hW 10 rfl rfl g21 dX4_goSteps_95 ?_
        refine lv_aload_n (pc := 96) hx hb dX4_goSteps_96 rfl (lv_at hl 1 rfl) ?_
        refine mj_geta (pc := 97) hcx hW 10 (by decide) rfl q1265 dX4_goSteps_97 ?_
        refine lv_iload (pc := 100) hx hb dX4_goSteps_100 (lv_at hl 0 rfl) ?_
        refine lv_iconst (pc := 102) (v := (2 : Int32)) hx hb dX4_goSteps_102 (by decide) ?_
        refine lv_iadd (pc := 103) hx hb dX4_goSteps_103 ?_
        obtain ⟨g22, h⟩ := h
        refine mj_ald (pc := 104) hcx hW 10 rfl rfl g22 dX4_goSteps_104 ?_
        refine lv_aload_n (pc := 105) hx hb dX4_goSteps_105 rfl (lv_at hl 1 rfl) ?_
        refine mj_geta (pc := 106) hcx hW 10 (by decide) rfl q1265 dX4_goSteps_106 ?_
        refine lv_iload (pc := 109) hx hb dX4_goSteps_109 (lv_at hl 0 rfl) ?_
        refine lv_iconst (pc := 111) (v := (3 : Int32)) hx hb dX4_goSteps_111 (by decide) ?_
        refine lv_iadd (pc := 112) hx hb dX4_goSteps_112 ?_
        obtain ⟨g23, h⟩ := h
        refine mj_ald (pc := 113) hcx hW 10 rfl rfl g23 dX4_goSteps_113 ?_
        refine lv_aload_n (pc := 114) hx hb dX4_goSteps_114 rfl (lv_at hl 1 rfl) ?_
        refine mj_geta (pc := 115) hcx hW 10 (by decide) rfl q1265 dX4_goSteps_115 ?_
        refine lv_iload (pc := 118) hx hb dX4_goSteps_118 (lv_at hl 0 rfl) ?_
        refine lv_iconst (pc := 120) (v := (4 : Int32)) hx hb dX4_goSteps_120 (by decide) ?_
        refine lv_iadd (pc := 121) hx hb dX4_goSteps_121 ?_
        obtain ⟨g24, h⟩ := h
        refine mj_ald (pc := 122) hcx hW 10 rfl rfl g24 dX4_goSteps_122 ?_
        refine mj_ci (pc := 123) (mj_runV hcx hW [.int (mj_A σ10 10 ((5 : Int32) * (((12 : Int32) * x1) + x3)).toNatClampNeg), .int (mj_A σ10 10 (((5 : Int32) * (((12 : Int32) * x1) + x3)) + (1 : Int32)).toNatClampNeg), .int (mj_A σ10 10 (((5 : Int32) * (((12 : Int32) * x1) + x3)) + (2 : Int32)).toNatClampNeg), .int (mj_A σ10 10 (((5 : Int32) * (((12 : Int32) * x1) + x3)) + (3 : Int32)).toNatClampNeg), .int (mj_A σ10 10 (((5 : Int32) * (((12 : Int32) * x1) + x3)) + (4 : Int32)).toNatClampNeg)] h (Nat.le_trans (by decide) hd) (lw_V q1537 q1539 qs73 q125 q1540) yd_act (by decide) rfl rfl (Nat.le_of_ble_eq_true rfl) hl.1 dX4_goSteps_123) hS (fun r25 σ26 h H locs hW hS => ?_)
        refine lv_pop (pc := 126) hx hb dX4_goSteps_126 rfl ?_
        refine lv_goto (pc := 127) (tgt := 178) hx hb dX4_goSteps_127 (by decide) ?_
        refine lv_iinc (pc := 178) (v := (x3 + (1 : Int32))) (lv' := [(3, .int (x3 + (1 : Int32))), (4, .int ((5 : Int32) * (((12 : Int32) * x1) + x3))), (0, .ref (mj_o E)), (1, .int x1), (2, .int x2)]) hx hb dX4_goSteps_178 hl (k := 4) rfl rfl (by decide) rfl (fun ls hl => ?_)
        refine lv_goto (pc := 181) (tgt := 2) hx hb dX4_goSteps_181 (by decide) ?_
        exact h d hd p e s m args below meth c hcx H locs _ hW hS (lv_sub hl [2, 3, 4, 0] rfl)
    · have h := h.2 c11
      refine lv_iload_n (pc := 73) hx hb dX4_goSteps_73 rfl (lv_at hl 4 rfl) ?_
      exact mj_reti (pc := 74) hcx hW hS rfl h dX4_goSteps_74
set_option maxHeartbeats 4000000 in
set_option maxRecDepth 100000 in
theorem mb_goSteps {E : mj_E} {σ : mj_S} {x1 : Int32} {x2 : Int32} {P : Int32 → mj_S → Prop} (hE : mj_ok E) (h : mg_goSteps_2 E σ x1 x2 (0 : Int32) P) : ms_goSteps E σ x1 x2 P :=
  mj_enter (k := 26) (lv := [(0, .ref (mj_o E)), (1, .int x1), (2, .int x2)]) hE rfl (Nat.le_of_ble_eq_true rfl) rfl (by
    intro d hd p e s m args below meth c hcx H locs ls hW hS hl
    have hx := hcx.1
    have hb := hcx.2.1
    have hown := hcx.2.2.2.2.2.1
    have hts := hcx.2.2.2.2.2.2.1
    refine lv_iconst (pc := 0) (v := (0 : Int32)) hx hb dX4_goSteps_0 (by decide) ?_
    refine lv_istore_n (pc := 1) (lv' := [(3, .int (0 : Int32)), (0, .ref (mj_o E)), (1, .int x1), (2, .int x2)]) hx hb dX4_goSteps_1 rfl hl (by decide) rfl (fun ls hl => ?_)
    exact h d hd p e s m args below meth c hcx H locs _ hW hS (lv_sub hl [1, 2, 3, 0] rfl))
/-! hand -/
set_option maxHeartbeats 4000000 in
set_option maxRecDepth 100000 in
theorem mb_hand {E : mj_E} {σ : mj_S} {x1 : Int32} {x2 : Int32} {x3 : Int32} {x4 : Int32} {x5 : Int32} {P : Int32 → mj_S → Prop} (hE : mj_ok E) (h : ms_whyNot E σ x1 x2 x3 x4 x5 (fun r1 σ2 => ((r1 = (-1 : Int32) → ms_act E σ2 x1 x2 x3 x4 x5 (fun r4 σ5 => P r4 σ5)) ∧ (¬ r1 = (-1 : Int32) → (vp_in r1 4 ∧ (vp_in r1 4 ∧ P (-1 : Int32) (mj_sA σ2 14 r1.toNatClampNeg ((mj_A σ2 14 r1.toNatClampNeg) + (1 : Int32))))))))) : ms_hand E σ x1 x2 x3 x4 x5 P :=
  mj_enter (k := 26) (lv := [(0, .ref (mj_o E)), (1, .int x1), (2, .int x2), (3, .int x3), (4, .int x4), (5, .int x5)]) hE rfl (Nat.le_of_ble_eq_true rfl) rfl (by
    intro d hd p e s m args below meth c hcx H locs ls hW hS hl
    have hx := hcx.1
    have hb := hcx.2.1
    have hown := hcx.2.2.2.2.2.1
    have hts := hcx.2.2.2.2.2.2.1
    refine lv_aload_n (pc := 0) hx hb dX4_hand_0 rfl (lv_at hl 0 rfl) ?_
    refine lv_iload_n (pc := 1) hx hb dX4_hand_1 rfl (lv_at hl 1 rfl) ?_
    refine lv_iload_n (pc := 2) hx hb dX4_hand_2 rfl (lv_at hl 2 rfl) ?_
    refine lv_iload_n (pc := 3) hx hb dX4_hand_3 rfl (lv_at hl 3 rfl) ?_
    refine lv_iload (pc := 4) hx hb dX4_hand_4 (lv_at hl 4 rfl) ?_
    refine lv_iload (pc := 6) hx hb dX4_hand_6 (lv_at hl 5 rfl) ?_
    refine mj_ci (pc := 8) (mj_runV hcx hW [.int x1, .int x2, .int x3, .int x4, .int x5] h (Nat.le_trans (by decide) hd) (lw_V q1513 q1515 qs67 q125 q1516) yd_whyNot (by decide) rfl rfl (Nat.le_of_ble_eq_true rfl) hl.1 dX4_hand_8) hS (fun r1 σ2 h H locs hW hS => ?_)
    refine lv_istore (pc := 11) (lv' := [(6, .int r1), (0, .ref (mj_o E)), (1, .int x1), (2, .int x2), (3, .int x3), (4, .int x4), (5, .int x5)]) hx hb dX4_hand_11 hl (by decide) rfl (fun ls hl => ?_)
    refine lv_iload (pc := 13) hx hb dX4_hand_13 (lv_at hl 0 rfl) ?_
    refine lv_iconst (pc := 15) (v := (-1 : Int32)) hx hb dX4_hand_15 (by decide) ?_
    refine lv_icmp_eq (pc := 16) (tgt := 32) hx hb dX4_hand_16 (by decide) (fun c3 => ?_) (fun c3 => ?_)
    · have h := h.1 c3
      refine lv_aload_n (pc := 32) hx hb dX4_hand_32 rfl (lv_at hl 1 rfl) ?_
      refine lv_iload_n (pc := 33) hx hb dX4_hand_33 rfl (lv_at hl 2 rfl) ?_
      refine lv_iload_n (pc := 34) hx hb dX4_hand_34 rfl (lv_at hl 3 rfl) ?_
      refine lv_iload_n (pc := 35) hx hb dX4_hand_35 rfl (lv_at hl 4 rfl) ?_
      refine lv_iload (pc := 36) hx hb dX4_hand_36 (lv_at hl 5 rfl) ?_
      refine lv_iload (pc := 38) hx hb dX4_hand_38 (lv_at hl 6 rfl) ?_
      refine mj_ci (pc := 40) (mj_runV hcx hW [.int x1, .int x2, .int x3, .int x4, .int x5] h (Nat.le_trans (by decide) hd) (lw_V q1537 q1539 qs73 q125 q1540) yd_act (by decide) rfl rfl (Nat.le_of_ble_eq_true rfl) hl.1 dX4_hand_40) hS (fun r4 σ5 h H locs hW hS => ?_)
      exact mj_reti (pc := 43) hcx hW hS rfl h dX4_hand_43
    · have h := h.2 c3
      refine lv_aload_n (pc := 19) hx hb dX4_hand_19 rfl (lv_at hl 1 rfl) ?_
      refine mj_geta (pc := 20) hcx hW 14 (by decide) rfl q1269 dX4_hand_20 ?_
      refine lv_iload (pc := 23) hx hb dX4_hand_23 (lv_at hl 0 rfl) ?_
      refine lv_dup2_11 (pc := 25) hx hb dX4_hand_25 rfl rfl ?_
      obtain ⟨g6, h⟩ := h
      refine mj_ald (pc := 26) hcx hW 14 rfl rfl g6 dX4_hand_26 ?_
      refine lv_iconst (pc := 27) (v := (1 : Int32)) hx hb dX4_hand_27 (by decide) ?_
      refine lv_iadd (pc := 28) hx hb dX4_hand_28 ?_
      obtain ⟨g7, h⟩ := h
      refine mj_ast (pc := 29) hcx hW hS 14 rfl rfl g7 dX4_hand_29 (fun H locs hW hS => ?_)
      refine lv_iconst (pc := 30) (v := (-1 : Int32)) hx hb dX4_hand_30 (by decide) ?_
      exact mj_reti (pc := 31) hcx hW hS rfl h dX4_hand_31)
