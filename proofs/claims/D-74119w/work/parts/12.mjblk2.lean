/-! putsNow -/
set_option maxHeartbeats 4000000 in
set_option maxRecDepth 100000 in
theorem mb_putsNow_24 {E : mj_E} {σ : mj_S} {x1 : Int32} {x2 : Int32} {x3 : Int32} {x4 : Int32} {x5 : Int32} {x6 : Int32} {P : Int32 → mj_S → Prop} (h : ms_rowAt E σ x1 x5 (fun r1 σ2 => ((x6 < r1 → ms_rowAt E σ2 x1 x5 (fun r4 σ5 => (vp_in r4 331 ∧ ms_rowAt E (mj_sA σ5 13 r4.toNatClampNeg x2) x1 x5 (fun r7 σ8 => (vp_in (r7 + (1 : Int32)) 331 ∧ ms_rowAt E (mj_sA σ8 13 (r7 + (1 : Int32)).toNatClampNeg x3) x1 x5 (fun r10 σ11 => (vp_in (r10 + (2 : Int32)) 331 ∧ (vp_in ((2 : Int32) + x1) 331 ∧ (vp_in ((2 : Int32) + x1) 331 ∧ ms_many E (mj_sA (mj_sA σ11 13 (r10 + (2 : Int32)).toNatClampNeg x4) 13 ((2 : Int32) + x1).toNatClampNeg ((mj_A (mj_sA σ11 13 (r10 + (2 : Int32)).toNatClampNeg x4) 13 ((2 : Int32) + x1).toNatClampNeg) + (1 : Int32))) x1 (fun r15 σ16 => P r15 σ16)))))))))) ∧ (¬ x6 < r1 → (vp_in x6 331 ∧ (vp_in (x6 + (3 : Int32)) 331 ∧ mg_putsNow_24 E (mj_sA σ2 13 (x6 + (3 : Int32)).toNatClampNeg (mj_A σ2 13 x6.toNatClampNeg)) x1 x2 x3 x4 x5 (x6 + (-1 : Int32)) P)))))) : mg_putsNow_24 E σ x1 x2 x3 x4 x5 x6 P := by
  intro d hd p e s m args below meth c hcx H locs ls hW hS hl
  have hx := hcx.1
  have hb := hcx.2.1
  have hown := hcx.2.2.2.2.2.1
  have hts := hcx.2.2.2.2.2.2.1
  refine lv_iload (pc := 24) hx hb dX4_putsNow_24 (lv_at hl 6 rfl) ?_
  refine lv_iload_n (pc := 26) hx hb dX4_putsNow_26 rfl (lv_at hl 1 rfl) ?_
  refine lv_iload (pc := 27) hx hb dX4_putsNow_27 (lv_at hl 5 rfl) ?_
  refine mj_ci (pc := 29) (mj_runS hcx hW [.int x1, .int x5] h (Nat.le_trans (by decide) hd) (lw_S q1498 q1499 q125 q1500) yd_rowAt.2 (by decide) rfl rfl (Nat.le_of_ble_eq_true rfl) hl.1 dX4_putsNow_29) hS (fun r1 σ2 h H locs hW hS => ?_)
  refine lv_icmp_lt (pc := 32) (tgt := 57) hx hb dX4_putsNow_32 (by decide) (fun c3 => ?_) (fun c3 => ?_)
  · have h := h.1 c3
    refine lv_aload_n (pc := 57) hx hb dX4_putsNow_57 rfl (lv_at hl 0 rfl) ?_
    refine mj_geta (pc := 58) hcx hW 13 (by decide) rfl q1268 dX4_putsNow_58 ?_
    refine lv_iload_n (pc := 61) hx hb dX4_putsNow_61 rfl (lv_at hl 1 rfl) ?_
    refine lv_iload (pc := 62) hx hb dX4_putsNow_62 (lv_at hl 5 rfl) ?_
    refine mj_ci (pc := 64) (mj_runS hcx hW [.int x1, .int x5] h (Nat.le_trans (by decide) hd) (lw_S q1498 q1499 q125 q1500) yd_rowAt.2 (by decide) rfl rfl (Nat.le_of_ble_eq_true rfl) hl.1 dX4_putsNow_64) hS (fun r4 σ5 h H locs hW hS => ?_)
    refine lv_iload_n (pc := 67) hx hb dX4_putsNow_67 rfl (lv_at hl 2 rfl) ?_
    obtain ⟨g6, h⟩ := h
    refine mj_ast (pc := 68) hcx hW hS 13 rfl rfl g6 dX4_putsNow_68 (fun H locs hW hS => ?_)
    refine lv_aload_n (pc := 69) hx hb dX4_putsNow_69 rfl (lv_at hl 0 rfl) ?_
    refine mj_geta (pc := 70) hcx hW 13 (by decide) rfl q1268 dX4_putsNow_70 ?_
    refine lv_iload_n (pc := 73) hx hb dX4_putsNow_73 rfl (lv_at hl 1 rfl) ?_
    refine lv_iload (pc := 74) hx hb dX4_putsNow_74 (lv_at hl 5 rfl) ?_
    refine mj_ci (pc := 76) (mj_runS hcx hW [.int x1, .int x5] h (Nat.le_trans (by decide) hd) (lw_S q1498 q1499 q125 q1500) yd_rowAt.2 (by decide) rfl rfl (Nat.le_of_ble_eq_true rfl) hl.1 dX4_putsNow_76) hS (fun r7 σ8 h H locs hW hS => ?_)
    refine lv_iconst (pc := 79) (v := (1 : Int32)) hx hb dX4_putsNow_79 (by decide) ?_
    refine lv_iadd (pc := 80) hx hb dX4_putsNow_80 ?_
    refine lv_iload_n (pc := 81) hx hb dX4_putsNow_81 rfl (lv_at hl 3 rfl) ?_
    obtain ⟨g9, h⟩ := h
    refine mj_ast (pc := 82) hcx hW hS 13 rfl rfl g9 dX4_putsNow_82 (fun H locs hW hS => ?_)
    refine lv_aload_n (pc := 83) hx hb dX4_putsNow_83 rfl (lv_at hl 0 rfl) ?_
    refine mj_geta (pc := 84) hcx hW 13 (by decide) rfl q1268 dX4_putsNow_84 ?_
    refine lv_iload_n (pc := 87) hx hb dX4_putsNow_87 rfl (lv_at hl 1 rfl) ?_
    refine lv_iload (pc := 88) hx hb dX4_putsNow_88 (lv_at hl 5 rfl) ?_
    refine mj_ci (pc := 90) (mj_runS hcx hW [.int x1, .int x5] h (Nat.le_trans (by decide) hd) (lw_S q1498 q1499 q125 q1500) yd_rowAt.2 (by decide) rfl rfl (Nat.le_of_ble_eq_true rfl) hl.1 dX4_putsNow_90) hS (fun r10 σ11 h H locs hW hS => ?_)
    refine lv_iconst (pc := 93) (v := (2 : Int32)) hx hb dX4_putsNow_93 (by decide) ?_
    refine lv_iadd (pc := 94) hx hb dX4_putsNow_94 ?_
    refine lv_iload (pc := 95) hx hb dX4_putsNow_95 (lv_at hl 4 rfl) ?_
    obtain ⟨g12, h⟩ := h
    refine mj_ast (pc := 97) hcx hW hS 13 rfl rfl g12 dX4_putsNow_97 (fun H locs hW hS => ?_)
    refine lv_aload_n (pc := 98) hx hb dX4_putsNow_98 rfl (lv_at hl 0 rfl) ?_
    refine mj_geta (pc := 99) hcx hW 13 (by decide) rfl q1268 dX4_putsNow_99 ?_
    refine lv_iconst (pc := 102) (v := (2 : Int32)) hx hb dX4_putsNow_102 (by decide) ?_
    refine lv_iload_n (pc := 103) hx hb dX4_putsNow_103 rfl (lv_at hl 1 rfl) ?_
    refine lv_iadd (pc := 104) hx hb dX4_putsNow_104 ?_
    refine lv_dup2_11 (pc := 105) hx hb dX4_putsNow_105 rfl rfl ?_
    obtain ⟨g13, h⟩ := h
    refine mj_ald (pc := 106) hcx hW 13 rfl rfl g13 dX4_putsNow_106 ?_
    refine lv_iconst (pc := 107) (v := (1 : Int32)) hx hb dX4_putsNow_107 (by decide) ?_
    refine lv_iadd (pc := 108) hx hb dX4_putsNow_108 ?_
    obtain ⟨g14, h⟩ := h
    refine mj_ast (pc := 109) hcx hW hS 13 rfl rfl g14 dX4_putsNow_109 (fun H locs hW hS => ?_)
    refine lv_aload_n (pc := 110) hx hb dX4_putsNow_110 rfl (lv_at hl 0 rfl) ?_
    refine lv_iload_n (pc := 111) hx hb dX4_putsNow_111 rfl (lv_at hl 1 rfl) ?_
    refine mj_ci (pc := 112) (mj_runV hcx hW [.int x1] h (Nat.le_trans (by decide) hd) (lw_V q1490 q1492 qs63 q125 q1493) yd_many (by decide) rfl rfl (Nat.le_of_ble_eq_true rfl) hl.1 dX4_putsNow_112) hS (fun r15 σ16 h H locs hW hS => ?_)
    exact mj_reti (pc := 115) hcx hW hS rfl h dX4_putsNow_115
  · have h := h.2 c3
    refine lv_aload_n (pc := 35) hx hb dX4_putsNow_35 rfl (lv_at hl 0 rfl) ?_
    refine mj_geta (pc := 36) hcx hW 13 (by decide) rfl q1268 dX4_putsNow_36 ?_
    refine lv_iload (pc := 39) hx hb dX4_putsNow_39 (lv_at hl 6 rfl) ?_
    refine lv_iconst (pc := 41) (v := (3 : Int32)) hx hb dX4_putsNow_41 (by decide) ?_
    refine lv_iadd (pc := 42) hx hb dX4_putsNow_42 ?_
    refine lv_aload_n (pc := 43) hx hb dX4_putsNow_43 rfl (lv_at hl 0 rfl) ?_
    refine mj_geta (pc := 44) hcx hW 13 (by decide) rfl q1268 dX4_putsNow_44 ?_
    refine lv_iload (pc := 47) hx hb dX4_putsNow_47 (lv_at hl 6 rfl) ?_
    obtain ⟨g17, h⟩ := h
    refine mj_ald (pc := 49) hcx hW 13 rfl rfl g17 dX4_putsNow_49 ?_
    obtain ⟨g18, h⟩ := h
    refine mj_ast (pc := 50) hcx hW hS 13 rfl rfl g18 dX4_putsNow_50 (fun H locs hW hS => ?_)
    refine lv_iinc (pc := 51) (v := (x6 + (-1 : Int32))) (lv' := [(6, .int (x6 + (-1 : Int32))), (0, .ref (mj_o E)), (1, .int x1), (2, .int x2), (3, .int x3), (4, .int x4), (5, .int x5)]) hx hb dX4_putsNow_51 hl (k := 6) rfl rfl (by decide) rfl (fun ls hl => ?_)
    refine lv_goto (pc := 54) (tgt := 24) hx hb dX4_putsNow_54 (by decide) ?_
    exact h d hd p e s m args below meth c hcx H locs _ hW hS (lv_sub hl [1, 2, 3, 4, 5, 6, 0] rfl)
set_option maxHeartbeats 4000000 in
set_option maxRecDepth 100000 in
theorem mb_putsNow {E : mj_E} {σ : mj_S} {x1 : Int32} {x2 : Int32} {x3 : Int32} {x4 : Int32} {P : Int32 → mj_S → Prop} (hE : mj_ok E) (h : ms_countLess E σ x1 x2 x3 x4 (fun r1 σ2 => ms_many E σ2 x1 (fun r3 σ4 => ms_rowAt E σ4 x1 r3 (fun r5 σ6 => mg_putsNow_24 E σ6 x1 x2 x3 x4 r1 (r5 - (1 : Int32)) P)))) : ms_putsNow E σ x1 x2 x3 x4 P :=
  mj_enter (k := 3) (lv := [(0, .ref (mj_o E)), (1, .int x1), (2, .int x2), (3, .int x3), (4, .int x4)]) hE rfl (Nat.le_of_ble_eq_true rfl) rfl (by
    intro d hd p e s m args below meth c hcx H locs ls hW hS hl
    have hx := hcx.1
    have hb := hcx.2.1
    have hown := hcx.2.2.2.2.2.1
    have hts := hcx.2.2.2.2.2.2.1
    refine lv_aload_n (pc := 0) hx hb dX4_putsNow_0 rfl (lv_at hl 0 rfl) ?_
    refine lv_iload_n (pc := 1) hx hb dX4_putsNow_1 rfl (lv_at hl 1 rfl) ?_
    refine lv_iload_n (pc := 2) hx hb dX4_putsNow_2 rfl (lv_at hl 2 rfl) ?_
    refine lv_iload_n (pc := 3) hx hb dX4_putsNow_3 rfl (lv_at hl 3 rfl) ?_
    refine lv_iload (pc := 4) hx hb dX4_putsNow_4 (lv_at hl 4 rfl) ?_
    refine mj_ci (pc := 6) (mj_runV hcx hW [.int x1, .int x2, .int x3, .int x4] h (Nat.le_trans (by decide) hd) (lw_V q1486 q1488 qs62 q125 q1489) yd_countLess (by decide) rfl rfl (Nat.le_of_ble_eq_true rfl) hl.1 dX4_putsNow_6) hS (fun r1 σ2 h H locs hW hS => ?_)
    refine lv_istore (pc := 9) (lv' := [(5, .int r1), (0, .ref (mj_o E)), (1, .int x1), (2, .int x2), (3, .int x3), (4, .int x4)]) hx hb dX4_putsNow_9 hl (by decide) rfl (fun ls hl => ?_)
    refine lv_iload_n (pc := 11) hx hb dX4_putsNow_11 rfl (lv_at hl 2 rfl) ?_
    refine lv_aload_n (pc := 12) hx hb dX4_putsNow_12 rfl (lv_at hl 1 rfl) ?_
    refine lv_iload_n (pc := 13) hx hb dX4_putsNow_13 rfl (lv_at hl 2 rfl) ?_
    refine mj_ci (pc := 14) (mj_runV hcx hW [.int x1] h (Nat.le_trans (by decide) hd) (lw_V q1490 q1492 qs63 q125 q1493) yd_many (by decide) rfl rfl (Nat.le_of_ble_eq_true rfl) hl.1 dX4_putsNow_14) hS (fun r3 σ4 h H locs hW hS => ?_)
    refine mj_ci (pc := 17) (mj_runS hcx hW [.int x1, .int r3] h (Nat.le_trans (by decide) hd) (lw_S q1498 q1499 q125 q1500) yd_rowAt.2 (by decide) rfl rfl (Nat.le_of_ble_eq_true rfl) hl.1 dX4_putsNow_17) hS (fun r5 σ6 h H locs hW hS => ?_)
    refine lv_iconst (pc := 20) (v := (1 : Int32)) hx hb dX4_putsNow_20 (by decide) ?_
    refine lv_isub (pc := 21) hx hb dX4_putsNow_21 ?_
    refine lv_istore (pc := 22) (lv' := [(6, .int (r5 - (1 : Int32))), (5, .int r1), (0, .ref (mj_o E)), (1, .int x1), (2, .int x2), (3, .int x3), (4, .int x4)]) hx hb dX4_putsNow_22 hl (by decide) rfl (fun ls hl => ?_)
    exact h d hd p e s m args below meth c hcx H locs _ hW hS (lv_sub hl [2, 3, 4, 5, 6, 1, 0] rfl))
/-! readHead -/
set_option maxHeartbeats 4000000 in
set_option maxRecDepth 100000 in
theorem mb_readHead_24 {E : mj_E} {σ : mj_S} {x1 : Int32} {x2 : Int32} {P : mj_S → Prop} (h : (((mj_F σ 4) = (-1 : Int32) → ms_ahead E σ (fun r4 σ5 => ms_isLetter E σ5 r4 (fun r6 σ7 => ((r6 = 0 → ms_must E σ7 (58 : Int32) (fun σ10 => P σ10)) ∧ (¬ r6 = 0 → ms_here E σ7 (fun r11 σ12 => (vp_in x1 4 ∧ (((mj_A σ12 5 x1.toNatClampNeg) = (3 : Int32) → ms_bad E σ12 (fun σ16 => mg_readHead_24 E σ16 x1 x2 P)) ∧ (¬ (mj_A σ12 5 x1.toNatClampNeg) = (3 : Int32) → ms_has E σ12 x2 (r11 - (97 : Int32)) (fun r17 σ18 => ((r17 = 0 → (vp_in x1 4 ∧ (vp_in (((3 : Int32) * x1) + (mj_A σ18 5 x1.toNatClampNeg)) 12 ∧ (vp_in x1 4 ∧ (vp_in x1 4 ∧ mg_readHead_24 E (mj_sF (mj_sA (mj_sA σ18 6 (((3 : Int32) * x1) + (mj_A σ18 5 x1.toNatClampNeg)).toNatClampNeg (r11 - (97 : Int32))) 5 x1.toNatClampNeg ((mj_A (mj_sA σ18 6 (((3 : Int32) * x1) + (mj_A σ18 5 x1.toNatClampNeg)).toNatClampNeg (r11 - (97 : Int32))) 5 x1.toNatClampNeg) + (1 : Int32))) 3 ((mj_F (mj_sA (mj_sA σ18 6 (((3 : Int32) * x1) + (mj_A σ18 5 x1.toNatClampNeg)).toNatClampNeg (r11 - (97 : Int32))) 5 x1.toNatClampNeg ((mj_A (mj_sA σ18 6 (((3 : Int32) * x1) + (mj_A σ18 5 x1.toNatClampNeg)).toNatClampNeg (r11 - (97 : Int32))) 5 x1.toNatClampNeg) + (1 : Int32))) 3) + (1 : Int32))) x1 (x2 ||| ((1 : Int32) <<< ((r11 - (97 : Int32)) &&& 31))) P))))) ∧ (¬ r17 = 0 → ms_bad E σ18 (fun σ25 => mg_readHead_24 E σ25 x1 x2 P))))))))))))) ∧ (¬ (mj_F σ 4) = (-1 : Int32) → ms_must E σ (58 : Int32) (fun σ3 => P σ3)))) : mg_readHead_24 E σ x1 x2 P := by
  intro d hd p e s m args below meth c hcx H locs ls hW hS hl
  have hx := hcx.1
  have hb := hcx.2.1
  have hown := hcx.2.2.2.2.2.1
  have hts := hcx.2.2.2.2.2.2.1
  refine lv_aload_n (pc := 24) hx hb dX4_readHead_24 rfl (lv_at hl 0 rfl) ?_
  refine mj_geti (pc := 25) hcx hW 4 (by decide) rfl q1259 dX4_readHead_25 ?_
  refine lv_iconst (pc := 28) (v := (-1 : Int32)) hx hb dX4_readHead_28 (by decide) ?_
  refine lv_icmp_ne (pc := 29) (tgt := 121) hx hb dX4_readHead_29 (by decide) (fun c1 => ?_) (fun c1 => ?_)
  · have h := h.2 c1
    refine lv_aload_n (pc := 121) hx hb dX4_readHead_121 rfl (lv_at hl 0 rfl) ?_
    refine lv_bipush (pc := 122) (v := (58 : Int32)) hx hb dX4_readHead_122 (by decide) ?_
    refine mj_cv (pc := 124) (mj_runV hcx hW [.int (58 : Int32)] h (Nat.le_trans (by decide) hd) (lw_V q1443 q1445 qs53 q125 q1446) yd_must (by decide) rfl rfl (Nat.le_of_ble_eq_true rfl) hl.1 dX4_readHead_124) hS (fun σ3 h H locs hW hS => ?_)
    exact mj_retv (pc := 127) hcx hW hS h dX4_readHead_127
  · have h := h.1 c1
    refine lv_aload_n (pc := 32) hx hb dX4_readHead_32 rfl (lv_at hl 0 rfl) ?_
    refine lv_aload_n (pc := 33) hx hb dX4_readHead_33 rfl (lv_at hl 0 rfl) ?_
    refine mj_ci (pc := 34) (mj_runV hcx hW [] h (Nat.le_trans (by decide) hd) (lw_V q1424 q1426 qs49 q125 q1427) yd_ahead (by decide) rfl rfl (Nat.le_of_ble_eq_true rfl) hl.1 dX4_readHead_34) hS (fun r4 σ5 h H locs hW hS => ?_)
    refine mj_ci (pc := 37) (mj_runV hcx hW [.int r4] h (Nat.le_trans (by decide) hd) (lw_V q1432 q1434 qs51 q125 q1435) yd_isLetter (by decide) rfl rfl (Nat.le_of_ble_eq_true rfl) hl.1 dX4_readHead_37) hS (fun r6 σ7 h H locs hW hS => ?_)
    refine lv_if_eq (pc := 40) (tgt := 121) hx hb dX4_readHead_40 (by decide) (fun c8 => ?_) (fun c8 => ?_)
    · have h := h.1 c8
      refine lv_aload_n (pc := 121) hx hb dX4_readHead_121 rfl (lv_at hl 0 rfl) ?_
      refine lv_bipush (pc := 122) (v := (58 : Int32)) hx hb dX4_readHead_122 (by decide) ?_
      refine mj_cv (pc := 124) (mj_runV hcx hW [.int (58 : Int32)] h (Nat.le_trans (by decide) hd) (lw_V q1443 q1445 qs53 q125 q1446) yd_must (by decide) rfl rfl (Nat.le_of_ble_eq_true rfl) hl.1 dX4_readHead_124) hS (fun σ10 h H locs hW hS => ?_)
      exact mj_retv (pc := 127) hcx hW hS h dX4_readHead_127
    · have h := h.2 c8
      refine lv_aload_n (pc := 43) hx hb dX4_readHead_43 rfl (lv_at hl 0 rfl) ?_
      refine mj_ci (pc := 44) (mj_runV hcx hW [] h (Nat.le_trans (by decide) hd) (lw_V q1428 q1430 qs50 q125 q1431) yd_here (by decide) rfl rfl (Nat.le_of_ble_eq_true rfl) hl.1 dX4_readHead_44) hS (fun r11 σ12 h H locs hW hS => ?_)
      refine lv_bipush (pc := 47) (v := (97 : Int32)) hx hb dX4_readHead_47 (by decide) ?_
      refine lv_isub (pc := 49) hx hb dX4_readHead_49 ?_
      refine lv_istore_n (pc := 50) (lv' := [(3, .int (r11 - (97 : Int32))), (0, .ref (mj_o E)), (1, .int x1), (2, .int x2)]) hx hb dX4_readHead_50 rfl hl (by decide) rfl (fun ls hl => ?_)
      refine lv_aload_n (pc := 51) hx hb dX4_readHead_51 rfl (lv_at hl 1 rfl) ?_
      refine mj_geta (pc := 52) hcx hW 5 (by decide) rfl q1260 dX4_readHead_52 ?_
      refine lv_iload_n (pc := 55) hx hb dX4_readHead_55 rfl (lv_at hl 2 rfl) ?_
      obtain ⟨g13, h⟩ := h
      refine mj_ald (pc := 56) hcx hW 5 rfl rfl g13 dX4_readHead_56 ?_
      refine lv_iconst (pc := 57) (v := (3 : Int32)) hx hb dX4_readHead_57 (by decide) ?_
      refine lv_icmp_eq (pc := 58) (tgt := 69) hx hb dX4_readHead_58 (by decide) (fun c14 => ?_) (fun c14 => ?_)
      · have h := h.1 c14
        refine lv_aload_n (pc := 69) hx hb dX4_readHead_69 rfl (lv_at hl 1 rfl) ?_
        refine mj_cv (pc := 70) (mj_runV hcx hW [] h (Nat.le_trans (by decide) hd) (lw_V q1436 q1438 qs52 q125 q1439) yd_bad (by decide) rfl rfl (Nat.le_of_ble_eq_true rfl) hl.1 dX4_readHead_70) hS (fun σ16 h H locs hW hS => ?_)
        refine lv_goto (pc := 73) (tgt := 118) hx hb dX4_readHead_73 (by decide) ?_
        refine lv_goto (pc := 118) (tgt := 24) hx hb dX4_readHead_118 (by decide) ?_
        exact h d hd p e s m args below meth c hcx H locs _ hW hS (lv_sub hl [1, 2, 3] rfl)
      · have h := h.2 c14
        refine lv_iload_n (pc := 61) hx hb dX4_readHead_61 rfl (lv_at hl 3 rfl) ?_
        refine lv_iload_n (pc := 62) hx hb dX4_readHead_62 rfl (lv_at hl 0 rfl) ?_
        refine mj_ci (pc := 63) (mj_runS hcx hW [.int x2, .int (r11 - (97 : Int32))] h (Nat.le_trans (by decide) hd) (lw_S q1440 q1441 q125 q1442) yd_has.2 (by decide) rfl rfl (Nat.le_of_ble_eq_true rfl) hl.1 dX4_readHead_63) hS (fun r17 σ18 h H locs hW hS => ?_)
        refine lv_if_eq (pc := 66) (tgt := 76) hx hb dX4_readHead_66 (by decide) (fun c19 => ?_) (fun c19 => ?_)
        · have h := h.1 c19
          refine lv_iload_n (pc := 76) hx hb dX4_readHead_76 rfl (lv_at hl 3 rfl) ?_
          refine lv_iconst (pc := 77) (v := (1 : Int32)) hx hb dX4_readHead_77 (by decide) ?_
          refine lv_iload_n (pc := 78) hx hb dX4_readHead_78 rfl (lv_at hl 0 rfl) ?_
          refine lv_ishl (pc := 79) hx hb dX4_readHead_79 ?_
          refine lv_ior (pc := 80) hx hb dX4_readHead_80 ?_
          refine lv_istore_n (pc := 81) (lv' := [(2, .int (x2 ||| ((1 : Int32) <<< ((r11 - (97 : Int32)) &&& 31)))), (3, .int (r11 - (97 : Int32))), (0, .ref (mj_o E)), (1, .int x1)]) hx hb dX4_readHead_81 rfl hl (by decide) rfl (fun ls hl => ?_)
          refine lv_aload_n (pc := 82) hx hb dX4_readHead_82 rfl (lv_at hl 2 rfl) ?_
          refine mj_geta (pc := 83) hcx hW 6 (by decide) rfl q1261 dX4_readHead_83 ?_
          refine lv_iconst (pc := 86) (v := (3 : Int32)) hx hb dX4_readHead_86 (by decide) ?_
          refine lv_iload_n (pc := 87) hx hb dX4_readHead_87 rfl (lv_at hl 3 rfl) ?_
          refine lv_imul (pc := 88) hx hb dX4_readHead_88 ?_
          refine lv_aload_n (pc := 89) hx hb dX4_readHead_89 rfl (lv_at hl 2 rfl) ?_
          refine mj_geta (pc := 90) hcx hW 5 (by decide) rfl q1260 dX4_readHead_90 ?_
          refine lv_iload_n (pc := 93) hx hb dX4_readHead_93 rfl (lv_at hl 3 rfl) ?_
          obtain ⟨g20, h⟩ := h
          refine mj_ald (pc := 94) hcx hW 5 rfl rfl g20 dX4_readHead_94 ?_
          refine lv_iadd (pc := 95) hx hb dX4_readHead_95 ?_
          refine lv_iload_n (pc := 96) hx hb dX4_readHead_96 rfl (lv_at hl 1 rfl) ?_
          obtain ⟨g21, h⟩ := h
          refine mj_ast (pc := 97) hcx hW hS 6 rfl rfl g21 dX4_readHead_97 (fun H locs hW hS => ?_)
          refine lv_aload_n (pc := 98) hx hb dX4_readHead_98 rfl (lv_at hl 2 rfl) ?_
          refine mj_geta (pc := 99) hcx hW 5 (by decide) rfl q1260 dX4_readHead_99 ?_
          refine lv_iload_n (pc := 102) hx hb dX4_readHead_102 rfl (lv_at hl 3 rfl) ?_
          refine lv_dup2_11 (pc := 103) hx hb dX4_readHead_103 rfl rfl ?_
          obtain ⟨g22, h⟩ := h
          refine mj_ald (pc := 104) hcx hW 5 rfl rfl g22 dX4_readHead_104 ?_
          refine lv_iconst (pc := 105) (v := (1 : Int32)) hx hb dX4_readHead_105 (by decide) ?_
          refine lv_iadd (pc := 106) hx hb dX4_readHead_106 ?_
          obtain ⟨g23, h⟩ := h
          refine mj_ast (pc := 107) hcx hW hS 5 rfl rfl g23 dX4_readHead_107 (fun H locs hW hS => ?_)
          refine lv_aload_n (pc := 108) hx hb dX4_readHead_108 rfl (lv_at hl 2 rfl) ?_
          refine lv_dup (pc := 109) hx hb dX4_readHead_109 rfl ?_
          refine mj_geti (pc := 110) hcx hW 3 (by decide) rfl q1258 dX4_readHead_110 ?_
          refine lv_iconst (pc := 113) (v := (1 : Int32)) hx hb dX4_readHead_113 (by decide) ?_
          refine lv_iadd (pc := 114) hx hb dX4_readHead_114 ?_
          refine mj_puti (pc := 115) hcx hW hS 3 (by decide) rfl rfl rfl rfl q1258 dX4_readHead_115 (fun H locs hW hS => ?_)
          refine lv_goto (pc := 118) (tgt := 24) hx hb dX4_readHead_118 (by decide) ?_
          exact h d hd p e s m args below meth c hcx H locs _ hW hS (lv_sub hl [2, 3, 0] rfl)
        · have h := h.2 c19
          refine lv_aload_n (pc := 69) hx hb dX4_readHead_69 rfl (lv_at hl 1 rfl) ?_
          refine mj_cv (pc := 70) (mj_runV hcx hW [] h (Nat.le_trans (by decide) hd) (lw_V q1436 q1438 qs52 q125 q1439) yd_bad (by decide) rfl rfl (Nat.le_of_ble_eq_true rfl) hl.1 dX4_readHead_70) hS (fun σ25 h H locs hW hS => ?_)
          refine lv_goto (pc := 73) (tgt := 118) hx hb dX4_readHead_73 (by decide) ?_
          refine lv_goto (pc := 118) (tgt := 24) hx hb dX4_readHead_118 (by decide) ?_
          exact h d hd p e s m args below meth c hcx H locs _ hW hS (lv_sub hl [1, 2, 3] rfl)
set_option maxHeartbeats 4000000 in
set_option maxRecDepth 100000 in
theorem mb_readHead {E : mj_E} {σ : mj_S} {x1 : Int32} {P : mj_S → Prop} (hE : mj_ok E) (h : (vp_in x1 4 ∧ ms_ahead E (mj_sA σ 5 x1.toNatClampNeg (0 : Int32)) (fun r2 σ3 => ms_isLetter E σ3 r2 (fun r4 σ5 => ((r4 = 0 → ms_bad E σ5 (fun σ8 => mg_readHead_24 E σ8 x1 (0 : Int32) P)) ∧ (¬ r4 = 0 → mg_readHead_24 E σ5 x1 (0 : Int32) P)))))) : ms_readHead E σ x1 P :=
  mj_enter (k := 3) (lv := [(0, .ref (mj_o E)), (1, .int x1)]) hE rfl (Nat.le_of_ble_eq_true rfl) rfl (by
    intro d hd p e s m args below meth c hcx H locs ls hW hS hl
    have hx := hcx.1
    have hb := hcx.2.1
    have hown := hcx.2.2.2.2.2.1
    have hts := hcx.2.2.2.2.2.2.1
    refine lv_aload_n (pc := 0) hx hb dX4_readHead_0 rfl (lv_at hl 0 rfl) ?_
    refine mj_geta (pc := 1) hcx hW 5 (by decide) rfl q1260 dX4_readHead_1 ?_
    refine lv_iload_n (pc := 4) hx hb dX4_readHead_4 rfl (lv_at hl 1 rfl) ?_
    refine lv_iconst (pc := 5) (v := (0 : Int32)) hx hb dX4_readHead_5 (by decide) ?_
    obtain ⟨g1, h⟩ := h
    refine mj_ast (pc := 6) hcx hW hS 5 rfl rfl g1 dX4_readHead_6 (fun H locs hW hS => ?_)
    refine lv_iconst (pc := 7) (v := (0 : Int32)) hx hb dX4_readHead_7 (by decide) ?_
    refine lv_istore_n (pc := 8) (lv' := [(2, .int (0 : Int32)), (0, .ref (mj_o E)), (1, .int x1)]) hx hb dX4_readHead_8 rfl hl (by decide) rfl (fun ls hl => ?_)
    refine lv_aload_n (pc := 9) hx hb dX4_readHead_9 rfl (lv_at hl 1 rfl) ?_
    refine lv_aload_n (pc := 10) hx hb dX4_readHead_10 rfl (lv_at hl 1 rfl) ?_
    refine mj_ci (pc := 11) (mj_runV hcx hW [] h (Nat.le_trans (by decide) hd) (lw_V q1424 q1426 qs49 q125 q1427) yd_ahead (by decide) rfl rfl (Nat.le_of_ble_eq_true rfl) hl.1 dX4_readHead_11) hS (fun r2 σ3 h H locs hW hS => ?_)
    refine mj_ci (pc := 14) (mj_runV hcx hW [.int r2] h (Nat.le_trans (by decide) hd) (lw_V q1432 q1434 qs51 q125 q1435) yd_isLetter (by decide) rfl rfl (Nat.le_of_ble_eq_true rfl) hl.1 dX4_readHead_14) hS (fun r4 σ5 h H locs hW hS => ?_)
    refine lv_if_ne (pc := 17) (tgt := 24) hx hb dX4_readHead_17 (by decide) (fun c6 => ?_) (fun c6 => ?_)
    · have h := h.2 c6
      exact h d hd p e s m args below meth c hcx H locs _ hW hS (lv_sub hl [1, 2, 0] rfl)
    · have h := h.1 c6
      refine lv_aload_n (pc := 20) hx hb dX4_readHead_20 rfl (lv_at hl 1 rfl) ?_
      refine mj_cv (pc := 21) (mj_runV hcx hW [] h (Nat.le_trans (by decide) hd) (lw_V q1436 q1438 qs52 q125 q1439) yd_bad (by decide) rfl rfl (Nat.le_of_ble_eq_true rfl) hl.1 dX4_readHead_21) hS (fun σ8 h H locs hW hS => ?_)
      exact h d hd p e s m args below meth c hcx H locs _ hW hS (lv_sub hl [1, 2, 0] rfl))
/-! readRow -/
set_option maxHeartbeats 4000000 in
set_option maxRecDepth 100000 in
theorem mb_readRow_16 {E : mj_E} {σ : mj_S} {x1 : Int32} {x2 : Int32} {x3 : Int32} {P : mj_S → Prop} (h : (((3 : Int32) ≤ x3 → (vp_in x1 4 ∧ (vp_in x1 4 ∧ P (mj_sA σ 7 x1.toNatClampNeg ((mj_A σ 7 x1.toNatClampNeg) + (1 : Int32)))))) ∧ (¬ (3 : Int32) ≤ x3 → ((x3 ≤ 0 → mg_readRow_41 E σ x1 x2 x3 P) ∧ (¬ x3 ≤ 0 → (vp_in x1 4 ∧ (((mj_A σ 5 x1.toNatClampNeg) ≤ x3 → mg_readRow_41 E σ x1 x2 x3 P) ∧ (¬ (mj_A σ 5 x1.toNatClampNeg) ≤ x3 → ms_must E σ (44 : Int32) (fun σ8 => mg_readRow_41 E σ8 x1 x2 x3 P))))))))) : mg_readRow_16 E σ x1 x2 x3 P := by
  intro d hd p e s m args below meth c hcx H locs ls hW hS hl
  have hx := hcx.1
  have hb := hcx.2.1
  have hown := hcx.2.2.2.2.2.1
  have hts := hcx.2.2.2.2.2.2.1
  refine lv_iload_n (pc := 16) hx hb dX4_readRow_16 rfl (lv_at hl 3 rfl) ?_
  refine lv_iconst (pc := 17) (v := (3 : Int32)) hx hb dX4_readRow_17 (by decide) ?_
  refine lv_icmp_ge (pc := 18) (tgt := 75) hx hb dX4_readRow_18 (by decide) (fun c1 => ?_) (fun c1 => ?_)
  · have h := h.1 c1
    refine lv_aload_n (pc := 75) hx hb dX4_readRow_75 rfl (lv_at hl 0 rfl) ?_
    refine mj_geta (pc := 76) hcx hW 7 (by decide) rfl q1262 dX4_readRow_76 ?_
    refine lv_iload_n (pc := 79) hx hb dX4_readRow_79 rfl (lv_at hl 1 rfl) ?_
    refine lv_dup2_11 (pc := 80) hx hb dX4_readRow_80 rfl rfl ?_
    obtain ⟨g2, h⟩ := h
    refine mj_ald (pc := 81) hcx hW 7 rfl rfl g2 dX4_readRow_81 ?_
    refine lv_iconst (pc := 82) (v := (1 : Int32)) hx hb dX4_readRow_82 (by decide) ?_
    refine lv_iadd (pc := 83) hx hb dX4_readRow_83 ?_
    obtain ⟨g3, h⟩ := h
    refine mj_ast (pc := 84) hcx hW hS 7 rfl rfl g3 dX4_readRow_84 (fun H locs hW hS => ?_)
    exact mj_retv (pc := 85) hcx hW hS h dX4_readRow_85
  · have h := h.2 c1
    refine lv_iload_n (pc := 21) hx hb dX4_readRow_21 rfl (lv_at hl 3 rfl) ?_
    refine lv_if_le (pc := 22) (tgt := 41) hx hb dX4_readRow_22 (by decide) (fun c4 => ?_) (fun c4 => ?_)
    · have h := h.1 c4
      exact h d hd p e s m args below meth c hcx H locs _ hW hS (lv_sub hl [0, 1, 2, 3] rfl)
    · have h := h.2 c4
      refine lv_iload_n (pc := 25) hx hb dX4_readRow_25 rfl (lv_at hl 3 rfl) ?_
      refine lv_aload_n (pc := 26) hx hb dX4_readRow_26 rfl (lv_at hl 0 rfl) ?_
      refine mj_geta (pc := 27) hcx hW 5 (by decide) rfl q1260 dX4_readRow_27 ?_
      refine lv_iload_n (pc := 30) hx hb dX4_readRow_30 rfl (lv_at hl 1 rfl) ?_
      obtain ⟨g5, h⟩ := h
      refine mj_ald (pc := 31) hcx hW 5 rfl rfl g5 dX4_readRow_31 ?_
      refine lv_icmp_ge (pc := 32) (tgt := 41) hx hb dX4_readRow_32 (by decide) (fun c6 => ?_) (fun c6 => ?_)
      · have h := h.1 c6
        exact h d hd p e s m args below meth c hcx H locs _ hW hS (lv_sub hl [0, 1, 2, 3] rfl)
      · have h := h.2 c6
        refine lv_aload_n (pc := 35) hx hb dX4_readRow_35 rfl (lv_at hl 0 rfl) ?_
        refine lv_bipush (pc := 36) (v := (44 : Int32)) hx hb dX4_readRow_36 (by decide) ?_
        refine mj_cv (pc := 38) (mj_runV hcx hW [.int (44 : Int32)] h (Nat.le_trans (by decide) hd) (lw_V q1443 q1445 qs53 q125 q1446) yd_must (by decide) rfl rfl (Nat.le_of_ble_eq_true rfl) hl.1 dX4_readRow_38) hS (fun σ8 h H locs hW hS => ?_)
        exact h d hd p e s m args below meth c hcx H locs _ hW hS (lv_sub hl [0, 1, 2, 3] rfl)
set_option maxHeartbeats 4000000 in
set_option maxRecDepth 100000 in
theorem mb_readRow_41 {E : mj_E} {σ : mj_S} {x1 : Int32} {x2 : Int32} {x3 : Int32} {P : mj_S → Prop} (h : (vp_in x1 4 ∧ (((mj_A σ 5 x1.toNatClampNeg) ≤ x3 → (vp_in (x2 + x3) 144 ∧ mg_readRow_16 E (mj_sA σ 8 (x2 + x3).toNatClampNeg (-1 : Int32)) x1 x2 (x3 + (1 : Int32)) P)) ∧ (¬ (mj_A σ 5 x1.toNatClampNeg) ≤ x3 → ms_number E σ (99 : Int32) (fun r4 σ5 => (vp_in (x2 + x3) 144 ∧ mg_readRow_16 E (mj_sA σ5 8 (x2 + x3).toNatClampNeg r4) x1 x2 (x3 + (1 : Int32)) P)))))) : mg_readRow_41 E σ x1 x2 x3 P := by
  intro d hd p e s m args below meth c hcx H locs ls hW hS hl
  have hx := hcx.1
  have hb := hcx.2.1
  have hown := hcx.2.2.2.2.2.1
  have hts := hcx.2.2.2.2.2.2.1
  refine lv_aload_n (pc := 41) hx hb dX4_readRow_41 rfl (lv_at hl 0 rfl) ?_
  refine mj_geta (pc := 42) hcx hW 8 (by decide) rfl q1263 dX4_readRow_42 ?_
  refine lv_iload_n (pc := 45) hx hb dX4_readRow_45 rfl (lv_at hl 2 rfl) ?_
  refine lv_iload_n (pc := 46) hx hb dX4_readRow_46 rfl (lv_at hl 3 rfl) ?_
  refine lv_iadd (pc := 47) hx hb dX4_readRow_47 ?_
  refine lv_iload_n (pc := 48) hx hb dX4_readRow_48 rfl (lv_at hl 3 rfl) ?_
  refine lv_aload_n (pc := 49) hx hb dX4_readRow_49 rfl (lv_at hl 0 rfl) ?_
  refine mj_geta (pc := 50) hcx hW 5 (by decide) rfl q1260 dX4_readRow_50 ?_
  refine lv_iload_n (pc := 53) hx hb dX4_readRow_53 rfl (lv_at hl 1 rfl) ?_
  obtain ⟨g1, h⟩ := h
  refine mj_ald (pc := 54) hcx hW 5 rfl rfl g1 dX4_readRow_54 ?_
  refine lv_icmp_ge (pc := 55) (tgt := 67) hx hb dX4_readRow_55 (by decide) (fun c2 => ?_) (fun c2 => ?_)
  · have h := h.1 c2
    refine lv_iconst (pc := 67) (v := (-1 : Int32)) hx hb dX4_readRow_67 (by decide) ?_
    obtain ⟨g3, h⟩ := h
    refine mj_ast (pc := 68) hcx hW hS 8 rfl rfl g3 dX4_readRow_68 (fun H locs hW hS => ?_)
    refine lv_iinc (pc := 69) (v := (x3 + (1 : Int32))) (lv' := [(3, .int (x3 + (1 : Int32))), (0, .ref (mj_o E)), (1, .int x1), (2, .int x2)]) hx hb dX4_readRow_69 hl (k := 3) rfl rfl (by decide) rfl (fun ls hl => ?_)
    refine lv_goto (pc := 72) (tgt := 16) hx hb dX4_readRow_72 (by decide) ?_
    exact h d hd p e s m args below meth c hcx H locs _ hW hS (lv_sub hl [1, 2, 3, 0] rfl)
  · have h := h.2 c2
    refine lv_aload_n (pc := 58) hx hb dX4_readRow_58 rfl (lv_at hl 0 rfl) ?_
    refine lv_bipush (pc := 59) (v := (99 : Int32)) hx hb dX4_readRow_59 (by decide) ?_
    refine mj_ci (pc := 61) (mj_runV hcx hW [.int (99 : Int32)] h (Nat.le_trans (by decide) hd) (lw_V q1454 q1456 qs55 q125 q1457) yd_number (by decide) rfl rfl (Nat.le_of_ble_eq_true rfl) hl.1 dX4_readRow_61) hS (fun r4 σ5 h H locs hW hS => ?_)
    refine lv_goto (pc := 64) (tgt := 68) hx hb dX4_readRow_64 (by decide) ?_
    obtain ⟨g6, h⟩ := h
    refine mj_ast (pc := 68) hcx hW hS 8 rfl rfl g6 dX4_readRow_68 (fun H locs hW hS => ?_)
    refine lv_iinc (pc := 69) (v := (x3 + (1 : Int32))) (lv' := [(3, .int (x3 + (1 : Int32))), (0, .ref (mj_o E)), (1, .int x1), (2, .int x2)]) hx hb dX4_readRow_69 hl (k := 3) rfl rfl (by decide) rfl (fun ls hl => ?_)
    refine lv_goto (pc := 72) (tgt := 16) hx hb dX4_readRow_72 (by decide) ?_
    exact h d hd p e s m args below meth c hcx H locs _ hW hS (lv_sub hl [1, 2, 3, 0] rfl)
set_option maxHeartbeats 4000000 in
set_option maxRecDepth 100000 in
theorem mb_readRow {E : mj_E} {σ : mj_S} {x1 : Int32} {P : mj_S → Prop} (hE : mj_ok E) (h : (vp_in x1 4 ∧ mg_readRow_16 E σ x1 ((3 : Int32) * (((12 : Int32) * x1) + (mj_A σ 7 x1.toNatClampNeg))) (0 : Int32) P)) : ms_readRow E σ x1 P :=
  mj_enter (k := 3) (lv := [(0, .ref (mj_o E)), (1, .int x1)]) hE rfl (Nat.le_of_ble_eq_true rfl) rfl (by
    intro d hd p e s m args below meth c hcx H locs ls hW hS hl
    have hx := hcx.1
    have hb := hcx.2.1
    have hown := hcx.2.2.2.2.2.1
    have hts := hcx.2.2.2.2.2.2.1
    refine lv_iconst (pc := 0) (v := (3 : Int32)) hx hb dX4_readRow_0 (by decide) ?_
    refine lv_bipush (pc := 1) (v := (12 : Int32)) hx hb dX4_readRow_1 (by decide) ?_
    refine lv_iload_n (pc := 3) hx hb dX4_readRow_3 rfl (lv_at hl 1 rfl) ?_
    refine lv_imul (pc := 4) hx hb dX4_readRow_4 ?_
    refine lv_aload_n (pc := 5) hx hb dX4_readRow_5 rfl (lv_at hl 0 rfl) ?_
    refine mj_geta (pc := 6) hcx hW 7 (by decide) rfl q1262 dX4_readRow_6 ?_
    refine lv_iload_n (pc := 9) hx hb dX4_readRow_9 rfl (lv_at hl 1 rfl) ?_
    obtain ⟨g1, h⟩ := h
    refine mj_ald (pc := 10) hcx hW 7 rfl rfl g1 dX4_readRow_10 ?_
    refine lv_iadd (pc := 11) hx hb dX4_readRow_11 ?_
    refine lv_imul (pc := 12) hx hb dX4_readRow_12 ?_
    refine lv_istore_n (pc := 13) (lv' := [(2, .int ((3 : Int32) * (((12 : Int32) * x1) + (mj_A σ 7 x1.toNatClampNeg)))), (0, .ref (mj_o E)), (1, .int x1)]) hx hb dX4_readRow_13 rfl hl (by decide) rfl (fun ls hl => ?_)
    refine lv_iconst (pc := 14) (v := (0 : Int32)) hx hb dX4_readRow_14 (by decide) ?_
    refine lv_istore_n (pc := 15) (lv' := [(3, .int (0 : Int32)), (2, .int ((3 : Int32) * (((12 : Int32) * x1) + (mj_A σ 7 x1.toNatClampNeg)))), (0, .ref (mj_o E)), (1, .int x1)]) hx hb dX4_readRow_15 rfl hl (by decide) rfl (fun ls hl => ?_)
    exact h d hd p e s m args below meth c hcx H locs _ hW hS (lv_sub hl [2, 3, 1, 0] rfl))
/-! readStep -/
set_option maxHeartbeats 4000000 in
set_option maxRecDepth 100000 in
theorem mb_readStep_46 {E : mj_E} {σ : mj_S} {x1 : Int32} {t0 : Int32} {P : mj_S → Prop} (h : ((t0 = (-1 : Int32) → ms_bad E σ (fun σ11 => P σ11)) ∧ (¬ t0 = (-1 : Int32) → (vp_in x1 300 ∧ ((t0 = (3 : Int32) → ms_number E (mj_sA (mj_sF σ 3 ((mj_F σ 3) + (1 : Int32))) 10 x1.toNatClampNeg t0) (23 : Int32) (fun r7 σ8 => (vp_in (x1 + (1 : Int32)) 300 ∧ mg_readStep_103 E (mj_sA σ8 10 (x1 + (1 : Int32)).toNatClampNeg r7) x1 t0 (0 : Int32) P))) ∧ (¬ t0 = (3 : Int32) → ms_digit E (mj_sA (mj_sF σ 3 ((mj_F σ 3) + (1 : Int32))) 10 x1.toNatClampNeg t0) (fun r4 σ5 => (vp_in (x1 + (1 : Int32)) 300 ∧ mg_readStep_103 E (mj_sA σ5 10 (x1 + (1 : Int32)).toNatClampNeg r4) x1 t0 (0 : Int32) P)))))))) : mg_readStep_46 E σ x1 t0 P := by
  intro d hd p e s m args below meth c hcx H locs ls hW hS hl
  have hx := hcx.1
  have hb := hcx.2.1
  have hown := hcx.2.2.2.2.2.1
  have hts := hcx.2.2.2.2.2.2.1
  refine lv_istore_n (pc := 46) (lv' := [(3, .int t0), (0, .ref (mj_o E)), (1, .int x1)]) hx hb dX4_readStep_46 rfl hl (by decide) rfl (fun ls hl => ?_)
  refine lv_iload_n (pc := 47) hx hb dX4_readStep_47 rfl (lv_at hl 0 rfl) ?_
  refine lv_iconst (pc := 48) (v := (-1 : Int32)) hx hb dX4_readStep_48 (by decide) ?_
  refine lv_icmp_ne (pc := 49) (tgt := 57) hx hb dX4_readStep_49 (by decide) (fun c1 => ?_) (fun c1 => ?_)
  · have h := h.2 c1
    refine lv_aload_n (pc := 57) hx hb dX4_readStep_57 rfl (lv_at hl 1 rfl) ?_
    refine lv_dup (pc := 58) hx hb dX4_readStep_58 rfl ?_
    refine mj_geti (pc := 59) hcx hW 3 (by decide) rfl q1258 dX4_readStep_59 ?_
    refine lv_iconst (pc := 62) (v := (1 : Int32)) hx hb dX4_readStep_62 (by decide) ?_
    refine lv_iadd (pc := 63) hx hb dX4_readStep_63 ?_
    refine mj_puti (pc := 64) hcx hW hS 3 (by decide) rfl rfl rfl rfl q1258 dX4_readStep_64 (fun H locs hW hS => ?_)
    refine lv_aload_n (pc := 67) hx hb dX4_readStep_67 rfl (lv_at hl 1 rfl) ?_
    refine mj_geta (pc := 68) hcx hW 10 (by decide) rfl q1265 dX4_readStep_68 ?_
    refine lv_iload_n (pc := 71) hx hb dX4_readStep_71 rfl (lv_at hl 2 rfl) ?_
    refine lv_iload_n (pc := 72) hx hb dX4_readStep_72 rfl (lv_at hl 0 rfl) ?_
    obtain ⟨g2, h⟩ := h
    refine mj_ast (pc := 73) hcx hW hS 10 rfl rfl g2 dX4_readStep_73 (fun H locs hW hS => ?_)
    refine lv_aload_n (pc := 74) hx hb dX4_readStep_74 rfl (lv_at hl 1 rfl) ?_
    refine mj_geta (pc := 75) hcx hW 10 (by decide) rfl q1265 dX4_readStep_75 ?_
    refine lv_iload_n (pc := 78) hx hb dX4_readStep_78 rfl (lv_at hl 2 rfl) ?_
    refine lv_iconst (pc := 79) (v := (1 : Int32)) hx hb dX4_readStep_79 (by decide) ?_
    refine lv_iadd (pc := 80) hx hb dX4_readStep_80 ?_
    refine lv_iload_n (pc := 81) hx hb dX4_readStep_81 rfl (lv_at hl 0 rfl) ?_
    refine lv_iconst (pc := 82) (v := (3 : Int32)) hx hb dX4_readStep_82 (by decide) ?_
    refine lv_icmp_ne (pc := 83) (tgt := 95) hx hb dX4_readStep_83 (by decide) (fun c3 => ?_) (fun c3 => ?_)
    · have h := h.2 c3
      refine lv_aload_n (pc := 95) hx hb dX4_readStep_95 rfl (lv_at hl 1 rfl) ?_
      refine mj_ci (pc := 96) (mj_runV hcx hW [] h (Nat.le_trans (by decide) hd) (lw_V q1470 q1472 qs59 q125 q1473) yd_digit (by decide) rfl rfl (Nat.le_of_ble_eq_true rfl) hl.1 dX4_readStep_96) hS (fun r4 σ5 h H locs hW hS => ?_)
      obtain ⟨g6, h⟩ := h
      refine mj_ast (pc := 99) hcx hW hS 10 rfl rfl g6 dX4_readStep_99 (fun H locs hW hS => ?_)
      refine lv_iconst (pc := 100) (v := (0 : Int32)) hx hb dX4_readStep_100 (by decide) ?_
      refine lv_istore (pc := 101) (lv' := [(4, .int (0 : Int32)), (3, .int t0), (0, .ref (mj_o E)), (1, .int x1)]) hx hb dX4_readStep_101 hl (by decide) rfl (fun ls hl => ?_)
      exact h d hd p e s m args below meth c hcx H locs _ hW hS (lv_sub hl [2, 3, 1, 0] rfl)
    · have h := h.1 c3
      refine lv_aload_n (pc := 86) hx hb dX4_readStep_86 rfl (lv_at hl 1 rfl) ?_
      refine lv_bipush (pc := 87) (v := (23 : Int32)) hx hb dX4_readStep_87 (by decide) ?_
      refine mj_ci (pc := 89) (mj_runV hcx hW [.int (23 : Int32)] h (Nat.le_trans (by decide) hd) (lw_V q1454 q1456 qs55 q125 q1457) yd_number (by decide) rfl rfl (Nat.le_of_ble_eq_true rfl) hl.1 dX4_readStep_89) hS (fun r7 σ8 h H locs hW hS => ?_)
      refine lv_goto (pc := 92) (tgt := 99) hx hb dX4_readStep_92 (by decide) ?_
      obtain ⟨g9, h⟩ := h
      refine mj_ast (pc := 99) hcx hW hS 10 rfl rfl g9 dX4_readStep_99 (fun H locs hW hS => ?_)
      refine lv_iconst (pc := 100) (v := (0 : Int32)) hx hb dX4_readStep_100 (by decide) ?_
      refine lv_istore (pc := 101) (lv' := [(4, .int (0 : Int32)), (3, .int t0), (0, .ref (mj_o E)), (1, .int x1)]) hx hb dX4_readStep_101 hl (by decide) rfl (fun ls hl => ?_)
      exact h d hd p e s m args below meth c hcx H locs _ hW hS (lv_sub hl [2, 3, 1, 0] rfl)
  · have h := h.1 c1
    refine lv_aload_n (pc := 52) hx hb dX4_readStep_52 rfl (lv_at hl 1 rfl) ?_
    refine mj_cv (pc := 53) (mj_runV hcx hW [] h (Nat.le_trans (by decide) hd) (lw_V q1436 q1438 qs52 q125 q1439) yd_bad (by decide) rfl rfl (Nat.le_of_ble_eq_true rfl) hl.1 dX4_readStep_53) hS (fun σ11 h H locs hW hS => ?_)
    exact mj_retv (pc := 56) hcx hW hS h dX4_readStep_56
set_option maxHeartbeats 4000000 in
set_option maxRecDepth 100000 in
theorem mb_readStep_103 {E : mj_E} {σ : mj_S} {x1 : Int32} {x3 : Int32} {x4 : Int32} {P : mj_S → Prop} (h : (((3 : Int32) ≤ x4 → ((x3 ≤ (1 : Int32) → ms_must E σ (58 : Int32) (fun σ4 => (((mj_F σ4 4) = (-1 : Int32) → mg_readStep_157 E σ4 x1 (1 : Int32) (0 : Int32) P) ∧ (¬ (mj_F σ4 4) = (-1 : Int32) → mg_readStep_157 E σ4 x1 (0 : Int32) (0 : Int32) P)))) ∧ (¬ x3 ≤ (1 : Int32) → P σ))) ∧ (¬ (3 : Int32) ≤ x4 → (vp_in ((x1 + (2 : Int32)) + x4) 300 ∧ mg_readStep_103 E (mj_sA σ 10 ((x1 + (2 : Int32)) + x4).toNatClampNeg (-1 : Int32)) x1 x3 (x4 + (1 : Int32)) P)))) : mg_readStep_103 E σ x1 x3 x4 P := by
  intro d hd p e s m args below meth c hcx H locs ls hW hS hl
  have hx := hcx.1
  have hb := hcx.2.1
  have hown := hcx.2.2.2.2.2.1
  have hts := hcx.2.2.2.2.2.2.1
  refine lv_iload (pc := 103) hx hb dX4_readStep_103 (lv_at hl 3 rfl) ?_
  refine lv_iconst (pc := 105) (v := (3 : Int32)) hx hb dX4_readStep_105 (by decide) ?_
  refine lv_icmp_ge (pc := 106) (tgt := 127) hx hb dX4_readStep_106 (by decide) (fun c1 => ?_) (fun c1 => ?_)
  · have h := h.1 c1
    refine lv_iload_n (pc := 127) hx hb dX4_readStep_127 rfl (lv_at hl 2 rfl) ?_
    refine lv_iconst (pc := 128) (v := (1 : Int32)) hx hb dX4_readStep_128 (by decide) ?_
    refine lv_icmp_le (pc := 129) (tgt := 133) hx hb dX4_readStep_129 (by decide) (fun c2 => ?_) (fun c2 => ?_)
    · have h := h.1 c2
      refine lv_aload_n (pc := 133) hx hb dX4_readStep_133 rfl (lv_at hl 0 rfl) ?_
      refine lv_bipush (pc := 134) (v := (58 : Int32)) hx hb dX4_readStep_134 (by decide) ?_
      refine mj_cv (pc := 136) (mj_runV hcx hW [.int (58 : Int32)] h (Nat.le_trans (by decide) hd) (lw_V q1443 q1445 qs53 q125 q1446) yd_must (by decide) rfl rfl (Nat.le_of_ble_eq_true rfl) hl.1 dX4_readStep_136) hS (fun σ4 h H locs hW hS => ?_)
      refine lv_aload_n (pc := 139) hx hb dX4_readStep_139 rfl (lv_at hl 0 rfl) ?_
      refine mj_geti (pc := 140) hcx hW 4 (by decide) rfl q1259 dX4_readStep_140 ?_
      refine lv_iconst (pc := 143) (v := (-1 : Int32)) hx hb dX4_readStep_143 (by decide) ?_
      refine lv_icmp_ne (pc := 144) (tgt := 151) hx hb dX4_readStep_144 (by decide) (fun c5 => ?_) (fun c5 => ?_)
      · have h := h.2 c5
        refine lv_iconst (pc := 151) (v := (0 : Int32)) hx hb dX4_readStep_151 (by decide) ?_
        refine lv_istore (pc := 152) (lv' := [(4, .int (0 : Int32)), (0, .ref (mj_o E)), (1, .int x1), (3, .int x3)]) hx hb dX4_readStep_152 hl (by decide) rfl (fun ls hl => ?_)
        refine lv_iconst (pc := 154) (v := (0 : Int32)) hx hb dX4_readStep_154 (by decide) ?_
        refine lv_istore (pc := 155) (lv' := [(5, .int (0 : Int32)), (4, .int (0 : Int32)), (0, .ref (mj_o E)), (1, .int x1), (3, .int x3)]) hx hb dX4_readStep_155 hl (by decide) rfl (fun ls hl => ?_)
        exact h d hd p e s m args below meth c hcx H locs _ hW hS (lv_sub hl [2, 3, 1, 0] rfl)
      · have h := h.1 c5
        refine lv_iconst (pc := 147) (v := (1 : Int32)) hx hb dX4_readStep_147 (by decide) ?_
        refine lv_goto (pc := 148) (tgt := 152) hx hb dX4_readStep_148 (by decide) ?_
        refine lv_istore (pc := 152) (lv' := [(4, .int (1 : Int32)), (0, .ref (mj_o E)), (1, .int x1), (3, .int x3)]) hx hb dX4_readStep_152 hl (by decide) rfl (fun ls hl => ?_)
        refine lv_iconst (pc := 154) (v := (0 : Int32)) hx hb dX4_readStep_154 (by decide) ?_
        refine lv_istore (pc := 155) (lv' := [(5, .int (0 : Int32)), (4, .int (1 : Int32)), (0, .ref (mj_o E)), (1, .int x1), (3, .int x3)]) hx hb dX4_readStep_155 hl (by decide) rfl (fun ls hl => ?_)
        exact h d hd p e s m args below meth c hcx H locs _ hW hS (lv_sub hl [2, 3, 1, 0] rfl)
    · have h := h.2 c2
      exact mj_retv (pc := 132) hcx hW hS h dX4_readStep_132
  · have h := h.2 c1
    refine lv_aload_n (pc := 109) hx hb dX4_readStep_109 rfl (lv_at hl 0 rfl) ?_
    refine mj_geta (pc := 110) hcx hW 10 (by decide) rfl q1265 dX4_readStep_110 ?_
    refine lv_iload_n (pc := 113) hx hb dX4_readStep_113 rfl (lv_at hl 1 rfl) ?_
    refine lv_iconst (pc := 114) (v := (2 : Int32)) hx hb dX4_readStep_114 (by decide) ?_
    refine lv_iadd (pc := 115) hx hb dX4_readStep_115 ?_
    refine lv_iload (pc := 116) hx hb dX4_readStep_116 (lv_at hl 3 rfl) ?_
    refine lv_iadd (pc := 118) hx hb dX4_readStep_118 ?_
    refine lv_iconst (pc := 119) (v := (-1 : Int32)) hx hb dX4_readStep_119 (by decide) ?_
    obtain ⟨g6, h⟩ := h
    refine mj_ast (pc := 120) hcx hW hS 10 rfl rfl g6 dX4_readStep_120 (fun H locs hW hS => ?_)
    refine lv_iinc (pc := 121) (v := (x4 + (1 : Int32))) (lv' := [(4, .int (x4 + (1 : Int32))), (0, .ref (mj_o E)), (1, .int x1), (3, .int x3)]) hx hb dX4_readStep_121 hl (k := 3) rfl rfl (by decide) rfl (fun ls hl => ?_)
    refine lv_goto (pc := 124) (tgt := 103) hx hb dX4_readStep_124 (by decide) ?_
    exact h d hd p e s m args below meth c hcx H locs _ hW hS (lv_sub hl [1, 2, 3, 0] rfl)
set_option maxHeartbeats 4000000 in
set_option maxRecDepth 100000 in
theorem mb_readStep_157 {E : mj_E} {σ : mj_S} {x1 : Int32} {x4 : Int32} {x5 : Int32} {P : mj_S → Prop} (h : (((3 : Int32) ≤ x5 → P σ) ∧ (¬ (3 : Int32) ≤ x5 → ((x4 = 0 → P σ) ∧ (¬ x4 = 0 → ms_number E σ (99 : Int32) (fun r3 σ4 => (vp_in ((x1 + (2 : Int32)) + x5) 300 ∧ (((mj_F (mj_sA σ4 10 ((x1 + (2 : Int32)) + x5).toNatClampNeg r3) 4) = (-1 : Int32) → (((2 : Int32) ≤ x5 → mg_readStep_213 E (mj_sA σ4 10 ((x1 + (2 : Int32)) + x5).toNatClampNeg r3) x1 x5 (0 : Int32) P) ∧ (¬ (2 : Int32) ≤ x5 → ms_ahead E (mj_sA σ4 10 ((x1 + (2 : Int32)) + x5).toNatClampNeg r3) (fun r8 σ9 => ((r8 = (44 : Int32) → mg_readStep_213 E σ9 x1 x5 (1 : Int32) P) ∧ (¬ r8 = (44 : Int32) → mg_readStep_213 E σ9 x1 x5 (0 : Int32) P)))))) ∧ (¬ (mj_F (mj_sA σ4 10 ((x1 + (2 : Int32)) + x5).toNatClampNeg r3) 4) = (-1 : Int32) → mg_readStep_213 E (mj_sA σ4 10 ((x1 + (2 : Int32)) + x5).toNatClampNeg r3) x1 x5 (0 : Int32) P))))))))) : mg_readStep_157 E σ x1 x4 x5 P := by
  intro d hd p e s m args below meth c hcx H locs ls hW hS hl
  have hx := hcx.1
  have hb := hcx.2.1
  have hown := hcx.2.2.2.2.2.1
  have hts := hcx.2.2.2.2.2.2.1
  refine lv_iload (pc := 157) hx hb dX4_readStep_157 (lv_at hl 3 rfl) ?_
  refine lv_iconst (pc := 159) (v := (3 : Int32)) hx hb dX4_readStep_159 (by decide) ?_
  refine lv_icmp_ge (pc := 160) (tgt := 240) hx hb dX4_readStep_160 (by decide) (fun c1 => ?_) (fun c1 => ?_)
  · have h := h.1 c1
    exact mj_retv (pc := 240) hcx hW hS h dX4_readStep_240
  · have h := h.2 c1
    refine lv_iload (pc := 163) hx hb dX4_readStep_163 (lv_at hl 2 rfl) ?_
    refine lv_if_eq (pc := 165) (tgt := 240) hx hb dX4_readStep_165 (by decide) (fun c2 => ?_) (fun c2 => ?_)
    · have h := h.1 c2
      exact mj_retv (pc := 240) hcx hW hS h dX4_readStep_240
    · have h := h.2 c2
      refine lv_aload_n (pc := 168) hx hb dX4_readStep_168 rfl (lv_at hl 0 rfl) ?_
      refine mj_geta (pc := 169) hcx hW 10 (by decide) rfl q1265 dX4_readStep_169 ?_
      refine lv_iload_n (pc := 172) hx hb dX4_readStep_172 rfl (lv_at hl 1 rfl) ?_
      refine lv_iconst (pc := 173) (v := (2 : Int32)) hx hb dX4_readStep_173 (by decide) ?_
      refine lv_iadd (pc := 174) hx hb dX4_readStep_174 ?_
      refine lv_iload (pc := 175) hx hb dX4_readStep_175 (lv_at hl 3 rfl) ?_
      refine lv_iadd (pc := 177) hx hb dX4_readStep_177 ?_
      refine lv_aload_n (pc := 178) hx hb dX4_readStep_178 rfl (lv_at hl 0 rfl) ?_
      refine lv_bipush (pc := 179) (v := (99 : Int32)) hx hb dX4_readStep_179 (by decide) ?_
      refine mj_ci (pc := 181) (mj_runV hcx hW [.int (99 : Int32)] h (Nat.le_trans (by decide) hd) (lw_V q1454 q1456 qs55 q125 q1457) yd_number (by decide) rfl rfl (Nat.le_of_ble_eq_true rfl) hl.1 dX4_readStep_181) hS (fun r3 σ4 h H locs hW hS => ?_)
      obtain ⟨g5, h⟩ := h
      refine mj_ast (pc := 184) hcx hW hS 10 rfl rfl g5 dX4_readStep_184 (fun H locs hW hS => ?_)
      refine lv_aload_n (pc := 185) hx hb dX4_readStep_185 rfl (lv_at hl 0 rfl) ?_
      refine mj_geti (pc := 186) hcx hW 4 (by decide) rfl q1259 dX4_readStep_186 ?_
      refine lv_iconst (pc := 189) (v := (-1 : Int32)) hx hb dX4_readStep_189 (by decide) ?_
      refine lv_icmp_ne (pc := 190) (tgt := 212) hx hb dX4_readStep_190 (by decide) (fun c6 => ?_) (fun c6 => ?_)
      · have h := h.2 c6
        refine lv_iconst (pc := 212) (v := (0 : Int32)) hx hb dX4_readStep_212 (by decide) ?_
        exact h d hd p e s m args below meth c hcx H locs _ hW hS (lv_sub hl [0, 1, 3] rfl)
      · have h := h.1 c6
        refine lv_iload (pc := 193) hx hb dX4_readStep_193 (lv_at hl 3 rfl) ?_
        refine lv_iconst (pc := 195) (v := (2 : Int32)) hx hb dX4_readStep_195 (by decide) ?_
        refine lv_icmp_ge (pc := 196) (tgt := 212) hx hb dX4_readStep_196 (by decide) (fun c7 => ?_) (fun c7 => ?_)
        · have h := h.1 c7
          refine lv_iconst (pc := 212) (v := (0 : Int32)) hx hb dX4_readStep_212 (by decide) ?_
          exact h d hd p e s m args below meth c hcx H locs _ hW hS (lv_sub hl [0, 1, 3] rfl)
        · have h := h.2 c7
          refine lv_aload_n (pc := 199) hx hb dX4_readStep_199 rfl (lv_at hl 0 rfl) ?_
          refine mj_ci (pc := 200) (mj_runV hcx hW [] h (Nat.le_trans (by decide) hd) (lw_V q1424 q1426 qs49 q125 q1427) yd_ahead (by decide) rfl rfl (Nat.le_of_ble_eq_true rfl) hl.1 dX4_readStep_200) hS (fun r8 σ9 h H locs hW hS => ?_)
          refine lv_bipush (pc := 203) (v := (44 : Int32)) hx hb dX4_readStep_203 (by decide) ?_
          refine lv_icmp_ne (pc := 205) (tgt := 212) hx hb dX4_readStep_205 (by decide) (fun c10 => ?_) (fun c10 => ?_)
          · have h := h.2 c10
            refine lv_iconst (pc := 212) (v := (0 : Int32)) hx hb dX4_readStep_212 (by decide) ?_
            exact h d hd p e s m args below meth c hcx H locs _ hW hS (lv_sub hl [0, 1, 3] rfl)
          · have h := h.1 c10
            refine lv_iconst (pc := 208) (v := (1 : Int32)) hx hb dX4_readStep_208 (by decide) ?_
            refine lv_goto (pc := 209) (tgt := 213) hx hb dX4_readStep_209 (by decide) ?_
            exact h d hd p e s m args below meth c hcx H locs _ hW hS (lv_sub hl [0, 1, 3] rfl)
set_option maxHeartbeats 4000000 in
set_option maxRecDepth 100000 in
theorem mb_readStep_213 {E : mj_E} {σ : mj_S} {x1 : Int32} {x5 : Int32} {t0 : Int32} {P : mj_S → Prop} (h : ((t0 = 0 → mg_readStep_157 E (mj_sF σ 3 ((mj_F σ 3) + (0 : Int32))) x1 t0 (x5 + (1 : Int32)) P) ∧ (¬ t0 = 0 → mg_readStep_157 E (mj_sF σ 3 ((mj_F σ 3) + (1 : Int32))) x1 t0 (x5 + (1 : Int32)) P))) : mg_readStep_213 E σ x1 x5 t0 P := by
  intro d hd p e s m args below meth c hcx H locs ls hW hS hl
  have hx := hcx.1
  have hb := hcx.2.1
  have hown := hcx.2.2.2.2.2.1
  have hts := hcx.2.2.2.2.2.2.1
  refine lv_istore (pc := 213) (lv' := [(4, .int t0), (0, .ref (mj_o E)), (1, .int x1), (5, .int x5)]) hx hb dX4_readStep_213 hl (by decide) rfl (fun ls hl => ?_)
  refine lv_aload_n (pc := 215) hx hb dX4_readStep_215 rfl (lv_at hl 1 rfl) ?_
  refine lv_dup (pc := 216) hx hb dX4_readStep_216 rfl ?_
  refine mj_geti (pc := 217) hcx hW 3 (by decide) rfl q1258 dX4_readStep_217 ?_
  refine lv_iload (pc := 220) hx hb dX4_readStep_220 (lv_at hl 0 rfl) ?_
  refine lv_if_eq (pc := 222) (tgt := 229) hx hb dX4_readStep_222 (by decide) (fun c1 => ?_) (fun c1 => ?_)
  · have h := h.1 c1
    refine lv_iconst (pc := 229) (v := (0 : Int32)) hx hb dX4_readStep_229 (by decide) ?_
    refine lv_iadd (pc := 230) hx hb dX4_readStep_230 ?_
    refine mj_puti (pc := 231) hcx hW hS 3 (by decide) rfl rfl rfl rfl q1258 dX4_readStep_231 (fun H locs hW hS => ?_)
    refine lv_iinc (pc := 234) (v := (x5 + (1 : Int32))) (lv' := [(5, .int (x5 + (1 : Int32))), (4, .int t0), (0, .ref (mj_o E)), (1, .int x1)]) hx hb dX4_readStep_234 hl (k := 3) rfl rfl (by decide) rfl (fun ls hl => ?_)
    refine lv_goto (pc := 237) (tgt := 157) hx hb dX4_readStep_237 (by decide) ?_
    exact h d hd p e s m args below meth c hcx H locs _ hW hS (lv_sub hl [2, 3, 1, 0] rfl)
  · have h := h.2 c1
    refine lv_iconst (pc := 225) (v := (1 : Int32)) hx hb dX4_readStep_225 (by decide) ?_
    refine lv_goto (pc := 226) (tgt := 230) hx hb dX4_readStep_226 (by decide) ?_
    refine lv_iadd (pc := 230) hx hb dX4_readStep_230 ?_
    refine mj_puti (pc := 231) hcx hW hS 3 (by decide) rfl rfl rfl rfl q1258 dX4_readStep_231 (fun H locs hW hS => ?_)
    refine lv_iinc (pc := 234) (v := (x5 + (1 : Int32))) (lv' := [(5, .int (x5 + (1 : Int32))), (4, .int t0), (0, .ref (mj_o E)), (1, .int x1)]) hx hb dX4_readStep_234 hl (k := 3) rfl rfl (by decide) rfl (fun ls hl => ?_)
    refine lv_goto (pc := 237) (tgt := 157) hx hb dX4_readStep_237 (by decide) ?_
    exact h d hd p e s m args below meth c hcx H locs _ hW hS (lv_sub hl [2, 3, 1, 0] rfl)
set_option maxHeartbeats 4000000 in
set_option maxRecDepth 100000 in
theorem mb_readStep {E : mj_E} {σ : mj_S} {x1 : Int32} {P : mj_S → Prop} (hE : mj_ok E) (h : ms_ahead E σ (fun r1 σ2 => ((r1 = (112 : Int32) → mg_readStep_46 E σ2 x1 (0 : Int32) P) ∧ (¬ r1 = (112 : Int32) → ((r1 = (116 : Int32) → mg_readStep_46 E σ2 x1 (1 : Int32) P) ∧ (¬ r1 = (116 : Int32) → ((r1 = (117 : Int32) → mg_readStep_46 E σ2 x1 (2 : Int32) P) ∧ (¬ r1 = (117 : Int32) → ((r1 = (111 : Int32) → mg_readStep_46 E σ2 x1 (3 : Int32) P) ∧ (¬ r1 = (111 : Int32) → mg_readStep_46 E σ2 x1 (-1 : Int32) P)))))))))) : ms_readStep E σ x1 P :=
  mj_enter (k := 3) (lv := [(0, .ref (mj_o E)), (1, .int x1)]) hE rfl (Nat.le_of_ble_eq_true rfl) rfl (by
    intro d hd p e s m args below meth c hcx H locs ls hW hS hl
    have hx := hcx.1
    have hb := hcx.2.1
    have hown := hcx.2.2.2.2.2.1
    have hts := hcx.2.2.2.2.2.2.1
    refine lv_aload_n (pc := 0) hx hb dX4_readStep_0 rfl (lv_at hl 0 rfl) ?_
    refine mj_ci (pc := 1) (mj_runV hcx hW [] h (Nat.le_trans (by decide) hd) (lw_V q1424 q1426 qs49 q125 q1427) yd_ahead (by decide) rfl rfl (Nat.le_of_ble_eq_true rfl) hl.1 dX4_readStep_1) hS (fun r1 σ2 h H locs hW hS => ?_)
    refine lv_istore_n (pc := 4) (lv' := [(2, .int r1), (0, .ref (mj_o E)), (1, .int x1)]) hx hb dX4_readStep_4 rfl hl (by decide) rfl (fun ls hl => ?_)
    refine lv_iload_n (pc := 5) hx hb dX4_readStep_5 rfl (lv_at hl 0 rfl) ?_
    refine lv_bipush (pc := 6) (v := (112 : Int32)) hx hb dX4_readStep_6 (by decide) ?_
    refine lv_icmp_ne (pc := 8) (tgt := 15) hx hb dX4_readStep_8 (by decide) (fun c3 => ?_) (fun c3 => ?_)
    · have h := h.2 c3
      refine lv_iload_n (pc := 15) hx hb dX4_readStep_15 rfl (lv_at hl 0 rfl) ?_
      refine lv_bipush (pc := 16) (v := (116 : Int32)) hx hb dX4_readStep_16 (by decide) ?_
      refine lv_icmp_ne (pc := 18) (tgt := 25) hx hb dX4_readStep_18 (by decide) (fun c4 => ?_) (fun c4 => ?_)
      · have h := h.2 c4
        refine lv_iload_n (pc := 25) hx hb dX4_readStep_25 rfl (lv_at hl 0 rfl) ?_
        refine lv_bipush (pc := 26) (v := (117 : Int32)) hx hb dX4_readStep_26 (by decide) ?_
        refine lv_icmp_ne (pc := 28) (tgt := 35) hx hb dX4_readStep_28 (by decide) (fun c5 => ?_) (fun c5 => ?_)
        · have h := h.2 c5
          refine lv_iload_n (pc := 35) hx hb dX4_readStep_35 rfl (lv_at hl 0 rfl) ?_
          refine lv_bipush (pc := 36) (v := (111 : Int32)) hx hb dX4_readStep_36 (by decide) ?_
          refine lv_icmp_ne (pc := 38) (tgt := 45) hx hb dX4_readStep_38 (by decide) (fun c6 => ?_) (fun c6 => ?_)
          · have h := h.2 c6
            refine lv_iconst (pc := 45) (v := (-1 : Int32)) hx hb dX4_readStep_45 (by decide) ?_
            exact h d hd p e s m args below meth c hcx H locs _ hW hS (lv_sub hl [1, 2] rfl)
          · have h := h.1 c6
            refine lv_iconst (pc := 41) (v := (3 : Int32)) hx hb dX4_readStep_41 (by decide) ?_
            refine lv_goto (pc := 42) (tgt := 46) hx hb dX4_readStep_42 (by decide) ?_
            exact h d hd p e s m args below meth c hcx H locs _ hW hS (lv_sub hl [1, 2] rfl)
        · have h := h.1 c5
          refine lv_iconst (pc := 31) (v := (2 : Int32)) hx hb dX4_readStep_31 (by decide) ?_
          refine lv_goto (pc := 32) (tgt := 46) hx hb dX4_readStep_32 (by decide) ?_
          exact h d hd p e s m args below meth c hcx H locs _ hW hS (lv_sub hl [1, 2] rfl)
      · have h := h.1 c4
        refine lv_iconst (pc := 21) (v := (1 : Int32)) hx hb dX4_readStep_21 (by decide) ?_
        refine lv_goto (pc := 22) (tgt := 46) hx hb dX4_readStep_22 (by decide) ?_
        exact h d hd p e s m args below meth c hcx H locs _ hW hS (lv_sub hl [1, 2] rfl)
    · have h := h.1 c3
      refine lv_iconst (pc := 11) (v := (0 : Int32)) hx hb dX4_readStep_11 (by decide) ?_
      refine lv_goto (pc := 12) (tgt := 46) hx hb dX4_readStep_12 (by decide) ?_
      exact h d hd p e s m args below meth c hcx H locs _ hW hS (lv_sub hl [1, 2] rfl))
/-! rule -/
set_option maxHeartbeats 4000000 in
set_option maxRecDepth 100000 in
theorem mb_rule {E : mj_E} {σ : mj_S} {x1 : Int32} {P : Int32 → mj_S → Prop} (hE : mj_ok E) (h : ms_areTables E σ (fun r1 σ2 => ((r1 = 0 → P (-1 : Int32) σ2) ∧ (¬ r1 = 0 → ms_in E σ2 x1 (0 : Int32) (4 : Int32) (fun r4 σ5 => ((r4 = 0 → P (-1 : Int32) σ5) ∧ (¬ r4 = 0 → ((x1 = (0 : Int32) → P (mj_F σ5 17) σ5) ∧ (¬ x1 = (0 : Int32) → ((x1 = (1 : Int32) → (vp_in (0 : Int32) 331 ∧ P (mj_A σ5 13 (0 : Int32).toNatClampNeg) σ5)) ∧ (¬ x1 = (1 : Int32) → ((x1 = (2 : Int32) → (vp_in (1 : Int32) 331 ∧ P (mj_A σ5 13 (1 : Int32).toNatClampNeg) σ5)) ∧ (¬ x1 = (2 : Int32) → ((x1 = (3 : Int32) → ms_asked E σ5 (fun r13 σ14 => P r13 σ14)) ∧ (¬ x1 = (3 : Int32) → ms_rowsOfAll E σ5 (fun r15 σ16 => P r15 σ16)))))))))))))))) : ms_rule E σ x1 P :=
  mj_enter (k := 3) (lv := [(0, .ref (mj_o E)), (1, .int x1)]) hE rfl (Nat.le_of_ble_eq_true rfl) rfl (by
    intro d hd p e s m args below meth c hcx H locs ls hW hS hl
    have hx := hcx.1
    have hb := hcx.2.1
    have hown := hcx.2.2.2.2.2.1
    have hts := hcx.2.2.2.2.2.2.1
    refine lv_aload_n (pc := 0) hx hb dX4_rule_0 rfl (lv_at hl 0 rfl) ?_
    refine mj_ci (pc := 1) (mj_runV hcx hW [] h (Nat.le_trans (by decide) hd) (lw_V q1533 q1535 qs72 q125 q1536) yd_areTables (by decide) rfl rfl (Nat.le_of_ble_eq_true rfl) hl.1 dX4_rule_1) hS (fun r1 σ2 h H locs hW hS => ?_)
    refine lv_if_eq (pc := 4) (tgt := 16) hx hb dX4_rule_4 (by decide) (fun c3 => ?_) (fun c3 => ?_)
    · have h := h.1 c3
      refine lv_iconst (pc := 16) (v := (-1 : Int32)) hx hb dX4_rule_16 (by decide) ?_
      exact mj_reti (pc := 17) hcx hW hS rfl h dX4_rule_17
    · have h := h.2 c3
      refine lv_iload_n (pc := 7) hx hb dX4_rule_7 rfl (lv_at hl 1 rfl) ?_
      refine lv_iconst (pc := 8) (v := (0 : Int32)) hx hb dX4_rule_8 (by decide) ?_
      refine lv_iconst (pc := 9) (v := (4 : Int32)) hx hb dX4_rule_9 (by decide) ?_
      refine mj_ci (pc := 10) (mj_runS hcx hW [.int x1, .int (0 : Int32), .int (4 : Int32)] h (Nat.le_trans (by decide) hd) (lw_S q1401 q1402 q125 q1403) yd_in.2 (by decide) rfl rfl (Nat.le_of_ble_eq_true rfl) hl.1 dX4_rule_10) hS (fun r4 σ5 h H locs hW hS => ?_)
      refine lv_if_ne (pc := 13) (tgt := 18) hx hb dX4_rule_13 (by decide) (fun c6 => ?_) (fun c6 => ?_)
      · have h := h.2 c6
        refine lv_iload_n (pc := 18) hx hb dX4_rule_18 rfl (lv_at hl 1 rfl) ?_
        by_cases c7 : x1 = (0 : Int32)
        · have h := h.1 c7
          refine lv_tableIn (pc := 19) (off := 29) (tgt := 48) hx hb dX4_rule_19 (by rw [c7]; decide) (by rw [c7]; decide) (by rw [c7]; rfl) (by decide) ?_
          refine lv_aload_n (pc := 48) hx hb dX4_rule_48 rfl (lv_at hl 0 rfl) ?_
          refine mj_geti (pc := 49) hcx hW 17 (by decide) rfl q1272 dX4_rule_49 ?_
          exact mj_reti (pc := 52) hcx hW hS rfl h dX4_rule_52
        · have h := h.2 c7
          by_cases c8 : x1 = (1 : Int32)
          · have h := h.1 c8
            refine lv_tableIn (pc := 19) (off := 34) (tgt := 53) hx hb dX4_rule_19 (by rw [c8]; decide) (by rw [c8]; decide) (by rw [c8]; rfl) (by decide) ?_
            refine lv_aload_n (pc := 53) hx hb dX4_rule_53 rfl (lv_at hl 0 rfl) ?_
            refine mj_geta (pc := 54) hcx hW 13 (by decide) rfl q1268 dX4_rule_54 ?_
            refine lv_iconst (pc := 57) (v := (0 : Int32)) hx hb dX4_rule_57 (by decide) ?_
            obtain ⟨g9, h⟩ := h
            refine mj_ald (pc := 58) hcx hW 13 rfl rfl g9 dX4_rule_58 ?_
            exact mj_reti (pc := 59) hcx hW hS rfl h dX4_rule_59
          · have h := h.2 c8
            by_cases c10 : x1 = (2 : Int32)
            · have h := h.1 c10
              refine lv_tableIn (pc := 19) (off := 41) (tgt := 60) hx hb dX4_rule_19 (by rw [c10]; decide) (by rw [c10]; decide) (by rw [c10]; rfl) (by decide) ?_
              refine lv_aload_n (pc := 60) hx hb dX4_rule_60 rfl (lv_at hl 0 rfl) ?_
              refine mj_geta (pc := 61) hcx hW 13 (by decide) rfl q1268 dX4_rule_61 ?_
              refine lv_iconst (pc := 64) (v := (1 : Int32)) hx hb dX4_rule_64 (by decide) ?_
              obtain ⟨g11, h⟩ := h
              refine mj_ald (pc := 65) hcx hW 13 rfl rfl g11 dX4_rule_65 ?_
              exact mj_reti (pc := 66) hcx hW hS rfl h dX4_rule_66
            · have h := h.2 c10
              by_cases c12 : x1 = (3 : Int32)
              · have h := h.1 c12
                refine lv_tableIn (pc := 19) (off := 48) (tgt := 67) hx hb dX4_rule_19 (by rw [c12]; decide) (by rw [c12]; decide) (by rw [c12]; rfl) (by decide) ?_
                refine lv_aload_n (pc := 67) hx hb dX4_rule_67 rfl (lv_at hl 0 rfl) ?_
                refine mj_ci (pc := 68) (mj_runV hcx hW [] h (Nat.le_trans (by decide) hd) (lw_V q1577 q1579 qs83 q125 q1580) yd_asked (by decide) rfl rfl (Nat.le_of_ble_eq_true rfl) hl.1 dX4_rule_68) hS (fun r13 σ14 h H locs hW hS => ?_)
                exact mj_reti (pc := 71) hcx hW hS rfl h dX4_rule_71
              · have h := h.2 c12
                refine lv_tableOut (pc := 19) (tgt := 72) hx hb dX4_rule_19 (mj_sw4 c7 c8 c10 c12) (by decide) ?_
                refine lv_aload_n (pc := 72) hx hb dX4_rule_72 rfl (lv_at hl 0 rfl) ?_
                refine mj_ci (pc := 73) (mj_runV hcx hW [] h (Nat.le_trans (by decide) hd) (lw_V q1681 q1683 qs100 q125 q1684) yd_rowsOfAll (by decide) rfl rfl (Nat.le_of_ble_eq_true rfl) hl.1 dX4_rule_73) hS (fun r15 σ16 h H locs hW hS => ?_)
                exact mj_reti (pc := 76) hcx hW hS rfl h dX4_rule_76
      · have h := h.1 c6
        refine lv_iconst (pc := 16) (v := (-1 : Int32)) hx hb dX4_rule_16 (by decide) ?_
        exact mj_reti (pc := 17) hcx hW hS rfl h dX4_rule_17)
/-! takesNow -/
set_option maxHeartbeats 4000000 in
set_option maxRecDepth 100000 in
theorem mb_takesNow_19 {E : mj_E} {σ : mj_S} {x1 : Int32} {x6 : Int32} {P : Int32 → mj_S → Prop} (h : ms_many E σ x1 (fun r1 σ2 => ms_rowAt E σ2 x1 (r1 - (1 : Int32)) (fun r3 σ4 => ((r3 ≤ x6 → (vp_in ((2 : Int32) + x1) 331 ∧ (vp_in ((2 : Int32) + x1) 331 ∧ ms_many E (mj_sA σ4 13 ((2 : Int32) + x1).toNatClampNeg ((mj_A σ4 13 ((2 : Int32) + x1).toNatClampNeg) - (1 : Int32))) x1 (fun r8 σ9 => P r8 σ9)))) ∧ (¬ r3 ≤ x6 → (vp_in (x6 + (3 : Int32)) 331 ∧ (vp_in x6 331 ∧ mg_takesNow_19 E (mj_sA σ4 13 x6.toNatClampNeg (mj_A σ4 13 (x6 + (3 : Int32)).toNatClampNeg)) x1 (x6 + (1 : Int32)) P))))))) : mg_takesNow_19 E σ x1 x6 P := by
  intro d hd p e s m args below meth c hcx H locs ls hW hS hl
  have hx := hcx.1
  have hb := hcx.2.1
  have hown := hcx.2.2.2.2.2.1
  have hts := hcx.2.2.2.2.2.2.1
  refine lv_iload (pc := 19) hx hb dX4_takesNow_19 (lv_at hl 2 rfl) ?_
  refine lv_iload_n (pc := 21) hx hb dX4_takesNow_21 rfl (lv_at hl 1 rfl) ?_
  refine lv_aload_n (pc := 22) hx hb dX4_takesNow_22 rfl (lv_at hl 0 rfl) ?_
  refine lv_iload_n (pc := 23) hx hb dX4_takesNow_23 rfl (lv_at hl 1 rfl) ?_
  refine mj_ci (pc := 24) (mj_runV hcx hW [.int x1] h (Nat.le_trans (by decide) hd) (lw_V q1490 q1492 qs63 q125 q1493) yd_many (by decide) rfl rfl (Nat.le_of_ble_eq_true rfl) hl.1 dX4_takesNow_24) hS (fun r1 σ2 h H locs hW hS => ?_)
  refine lv_iconst (pc := 27) (v := (1 : Int32)) hx hb dX4_takesNow_27 (by decide) ?_
  refine lv_isub (pc := 28) hx hb dX4_takesNow_28 ?_
  refine mj_ci (pc := 29) (mj_runS hcx hW [.int x1, .int (r1 - (1 : Int32))] h (Nat.le_trans (by decide) hd) (lw_S q1498 q1499 q125 q1500) yd_rowAt.2 (by decide) rfl rfl (Nat.le_of_ble_eq_true rfl) hl.1 dX4_takesNow_29) hS (fun r3 σ4 h H locs hW hS => ?_)
  refine lv_icmp_ge (pc := 32) (tgt := 57) hx hb dX4_takesNow_32 (by decide) (fun c5 => ?_) (fun c5 => ?_)
  · have h := h.1 c5
    refine lv_aload_n (pc := 57) hx hb dX4_takesNow_57 rfl (lv_at hl 0 rfl) ?_
    refine mj_geta (pc := 58) hcx hW 13 (by decide) rfl q1268 dX4_takesNow_58 ?_
    refine lv_iconst (pc := 61) (v := (2 : Int32)) hx hb dX4_takesNow_61 (by decide) ?_
    refine lv_iload_n (pc := 62) hx hb dX4_takesNow_62 rfl (lv_at hl 1 rfl) ?_
    refine lv_iadd (pc := 63) hx hb dX4_takesNow_63 ?_
    refine lv_dup2_11 (pc := 64) hx hb dX4_takesNow_64 rfl rfl ?_
    obtain ⟨g6, h⟩ := h
    refine mj_ald (pc := 65) hcx hW 13 rfl rfl g6 dX4_takesNow_65 ?_
    refine lv_iconst (pc := 66) (v := (1 : Int32)) hx hb dX4_takesNow_66 (by decide) ?_
    refine lv_isub (pc := 67) hx hb dX4_takesNow_67 ?_
    obtain ⟨g7, h⟩ := h
    refine mj_ast (pc := 68) hcx hW hS 13 rfl rfl g7 dX4_takesNow_68 (fun H locs hW hS => ?_)
    refine lv_aload_n (pc := 69) hx hb dX4_takesNow_69 rfl (lv_at hl 0 rfl) ?_
    refine lv_iload_n (pc := 70) hx hb dX4_takesNow_70 rfl (lv_at hl 1 rfl) ?_
    refine mj_ci (pc := 71) (mj_runV hcx hW [.int x1] h (Nat.le_trans (by decide) hd) (lw_V q1490 q1492 qs63 q125 q1493) yd_many (by decide) rfl rfl (Nat.le_of_ble_eq_true rfl) hl.1 dX4_takesNow_71) hS (fun r8 σ9 h H locs hW hS => ?_)
    exact mj_reti (pc := 74) hcx hW hS rfl h dX4_takesNow_74
  · have h := h.2 c5
    refine lv_aload_n (pc := 35) hx hb dX4_takesNow_35 rfl (lv_at hl 0 rfl) ?_
    refine mj_geta (pc := 36) hcx hW 13 (by decide) rfl q1268 dX4_takesNow_36 ?_
    refine lv_iload (pc := 39) hx hb dX4_takesNow_39 (lv_at hl 2 rfl) ?_
    refine lv_aload_n (pc := 41) hx hb dX4_takesNow_41 rfl (lv_at hl 0 rfl) ?_
    refine mj_geta (pc := 42) hcx hW 13 (by decide) rfl q1268 dX4_takesNow_42 ?_
    refine lv_iload (pc := 45) hx hb dX4_takesNow_45 (lv_at hl 2 rfl) ?_
    refine lv_iconst (pc := 47) (v := (3 : Int32)) hx hb dX4_takesNow_47 (by decide) ?_
    refine lv_iadd (pc := 48) hx hb dX4_takesNow_48 ?_
    obtain ⟨g10, h⟩ := h
    refine mj_ald (pc := 49) hcx hW 13 rfl rfl g10 dX4_takesNow_49 ?_
    obtain ⟨g11, h⟩ := h
    refine mj_ast (pc := 50) hcx hW hS 13 rfl rfl g11 dX4_takesNow_50 (fun H locs hW hS => ?_)
    refine lv_iinc (pc := 51) (v := (x6 + (1 : Int32))) (lv' := [(6, .int (x6 + (1 : Int32))), (0, .ref (mj_o E)), (1, .int x1)]) hx hb dX4_takesNow_51 hl (k := 2) rfl rfl (by decide) rfl (fun ls hl => ?_)
    refine lv_goto (pc := 54) (tgt := 19) hx hb dX4_takesNow_54 (by decide) ?_
    exact h d hd p e s m args below meth c hcx H locs _ hW hS (lv_sub hl [1, 2, 0] rfl)
set_option maxHeartbeats 4000000 in
set_option maxRecDepth 100000 in
theorem mb_takesNow {E : mj_E} {σ : mj_S} {x1 : Int32} {x2 : Int32} {x3 : Int32} {x4 : Int32} {P : Int32 → mj_S → Prop} (hE : mj_ok E) (h : ms_countLess E σ x1 x2 x3 x4 (fun r1 σ2 => ms_rowAt E σ2 x1 r1 (fun r3 σ4 => mg_takesNow_19 E σ4 x1 r3 P))) : ms_takesNow E σ x1 x2 x3 x4 P :=
  mj_enter (k := 3) (lv := [(0, .ref (mj_o E)), (1, .int x1), (2, .int x2), (3, .int x3), (4, .int x4)]) hE rfl (Nat.le_of_ble_eq_true rfl) rfl (by
    intro d hd p e s m args below meth c hcx H locs ls hW hS hl
    have hx := hcx.1
    have hb := hcx.2.1
    have hown := hcx.2.2.2.2.2.1
    have hts := hcx.2.2.2.2.2.2.1
    refine lv_aload_n (pc := 0) hx hb dX4_takesNow_0 rfl (lv_at hl 0 rfl) ?_
    refine lv_iload_n (pc := 1) hx hb dX4_takesNow_1 rfl (lv_at hl 1 rfl) ?_
    refine lv_iload_n (pc := 2) hx hb dX4_takesNow_2 rfl (lv_at hl 2 rfl) ?_
    refine lv_iload_n (pc := 3) hx hb dX4_takesNow_3 rfl (lv_at hl 3 rfl) ?_
    refine lv_iload (pc := 4) hx hb dX4_takesNow_4 (lv_at hl 4 rfl) ?_
    refine mj_ci (pc := 6) (mj_runV hcx hW [.int x1, .int x2, .int x3, .int x4] h (Nat.le_trans (by decide) hd) (lw_V q1486 q1488 qs62 q125 q1489) yd_countLess (by decide) rfl rfl (Nat.le_of_ble_eq_true rfl) hl.1 dX4_takesNow_6) hS (fun r1 σ2 h H locs hW hS => ?_)
    refine lv_istore (pc := 9) (lv' := [(5, .int r1), (0, .ref (mj_o E)), (1, .int x1), (2, .int x2), (3, .int x3), (4, .int x4)]) hx hb dX4_takesNow_9 hl (by decide) rfl (fun ls hl => ?_)
    refine lv_iload_n (pc := 11) hx hb dX4_takesNow_11 rfl (lv_at hl 2 rfl) ?_
    refine lv_iload (pc := 12) hx hb dX4_takesNow_12 (lv_at hl 0 rfl) ?_
    refine mj_ci (pc := 14) (mj_runS hcx hW [.int x1, .int r1] h (Nat.le_trans (by decide) hd) (lw_S q1498 q1499 q125 q1500) yd_rowAt.2 (by decide) rfl rfl (Nat.le_of_ble_eq_true rfl) hl.1 dX4_takesNow_14) hS (fun r3 σ4 h H locs hW hS => ?_)
    refine lv_istore (pc := 17) (lv' := [(6, .int r3), (5, .int r1), (0, .ref (mj_o E)), (1, .int x1), (2, .int x2), (3, .int x3), (4, .int x4)]) hx hb dX4_takesNow_17 hl (by decide) rfl (fun ls hl => ?_)
    exact h d hd p e s m args below meth c hcx H locs _ hW hS (lv_sub hl [2, 3, 0] rfl))
/-! couples -/
set_option maxHeartbeats 4000000 in
set_option maxRecDepth 100000 in
theorem mb_couples_4 {E : mj_E} {σ : mj_S} {x1 : Int32} {x2 : Int32} {P : Int32 → mj_S → Prop} (h : (((4 : Int32) ≤ x2 → P x1 σ) ∧ (¬ (4 : Int32) ≤ x2 → mg_couples_11 E σ x1 x2 (0 : Int32) P))) : mg_couples_4 E σ x1 x2 P := by
  intro d hd p e s m args below meth c hcx H locs ls hW hS hl
  have hx := hcx.1
  have hb := hcx.2.1
  have hown := hcx.2.2.2.2.2.1
  have hts := hcx.2.2.2.2.2.2.1
  refine lv_iload_n (pc := 4) hx hb dX4_couples_4 rfl (lv_at hl 2 rfl) ?_
  refine lv_iconst (pc := 5) (v := (4 : Int32)) hx hb dX4_couples_5 (by decide) ?_
  refine lv_icmp_ge (pc := 6) (tgt := 66) hx hb dX4_couples_6 (by decide) (fun c1 => ?_) (fun c1 => ?_)
  · have h := h.1 c1
    refine lv_iload_n (pc := 66) hx hb dX4_couples_66 rfl (lv_at hl 1 rfl) ?_
    exact mj_reti (pc := 67) hcx hW hS rfl h dX4_couples_67
  · have h := h.2 c1
    refine lv_iconst (pc := 9) (v := (0 : Int32)) hx hb dX4_couples_9 (by decide) ?_
    refine lv_istore_n (pc := 10) (lv' := [(3, .int (0 : Int32)), (0, .ref (mj_o E)), (1, .int x1), (2, .int x2)]) hx hb dX4_couples_10 rfl hl (by decide) rfl (fun ls hl => ?_)
    exact h d hd p e s m args below meth c hcx H locs _ hW hS (lv_sub hl [1, 2, 3, 0] rfl)
set_option maxHeartbeats 4000000 in
set_option maxRecDepth 100000 in
theorem mb_couples_11 {E : mj_E} {σ : mj_S} {x1 : Int32} {x2 : Int32} {x3 : Int32} {P : Int32 → mj_S → Prop} (h : (((4 : Int32) ≤ x3 → mg_couples_4 E σ x1 (x2 + (1 : Int32)) P) ∧ (¬ (4 : Int32) ≤ x3 → ((x2 = x3 → mg_couples_11 E σ (x1 + (0 : Int32)) x2 (x3 + (1 : Int32)) P) ∧ (¬ x2 = x3 → ms_isAsked E σ x2 (fun r3 σ4 => ((r3 = 0 → mg_couples_11 E σ4 (x1 + (0 : Int32)) x2 (x3 + (1 : Int32)) P) ∧ (¬ r3 = 0 → ms_isAsked E σ4 x3 (fun r6 σ7 => ((r6 = 0 → mg_couples_11 E σ7 (x1 + (0 : Int32)) x2 (x3 + (1 : Int32)) P) ∧ (¬ r6 = 0 → ms_isTold E σ7 x2 x3 (fun r9 σ10 => ((r9 = 0 → mg_couples_11 E σ10 (x1 + (0 : Int32)) x2 (x3 + (1 : Int32)) P) ∧ (¬ r9 = 0 → mg_couples_11 E σ10 (x1 + (1 : Int32)) x2 (x3 + (1 : Int32)) P)))))))))))))) : mg_couples_11 E σ x1 x2 x3 P := by
  intro d hd p e s m args below meth c hcx H locs ls hW hS hl
  have hx := hcx.1
  have hb := hcx.2.1
  have hown := hcx.2.2.2.2.2.1
  have hts := hcx.2.2.2.2.2.2.1
  refine lv_iload_n (pc := 11) hx hb dX4_couples_11 rfl (lv_at hl 3 rfl) ?_
  refine lv_iconst (pc := 12) (v := (4 : Int32)) hx hb dX4_couples_12 (by decide) ?_
  refine lv_icmp_ge (pc := 13) (tgt := 60) hx hb dX4_couples_13 (by decide) (fun c1 => ?_) (fun c1 => ?_)
  · have h := h.1 c1
    refine lv_iinc (pc := 60) (v := (x2 + (1 : Int32))) (lv' := [(2, .int (x2 + (1 : Int32))), (0, .ref (mj_o E)), (1, .int x1), (3, .int x3)]) hx hb dX4_couples_60 hl (k := 2) rfl rfl (by decide) rfl (fun ls hl => ?_)
    refine lv_goto (pc := 63) (tgt := 4) hx hb dX4_couples_63 (by decide) ?_
    exact h d hd p e s m args below meth c hcx H locs _ hW hS (lv_sub hl [1, 2, 0] rfl)
  · have h := h.2 c1
    refine lv_iload_n (pc := 16) hx hb dX4_couples_16 rfl (lv_at hl 1 rfl) ?_
    refine lv_iload_n (pc := 17) hx hb dX4_couples_17 rfl (lv_at hl 2 rfl) ?_
    refine lv_iload_n (pc := 18) hx hb dX4_couples_18 rfl (lv_at hl 3 rfl) ?_
    refine lv_icmp_eq (pc := 19) (tgt := 51) hx hb dX4_couples_19 (by decide) (fun c2 => ?_) (fun c2 => ?_)
    · have h := h.1 c2
      refine lv_iconst (pc := 51) (v := (0 : Int32)) hx hb dX4_couples_51 (by decide) ?_
      refine lv_iadd (pc := 52) hx hb dX4_couples_52 ?_
      refine lv_istore_n (pc := 53) (lv' := [(1, .int (x1 + (0 : Int32))), (0, .ref (mj_o E)), (2, .int x2), (3, .int x3)]) hx hb dX4_couples_53 rfl hl (by decide) rfl (fun ls hl => ?_)
      refine lv_iinc (pc := 54) (v := (x3 + (1 : Int32))) (lv' := [(3, .int (x3 + (1 : Int32))), (1, .int (x1 + (0 : Int32))), (0, .ref (mj_o E)), (2, .int x2)]) hx hb dX4_couples_54 hl (k := 3) rfl rfl (by decide) rfl (fun ls hl => ?_)
      refine lv_goto (pc := 57) (tgt := 11) hx hb dX4_couples_57 (by decide) ?_
      exact h d hd p e s m args below meth c hcx H locs _ hW hS (lv_sub hl [2, 1, 3, 0] rfl)
    · have h := h.2 c2
      refine lv_aload_n (pc := 22) hx hb dX4_couples_22 rfl (lv_at hl 0 rfl) ?_
      refine lv_iload_n (pc := 23) hx hb dX4_couples_23 rfl (lv_at hl 2 rfl) ?_
      refine mj_ci (pc := 24) (mj_runV hcx hW [.int x2] h (Nat.le_trans (by decide) hd) (lw_V q1701 q1703 qs101 q125 q1704) yd_isAsked (by decide) rfl rfl (Nat.le_of_ble_eq_true rfl) hl.1 dX4_couples_24) hS (fun r3 σ4 h H locs hW hS => ?_)
      refine lv_if_eq (pc := 27) (tgt := 51) hx hb dX4_couples_27 (by decide) (fun c5 => ?_) (fun c5 => ?_)
      · have h := h.1 c5
        refine lv_iconst (pc := 51) (v := (0 : Int32)) hx hb dX4_couples_51 (by decide) ?_
        refine lv_iadd (pc := 52) hx hb dX4_couples_52 ?_
        refine lv_istore_n (pc := 53) (lv' := [(1, .int (x1 + (0 : Int32))), (0, .ref (mj_o E)), (2, .int x2), (3, .int x3)]) hx hb dX4_couples_53 rfl hl (by decide) rfl (fun ls hl => ?_)
        refine lv_iinc (pc := 54) (v := (x3 + (1 : Int32))) (lv' := [(3, .int (x3 + (1 : Int32))), (1, .int (x1 + (0 : Int32))), (0, .ref (mj_o E)), (2, .int x2)]) hx hb dX4_couples_54 hl (k := 3) rfl rfl (by decide) rfl (fun ls hl => ?_)
        refine lv_goto (pc := 57) (tgt := 11) hx hb dX4_couples_57 (by decide) ?_
        exact h d hd p e s m args below meth c hcx H locs _ hW hS (lv_sub hl [2, 1, 3, 0] rfl)
      · have h := h.2 c5
        refine lv_aload_n (pc := 30) hx hb dX4_couples_30 rfl (lv_at hl 0 rfl) ?_
        refine lv_iload_n (pc := 31) hx hb dX4_couples_31 rfl (lv_at hl 3 rfl) ?_
        refine mj_ci (pc := 32) (mj_runV hcx hW [.int x3] h (Nat.le_trans (by decide) hd) (lw_V q1701 q1703 qs101 q125 q1704) yd_isAsked (by decide) rfl rfl (Nat.le_of_ble_eq_true rfl) hl.1 dX4_couples_32) hS (fun r6 σ7 h H locs hW hS => ?_)
        refine lv_if_eq (pc := 35) (tgt := 51) hx hb dX4_couples_35 (by decide) (fun c8 => ?_) (fun c8 => ?_)
        · have h := h.1 c8
          refine lv_iconst (pc := 51) (v := (0 : Int32)) hx hb dX4_couples_51 (by decide) ?_
          refine lv_iadd (pc := 52) hx hb dX4_couples_52 ?_
          refine lv_istore_n (pc := 53) (lv' := [(1, .int (x1 + (0 : Int32))), (0, .ref (mj_o E)), (2, .int x2), (3, .int x3)]) hx hb dX4_couples_53 rfl hl (by decide) rfl (fun ls hl => ?_)
          refine lv_iinc (pc := 54) (v := (x3 + (1 : Int32))) (lv' := [(3, .int (x3 + (1 : Int32))), (1, .int (x1 + (0 : Int32))), (0, .ref (mj_o E)), (2, .int x2)]) hx hb dX4_couples_54 hl (k := 3) rfl rfl (by decide) rfl (fun ls hl => ?_)
          refine lv_goto (pc := 57) (tgt := 11) hx hb dX4_couples_57 (by decide) ?_
          exact h d hd p e s m args below meth c hcx H locs _ hW hS (lv_sub hl [2, 1, 3, 0] rfl)
        · have h := h.2 c8
          refine lv_aload_n (pc := 38) hx hb dX4_couples_38 rfl (lv_at hl 0 rfl) ?_
          refine lv_iload_n (pc := 39) hx hb dX4_couples_39 rfl (lv_at hl 2 rfl) ?_
          refine lv_iload_n (pc := 40) hx hb dX4_couples_40 rfl (lv_at hl 3 rfl) ?_
          refine mj_ci (pc := 41) (mj_runV hcx hW [.int x2, .int x3] h (Nat.le_trans (by decide) hd) (lw_V q1769 q1771 qs108 q125 q1772) yd_isTold (by decide) rfl rfl (Nat.le_of_ble_eq_true rfl) hl.1 dX4_couples_41) hS (fun r9 σ10 h H locs hW hS => ?_)
          refine lv_if_eq (pc := 44) (tgt := 51) hx hb dX4_couples_44 (by decide) (fun c11 => ?_) (fun c11 => ?_)
          · have h := h.1 c11
            refine lv_iconst (pc := 51) (v := (0 : Int32)) hx hb dX4_couples_51 (by decide) ?_
            refine lv_iadd (pc := 52) hx hb dX4_couples_52 ?_
            refine lv_istore_n (pc := 53) (lv' := [(1, .int (x1 + (0 : Int32))), (0, .ref (mj_o E)), (2, .int x2), (3, .int x3)]) hx hb dX4_couples_53 rfl hl (by decide) rfl (fun ls hl => ?_)
            refine lv_iinc (pc := 54) (v := (x3 + (1 : Int32))) (lv' := [(3, .int (x3 + (1 : Int32))), (1, .int (x1 + (0 : Int32))), (0, .ref (mj_o E)), (2, .int x2)]) hx hb dX4_couples_54 hl (k := 3) rfl rfl (by decide) rfl (fun ls hl => ?_)
            refine lv_goto (pc := 57) (tgt := 11) hx hb dX4_couples_57 (by decide) ?_
            exact h d hd p e s m args below meth c hcx H locs _ hW hS (lv_sub hl [2, 1, 3, 0] rfl)
          · have h := h.2 c11
            refine lv_iconst (pc := 47) (v := (1 : Int32)) hx hb dX4_couples_47 (by decide) ?_
            refine lv_goto (pc := 48) (tgt := 52) hx hb dX4_couples_48 (by decide) ?_
            refine lv_iadd (pc := 52) hx hb dX4_couples_52 ?_
            refine lv_istore_n (pc := 53) (lv' := [(1, .int (x1 + (1 : Int32))), (0, .ref (mj_o E)), (2, .int x2), (3, .int x3)]) hx hb dX4_couples_53 rfl hl (by decide) rfl (fun ls hl => ?_)
            refine lv_iinc (pc := 54) (v := (x3 + (1 : Int32))) (lv' := [(3, .int (x3 + (1 : Int32))), (1, .int (x1 + (1 : Int32))), (0, .ref (mj_o E)), (2, .int x2)]) hx hb dX4_couples_54 hl (k := 3) rfl rfl (by decide) rfl (fun ls hl => ?_)
            refine lv_goto (pc := 57) (tgt := 11) hx hb dX4_couples_57 (by decide) ?_
            exact h d hd p e s m args below meth c hcx H locs _ hW hS (lv_sub hl [2, 1, 3, 0] rfl)
set_option maxHeartbeats 4000000 in
set_option maxRecDepth 100000 in
theorem mb_couples {E : mj_E} {σ : mj_S} {P : Int32 → mj_S → Prop} (hE : mj_ok E) (h : mg_couples_4 E σ (0 : Int32) (0 : Int32) P) : ms_couples E σ P :=
  mj_enter (k := 4) (lv := [(0, .ref (mj_o E))]) hE rfl (Nat.le_of_ble_eq_true rfl) rfl (by
    intro d hd p e s m args below meth c hcx H locs ls hW hS hl
    have hx := hcx.1
    have hb := hcx.2.1
    have hown := hcx.2.2.2.2.2.1
    have hts := hcx.2.2.2.2.2.2.1
    refine lv_iconst (pc := 0) (v := (0 : Int32)) hx hb dX4_couples_0 (by decide) ?_
    refine lv_istore_n (pc := 1) (lv' := [(1, .int (0 : Int32)), (0, .ref (mj_o E))]) hx hb dX4_couples_1 rfl hl (by decide) rfl (fun ls hl => ?_)
    refine lv_iconst (pc := 2) (v := (0 : Int32)) hx hb dX4_couples_2 (by decide) ?_
    refine lv_istore_n (pc := 3) (lv' := [(2, .int (0 : Int32)), (1, .int (0 : Int32)), (0, .ref (mj_o E))]) hx hb dX4_couples_3 rfl hl (by decide) rfl (fun ls hl => ?_)
    exact h d hd p e s m args below meth c hcx H locs _ hW hS (lv_sub hl [2, 1, 0] rfl))
/-! doNow -/
set_option maxHeartbeats 4000000 in
set_option maxRecDepth 100000 in
theorem mb_doNow {E : mj_E} {σ : mj_S} {x1 : Int32} {x2 : Int32} {x3 : Int32} {x4 : Int32} {x5 : Int32} {P : Int32 → mj_S → Prop} (hE : mj_ok E) (h : ((x1 = (0 : Int32) → ms_putsNow E σ x2 x3 x4 x5 (fun r2 σ3 => P r2 σ3)) ∧ (¬ x1 = (0 : Int32) → ((x1 = (1 : Int32) → ms_takesNow E σ x2 x3 x4 x5 (fun r5 σ6 => P r5 σ6)) ∧ (¬ x1 = (1 : Int32) → ((x1 = (2 : Int32) → (vp_in (0 : Int32) 331 ∧ (vp_in (0 : Int32) 331 ∧ ms_isUsed E (mj_sA σ 13 (0 : Int32).toNatClampNeg ((mj_A σ 13 (0 : Int32).toNatClampNeg) ^^^ ((1 : Int32) <<< (x2 &&& 31)))) x2 (fun r10 σ11 => ((r10 = 0 → P (0 : Int32) σ11) ∧ (¬ r10 = 0 → P (1 : Int32) σ11)))))) ∧ (¬ x1 = (2 : Int32) → (vp_in (1 : Int32) 331 ∧ (vp_in (1 : Int32) 331 ∧ P (mj_A σ 13 (1 : Int32).toNatClampNeg) (mj_sA σ 13 (1 : Int32).toNatClampNeg x2)))))))))) : ms_doNow E σ x1 x2 x3 x4 x5 P :=
  mj_enter (k := 4) (lv := [(0, .ref (mj_o E)), (1, .int x1), (2, .int x2), (3, .int x3), (4, .int x4), (5, .int x5)]) hE rfl (Nat.le_of_ble_eq_true rfl) rfl (by
    intro d hd p e s m args below meth c hcx H locs ls hW hS hl
    have hx := hcx.1
    have hb := hcx.2.1
    have hown := hcx.2.2.2.2.2.1
    have hts := hcx.2.2.2.2.2.2.1
    refine lv_iload_n (pc := 0) hx hb dX4_doNow_0 rfl (lv_at hl 1 rfl) ?_
    by_cases c1 : x1 = (0 : Int32)
    · have h := h.1 c1
      refine lv_tableIn (pc := 1) (off := 27) (tgt := 28) hx hb dX4_doNow_1 (by rw [c1]; decide) (by rw [c1]; decide) (by rw [c1]; rfl) (by decide) ?_
      refine lv_aload_n (pc := 28) hx hb dX4_doNow_28 rfl (lv_at hl 0 rfl) ?_
      refine lv_iload_n (pc := 29) hx hb dX4_doNow_29 rfl (lv_at hl 2 rfl) ?_
      refine lv_iload_n (pc := 30) hx hb dX4_doNow_30 rfl (lv_at hl 3 rfl) ?_
      refine lv_iload (pc := 31) hx hb dX4_doNow_31 (lv_at hl 4 rfl) ?_
      refine lv_iload (pc := 33) hx hb dX4_doNow_33 (lv_at hl 5 rfl) ?_
      refine mj_ci (pc := 35) (mj_runV hcx hW [.int x2, .int x3, .int x4, .int x5] h (Nat.le_trans (by decide) hd) (lw_V q1501 q1503 qs65 q125 q1504) yd_putsNow (by decide) rfl rfl (Nat.le_of_ble_eq_true rfl) hl.1 dX4_doNow_35) hS (fun r2 σ3 h H locs hW hS => ?_)
      exact mj_reti (pc := 38) hcx hW hS rfl h dX4_doNow_38
    · have h := h.2 c1
      by_cases c4 : x1 = (1 : Int32)
      · have h := h.1 c4
        refine lv_tableIn (pc := 1) (off := 38) (tgt := 39) hx hb dX4_doNow_1 (by rw [c4]; decide) (by rw [c4]; decide) (by rw [c4]; rfl) (by decide) ?_
        refine lv_aload_n (pc := 39) hx hb dX4_doNow_39 rfl (lv_at hl 0 rfl) ?_
        refine lv_iload_n (pc := 40) hx hb dX4_doNow_40 rfl (lv_at hl 2 rfl) ?_
        refine lv_iload_n (pc := 41) hx hb dX4_doNow_41 rfl (lv_at hl 3 rfl) ?_
        refine lv_iload (pc := 42) hx hb dX4_doNow_42 (lv_at hl 4 rfl) ?_
        refine lv_iload (pc := 44) hx hb dX4_doNow_44 (lv_at hl 5 rfl) ?_
        refine mj_ci (pc := 46) (mj_runV hcx hW [.int x2, .int x3, .int x4, .int x5] h (Nat.le_trans (by decide) hd) (lw_V q1549 q1551 qs76 q125 q1552) yd_takesNow (by decide) rfl rfl (Nat.le_of_ble_eq_true rfl) hl.1 dX4_doNow_46) hS (fun r5 σ6 h H locs hW hS => ?_)
        exact mj_reti (pc := 49) hcx hW hS rfl h dX4_doNow_49
      · have h := h.2 c4
        by_cases c7 : x1 = (2 : Int32)
        · have h := h.1 c7
          refine lv_tableIn (pc := 1) (off := 49) (tgt := 50) hx hb dX4_doNow_1 (by rw [c7]; decide) (by rw [c7]; decide) (by rw [c7]; rfl) (by decide) ?_
          refine lv_aload_n (pc := 50) hx hb dX4_doNow_50 rfl (lv_at hl 0 rfl) ?_
          refine mj_geta (pc := 51) hcx hW 13 (by decide) rfl q1268 dX4_doNow_51 ?_
          refine lv_iconst (pc := 54) (v := (0 : Int32)) hx hb dX4_doNow_54 (by decide) ?_
          refine lv_dup2_11 (pc := 55) hx hb dX4_doNow_55 rfl rfl ?_
          obtain ⟨g8, h⟩ := h
          refine mj_ald (pc := 56) hcx hW 13 rfl rfl g8 dX4_doNow_56 ?_
          refine lv_iconst (pc := 57) (v := (1 : Int32)) hx hb dX4_doNow_57 (by decide) ?_
          refine lv_iload_n (pc := 58) hx hb dX4_doNow_58 rfl (lv_at hl 2 rfl) ?_
          refine lv_ishl (pc := 59) hx hb dX4_doNow_59 ?_
          refine lv_ixor (pc := 60) hx hb dX4_doNow_60 ?_
          obtain ⟨g9, h⟩ := h
          refine mj_ast (pc := 61) hcx hW hS 13 rfl rfl g9 dX4_doNow_61 (fun H locs hW hS => ?_)
          refine lv_aload_n (pc := 62) hx hb dX4_doNow_62 rfl (lv_at hl 0 rfl) ?_
          refine lv_iload_n (pc := 63) hx hb dX4_doNow_63 rfl (lv_at hl 2 rfl) ?_
          refine mj_ci (pc := 64) (mj_runV hcx hW [.int x2] h (Nat.le_trans (by decide) hd) (lw_V q1553 q1555 qs77 q125 q1556) yd_isUsed (by decide) rfl rfl (Nat.le_of_ble_eq_true rfl) hl.1 dX4_doNow_64) hS (fun r10 σ11 h H locs hW hS => ?_)
          refine lv_if_eq (pc := 67) (tgt := 74) hx hb dX4_doNow_67 (by decide) (fun c12 => ?_) (fun c12 => ?_)
          · have h := h.1 c12
            refine lv_iconst (pc := 74) (v := (0 : Int32)) hx hb dX4_doNow_74 (by decide) ?_
            exact mj_reti (pc := 75) hcx hW hS rfl h dX4_doNow_75
          · have h := h.2 c12
            refine lv_iconst (pc := 70) (v := (1 : Int32)) hx hb dX4_doNow_70 (by decide) ?_
            refine lv_goto (pc := 71) (tgt := 75) hx hb dX4_doNow_71 (by decide) ?_
            exact mj_reti (pc := 75) hcx hW hS rfl h dX4_doNow_75
        · have h := h.2 c7
          refine lv_tableOut (pc := 1) (tgt := 76) hx hb dX4_doNow_1 (mj_sw3 c1 c4 c7) (by decide) ?_
          refine lv_aload_n (pc := 76) hx hb dX4_doNow_76 rfl (lv_at hl 0 rfl) ?_
          refine mj_geta (pc := 77) hcx hW 13 (by decide) rfl q1268 dX4_doNow_77 ?_
          refine lv_iconst (pc := 80) (v := (1 : Int32)) hx hb dX4_doNow_80 (by decide) ?_
          obtain ⟨g13, h⟩ := h
          refine mj_ald (pc := 81) hcx hW 13 rfl rfl g13 dX4_doNow_81 ?_
          refine lv_istore (pc := 82) (lv' := [(6, .int (mj_A σ 13 (1 : Int32).toNatClampNeg)), (0, .ref (mj_o E)), (1, .int x1), (2, .int x2), (3, .int x3), (4, .int x4), (5, .int x5)]) hx hb dX4_doNow_82 hl (by decide) rfl (fun ls hl => ?_)
          refine lv_aload_n (pc := 84) hx hb dX4_doNow_84 rfl (lv_at hl 1 rfl) ?_
          refine mj_geta (pc := 85) hcx hW 13 (by decide) rfl q1268 dX4_doNow_85 ?_
          refine lv_iconst (pc := 88) (v := (1 : Int32)) hx hb dX4_doNow_88 (by decide) ?_
          refine lv_iload_n (pc := 89) hx hb dX4_doNow_89 rfl (lv_at hl 3 rfl) ?_
          obtain ⟨g14, h⟩ := h
          refine mj_ast (pc := 90) hcx hW hS 13 rfl rfl g14 dX4_doNow_90 (fun H locs hW hS => ?_)
          refine lv_iload (pc := 91) hx hb dX4_doNow_91 (lv_at hl 0 rfl) ?_
          exact mj_reti (pc := 93) hcx hW hS rfl h dX4_doNow_93)
/-! readScript -/
set_option maxHeartbeats 4000000 in
set_option maxRecDepth 100000 in
theorem mb_readScript_13 {E : mj_E} {σ : mj_S} {x1 : Int32} {x2 : Int32} {P : Int32 → mj_S → Prop} (h : ((x2 = 0 → ms_ends E σ (fun r2 σ3 => P r2 σ3)) ∧ (¬ x2 = 0 → (vp_in x1 5 ∧ ms_readStep E σ ((5 : Int32) * (((12 : Int32) * x1) + (mj_A σ 11 x1.toNatClampNeg))) (fun σ6 => (vp_in x1 5 ∧ (vp_in x1 5 ∧ (((mj_F (mj_sA σ6 11 x1.toNatClampNeg ((mj_A σ6 11 x1.toNatClampNeg) + (1 : Int32))) 4) = (-1 : Int32) → ms_ahead E (mj_sA σ6 11 x1.toNatClampNeg ((mj_A σ6 11 x1.toNatClampNeg) + (1 : Int32))) (fun r10 σ11 => ((r10 = (59 : Int32) → (vp_in x1 5 ∧ (((12 : Int32) ≤ (mj_A σ11 11 x1.toNatClampNeg) → mg_readScript_77 E σ11 x1 (0 : Int32) P) ∧ (¬ (12 : Int32) ≤ (mj_A σ11 11 x1.toNatClampNeg) → mg_readScript_77 E σ11 x1 (1 : Int32) P)))) ∧ (¬ r10 = (59 : Int32) → mg_readScript_77 E σ11 x1 (0 : Int32) P)))) ∧ (¬ (mj_F (mj_sA σ6 11 x1.toNatClampNeg ((mj_A σ6 11 x1.toNatClampNeg) + (1 : Int32))) 4) = (-1 : Int32) → mg_readScript_77 E (mj_sA σ6 11 x1.toNatClampNeg ((mj_A σ6 11 x1.toNatClampNeg) + (1 : Int32))) x1 (0 : Int32) P))))))))) : mg_readScript_13 E σ x1 x2 P := by
  intro d hd p e s m args below meth c hcx H locs ls hW hS hl
  have hx := hcx.1
  have hb := hcx.2.1
  have hown := hcx.2.2.2.2.2.1
  have hts := hcx.2.2.2.2.2.2.1
  refine lv_iload_n (pc := 13) hx hb dX4_readScript_13 rfl (lv_at hl 2 rfl) ?_
  refine lv_if_eq (pc := 14) (tgt := 99) hx hb dX4_readScript_14 (by decide) (fun c1 => ?_) (fun c1 => ?_)
  · have h := h.1 c1
    refine lv_aload_n (pc := 99) hx hb dX4_readScript_99 rfl (lv_at hl 0 rfl) ?_
    refine mj_ci (pc := 100) (mj_runV hcx hW [] h (Nat.le_trans (by decide) hd) (lw_V q1458 q1460 qs56 q125 q1461) yd_ends (by decide) rfl rfl (Nat.le_of_ble_eq_true rfl) hl.1 dX4_readScript_100) hS (fun r2 σ3 h H locs hW hS => ?_)
    exact mj_reti (pc := 103) hcx hW hS rfl h dX4_readScript_103
  · have h := h.2 c1
    refine lv_aload_n (pc := 17) hx hb dX4_readScript_17 rfl (lv_at hl 0 rfl) ?_
    refine lv_iconst (pc := 18) (v := (5 : Int32)) hx hb dX4_readScript_18 (by decide) ?_
    refine lv_bipush (pc := 19) (v := (12 : Int32)) hx hb dX4_readScript_19 (by decide) ?_
    refine lv_iload_n (pc := 21) hx hb dX4_readScript_21 rfl (lv_at hl 1 rfl) ?_
    refine lv_imul (pc := 22) hx hb dX4_readScript_22 ?_
    refine lv_aload_n (pc := 23) hx hb dX4_readScript_23 rfl (lv_at hl 0 rfl) ?_
    refine mj_geta (pc := 24) hcx hW 11 (by decide) rfl q1266 dX4_readScript_24 ?_
    refine lv_iload_n (pc := 27) hx hb dX4_readScript_27 rfl (lv_at hl 1 rfl) ?_
    obtain ⟨g4, h⟩ := h
    refine mj_ald (pc := 28) hcx hW 11 rfl rfl g4 dX4_readScript_28 ?_
    refine lv_iadd (pc := 29) hx hb dX4_readScript_29 ?_
    refine lv_imul (pc := 30) hx hb dX4_readScript_30 ?_
    refine mj_cv (pc := 31) (mj_runV hcx hW [.int ((5 : Int32) * (((12 : Int32) * x1) + (mj_A σ 11 x1.toNatClampNeg)))] h (Nat.le_trans (by decide) hd) (lw_V q1466 q1468 qs58 q125 q1469) yd_readStep (by decide) rfl rfl (Nat.le_of_ble_eq_true rfl) hl.1 dX4_readScript_31) hS (fun σ6 h H locs hW hS => ?_)
    refine lv_aload_n (pc := 34) hx hb dX4_readScript_34 rfl (lv_at hl 0 rfl) ?_
    refine mj_geta (pc := 35) hcx hW 11 (by decide) rfl q1266 dX4_readScript_35 ?_
    refine lv_iload_n (pc := 38) hx hb dX4_readScript_38 rfl (lv_at hl 1 rfl) ?_
    refine lv_dup2_11 (pc := 39) hx hb dX4_readScript_39 rfl rfl ?_
    obtain ⟨g7, h⟩ := h
    refine mj_ald (pc := 40) hcx hW 11 rfl rfl g7 dX4_readScript_40 ?_
    refine lv_iconst (pc := 41) (v := (1 : Int32)) hx hb dX4_readScript_41 (by decide) ?_
    refine lv_iadd (pc := 42) hx hb dX4_readScript_42 ?_
    obtain ⟨g8, h⟩ := h
    refine mj_ast (pc := 43) hcx hW hS 11 rfl rfl g8 dX4_readScript_43 (fun H locs hW hS => ?_)
    refine lv_aload_n (pc := 44) hx hb dX4_readScript_44 rfl (lv_at hl 0 rfl) ?_
    refine mj_geti (pc := 45) hcx hW 4 (by decide) rfl q1259 dX4_readScript_45 ?_
    refine lv_iconst (pc := 48) (v := (-1 : Int32)) hx hb dX4_readScript_48 (by decide) ?_
    refine lv_icmp_ne (pc := 49) (tgt := 76) hx hb dX4_readScript_49 (by decide) (fun c9 => ?_) (fun c9 => ?_)
    · have h := h.2 c9
      refine lv_iconst (pc := 76) (v := (0 : Int32)) hx hb dX4_readScript_76 (by decide) ?_
      exact h d hd p e s m args below meth c hcx H locs _ hW hS (lv_sub hl [0, 1] rfl)
    · have h := h.1 c9
      refine lv_aload_n (pc := 52) hx hb dX4_readScript_52 rfl (lv_at hl 0 rfl) ?_
      refine mj_ci (pc := 53) (mj_runV hcx hW [] h (Nat.le_trans (by decide) hd) (lw_V q1424 q1426 qs49 q125 q1427) yd_ahead (by decide) rfl rfl (Nat.le_of_ble_eq_true rfl) hl.1 dX4_readScript_53) hS (fun r10 σ11 h H locs hW hS => ?_)
      refine lv_bipush (pc := 56) (v := (59 : Int32)) hx hb dX4_readScript_56 (by decide) ?_
      refine lv_icmp_ne (pc := 58) (tgt := 76) hx hb dX4_readScript_58 (by decide) (fun c12 => ?_) (fun c12 => ?_)
      · have h := h.2 c12
        refine lv_iconst (pc := 76) (v := (0 : Int32)) hx hb dX4_readScript_76 (by decide) ?_
        exact h d hd p e s m args below meth c hcx H locs _ hW hS (lv_sub hl [0, 1] rfl)
      · have h := h.1 c12
        refine lv_aload_n (pc := 61) hx hb dX4_readScript_61 rfl (lv_at hl 0 rfl) ?_
        refine mj_geta (pc := 62) hcx hW 11 (by decide) rfl q1266 dX4_readScript_62 ?_
        refine lv_iload_n (pc := 65) hx hb dX4_readScript_65 rfl (lv_at hl 1 rfl) ?_
        obtain ⟨g13, h⟩ := h
        refine mj_ald (pc := 66) hcx hW 11 rfl rfl g13 dX4_readScript_66 ?_
        refine lv_bipush (pc := 67) (v := (12 : Int32)) hx hb dX4_readScript_67 (by decide) ?_
        refine lv_icmp_ge (pc := 69) (tgt := 76) hx hb dX4_readScript_69 (by decide) (fun c14 => ?_) (fun c14 => ?_)
        · have h := h.1 c14
          refine lv_iconst (pc := 76) (v := (0 : Int32)) hx hb dX4_readScript_76 (by decide) ?_
          exact h d hd p e s m args below meth c hcx H locs _ hW hS (lv_sub hl [0, 1] rfl)
        · have h := h.2 c14
          refine lv_iconst (pc := 72) (v := (1 : Int32)) hx hb dX4_readScript_72 (by decide) ?_
          refine lv_goto (pc := 73) (tgt := 77) hx hb dX4_readScript_73 (by decide) ?_
          exact h d hd p e s m args below meth c hcx H locs _ hW hS (lv_sub hl [0, 1] rfl)
set_option maxHeartbeats 4000000 in
set_option maxRecDepth 100000 in
theorem mb_readScript_77 {E : mj_E} {σ : mj_S} {x1 : Int32} {t0 : Int32} {P : Int32 → mj_S → Prop} (h : ((t0 = 0 → mg_readScript_13 E (mj_sF σ 3 ((mj_F σ 3) + (0 : Int32))) x1 t0 P) ∧ (¬ t0 = 0 → mg_readScript_13 E (mj_sF σ 3 ((mj_F σ 3) + (1 : Int32))) x1 t0 P))) : mg_readScript_77 E σ x1 t0 P := by
  intro d hd p e s m args below meth c hcx H locs ls hW hS hl
  have hx := hcx.1
  have hb := hcx.2.1
  have hown := hcx.2.2.2.2.2.1
  have hts := hcx.2.2.2.2.2.2.1
  refine lv_istore_n (pc := 77) (lv' := [(2, .int t0), (0, .ref (mj_o E)), (1, .int x1)]) hx hb dX4_readScript_77 rfl hl (by decide) rfl (fun ls hl => ?_)
  refine lv_aload_n (pc := 78) hx hb dX4_readScript_78 rfl (lv_at hl 1 rfl) ?_
  refine lv_dup (pc := 79) hx hb dX4_readScript_79 rfl ?_
  refine mj_geti (pc := 80) hcx hW 3 (by decide) rfl q1258 dX4_readScript_80 ?_
  refine lv_iload_n (pc := 83) hx hb dX4_readScript_83 rfl (lv_at hl 0 rfl) ?_
  refine lv_if_eq (pc := 84) (tgt := 91) hx hb dX4_readScript_84 (by decide) (fun c1 => ?_) (fun c1 => ?_)
  · have h := h.1 c1
    refine lv_iconst (pc := 91) (v := (0 : Int32)) hx hb dX4_readScript_91 (by decide) ?_
    refine lv_iadd (pc := 92) hx hb dX4_readScript_92 ?_
    refine mj_puti (pc := 93) hcx hW hS 3 (by decide) rfl rfl rfl rfl q1258 dX4_readScript_93 (fun H locs hW hS => ?_)
    refine lv_goto (pc := 96) (tgt := 13) hx hb dX4_readScript_96 (by decide) ?_
    exact h d hd p e s m args below meth c hcx H locs _ hW hS (lv_sub hl [1, 2, 0] rfl)
  · have h := h.2 c1
    refine lv_iconst (pc := 87) (v := (1 : Int32)) hx hb dX4_readScript_87 (by decide) ?_
    refine lv_goto (pc := 88) (tgt := 92) hx hb dX4_readScript_88 (by decide) ?_
    refine lv_iadd (pc := 92) hx hb dX4_readScript_92 ?_
    refine mj_puti (pc := 93) hcx hW hS 3 (by decide) rfl rfl rfl rfl q1258 dX4_readScript_93 (fun H locs hW hS => ?_)
    refine lv_goto (pc := 96) (tgt := 13) hx hb dX4_readScript_96 (by decide) ?_
    exact h d hd p e s m args below meth c hcx H locs _ hW hS (lv_sub hl [1, 2, 0] rfl)
set_option maxHeartbeats 4000000 in
set_option maxRecDepth 100000 in
theorem mb_readScript {E : mj_E} {σ : mj_S} {x1 : Int32} {P : Int32 → mj_S → Prop} (hE : mj_ok E) (h : ms_begins E σ (fun σ2 => (vp_in x1 5 ∧ mg_readScript_13 E (mj_sA σ2 11 x1.toNatClampNeg (0 : Int32)) x1 (1 : Int32) P))) : ms_readScript E σ x1 P :=
  mj_enter (k := 4) (lv := [(0, .ref (mj_o E)), (1, .int x1)]) hE rfl (Nat.le_of_ble_eq_true rfl) rfl (by
    intro d hd p e s m args below meth c hcx H locs ls hW hS hl
    have hx := hcx.1
    have hb := hcx.2.1
    have hown := hcx.2.2.2.2.2.1
    have hts := hcx.2.2.2.2.2.2.1
    refine lv_aload_n (pc := 0) hx hb dX4_readScript_0 rfl (lv_at hl 0 rfl) ?_
    refine mj_cv (pc := 1) (mj_runV hcx hW [] h (Nat.le_trans (by decide) hd) (lw_V q1412 q1414 qs46 q125 q1415) yd_begins (by decide) rfl rfl (Nat.le_of_ble_eq_true rfl) hl.1 dX4_readScript_1) hS (fun σ2 h H locs hW hS => ?_)
    refine lv_aload_n (pc := 4) hx hb dX4_readScript_4 rfl (lv_at hl 0 rfl) ?_
    refine mj_geta (pc := 5) hcx hW 11 (by decide) rfl q1266 dX4_readScript_5 ?_
    refine lv_iload_n (pc := 8) hx hb dX4_readScript_8 rfl (lv_at hl 1 rfl) ?_
    refine lv_iconst (pc := 9) (v := (0 : Int32)) hx hb dX4_readScript_9 (by decide) ?_
    obtain ⟨g3, h⟩ := h
    refine mj_ast (pc := 10) hcx hW hS 11 rfl rfl g3 dX4_readScript_10 (fun H locs hW hS => ?_)
    refine lv_iconst (pc := 11) (v := (1 : Int32)) hx hb dX4_readScript_11 (by decide) ?_
    refine lv_istore_n (pc := 12) (lv' := [(2, .int (1 : Int32)), (0, .ref (mj_o E)), (1, .int x1)]) hx hb dX4_readScript_12 rfl hl (by decide) rfl (fun ls hl => ?_)
    exact h d hd p e s m args below meth c hcx H locs _ hW hS (lv_sub hl [1, 2, 0] rfl))
/-! readTable -/
set_option maxHeartbeats 4000000 in
set_option maxRecDepth 100000 in
theorem mb_readTable_36 {E : mj_E} {σ : mj_S} {x1 : Int32} {x2 : Int32} {P : mj_S → Prop} (h : ((x2 = 0 → P σ) ∧ (¬ x2 = 0 → ms_readRow E σ x1 (fun σ3 => (((mj_F σ3 4) = (-1 : Int32) → ms_ahead E σ3 (fun r5 σ6 => ((r5 = (47 : Int32) → (vp_in x1 4 ∧ (((12 : Int32) ≤ (mj_A σ6 7 x1.toNatClampNeg) → mg_readTable_78 E σ6 x1 (0 : Int32) P) ∧ (¬ (12 : Int32) ≤ (mj_A σ6 7 x1.toNatClampNeg) → mg_readTable_78 E σ6 x1 (1 : Int32) P)))) ∧ (¬ r5 = (47 : Int32) → mg_readTable_78 E σ6 x1 (0 : Int32) P)))) ∧ (¬ (mj_F σ3 4) = (-1 : Int32) → mg_readTable_78 E σ3 x1 (0 : Int32) P)))))) : mg_readTable_36 E σ x1 x2 P := by
  intro d hd p e s m args below meth c hcx H locs ls hW hS hl
  have hx := hcx.1
  have hb := hcx.2.1
  have hown := hcx.2.2.2.2.2.1
  have hts := hcx.2.2.2.2.2.2.1
  refine lv_iload_n (pc := 36) hx hb dX4_readTable_36 rfl (lv_at hl 2 rfl) ?_
  refine lv_if_eq (pc := 37) (tgt := 100) hx hb dX4_readTable_37 (by decide) (fun c1 => ?_) (fun c1 => ?_)
  · have h := h.1 c1
    exact mj_retv (pc := 100) hcx hW hS h dX4_readTable_100
  · have h := h.2 c1
    refine lv_aload_n (pc := 40) hx hb dX4_readTable_40 rfl (lv_at hl 0 rfl) ?_
    refine lv_iload_n (pc := 41) hx hb dX4_readTable_41 rfl (lv_at hl 1 rfl) ?_
    refine mj_cv (pc := 42) (mj_runV hcx hW [.int x1] h (Nat.le_trans (by decide) hd) (lw_V q1450 q1452 qs54 q125 q1453) yd_readRow (by decide) rfl rfl (Nat.le_of_ble_eq_true rfl) hl.1 dX4_readTable_42) hS (fun σ3 h H locs hW hS => ?_)
    refine lv_aload_n (pc := 45) hx hb dX4_readTable_45 rfl (lv_at hl 0 rfl) ?_
    refine mj_geti (pc := 46) hcx hW 4 (by decide) rfl q1259 dX4_readTable_46 ?_
    refine lv_iconst (pc := 49) (v := (-1 : Int32)) hx hb dX4_readTable_49 (by decide) ?_
    refine lv_icmp_ne (pc := 50) (tgt := 77) hx hb dX4_readTable_50 (by decide) (fun c4 => ?_) (fun c4 => ?_)
    · have h := h.2 c4
      refine lv_iconst (pc := 77) (v := (0 : Int32)) hx hb dX4_readTable_77 (by decide) ?_
      exact h d hd p e s m args below meth c hcx H locs _ hW hS (lv_sub hl [0, 1] rfl)
    · have h := h.1 c4
      refine lv_aload_n (pc := 53) hx hb dX4_readTable_53 rfl (lv_at hl 0 rfl) ?_
      refine mj_ci (pc := 54) (mj_runV hcx hW [] h (Nat.le_trans (by decide) hd) (lw_V q1424 q1426 qs49 q125 q1427) yd_ahead (by decide) rfl rfl (Nat.le_of_ble_eq_true rfl) hl.1 dX4_readTable_54) hS (fun r5 σ6 h H locs hW hS => ?_)
      refine lv_bipush (pc := 57) (v := (47 : Int32)) hx hb dX4_readTable_57 (by decide) ?_
      refine lv_icmp_ne (pc := 59) (tgt := 77) hx hb dX4_readTable_59 (by decide) (fun c7 => ?_) (fun c7 => ?_)
      · have h := h.2 c7
        refine lv_iconst (pc := 77) (v := (0 : Int32)) hx hb dX4_readTable_77 (by decide) ?_
        exact h d hd p e s m args below meth c hcx H locs _ hW hS (lv_sub hl [0, 1] rfl)
      · have h := h.1 c7
        refine lv_aload_n (pc := 62) hx hb dX4_readTable_62 rfl (lv_at hl 0 rfl) ?_
        refine mj_geta (pc := 63) hcx hW 7 (by decide) rfl q1262 dX4_readTable_63 ?_
        refine lv_iload_n (pc := 66) hx hb dX4_readTable_66 rfl (lv_at hl 1 rfl) ?_
        obtain ⟨g8, h⟩ := h
        refine mj_ald (pc := 67) hcx hW 7 rfl rfl g8 dX4_readTable_67 ?_
        refine lv_bipush (pc := 68) (v := (12 : Int32)) hx hb dX4_readTable_68 (by decide) ?_
        refine lv_icmp_ge (pc := 70) (tgt := 77) hx hb dX4_readTable_70 (by decide) (fun c9 => ?_) (fun c9 => ?_)
        · have h := h.1 c9
          refine lv_iconst (pc := 77) (v := (0 : Int32)) hx hb dX4_readTable_77 (by decide) ?_
          exact h d hd p e s m args below meth c hcx H locs _ hW hS (lv_sub hl [0, 1] rfl)
        · have h := h.2 c9
          refine lv_iconst (pc := 73) (v := (1 : Int32)) hx hb dX4_readTable_73 (by decide) ?_
          refine lv_goto (pc := 74) (tgt := 78) hx hb dX4_readTable_74 (by decide) ?_
          exact h d hd p e s m args below meth c hcx H locs _ hW hS (lv_sub hl [0, 1] rfl)
set_option maxHeartbeats 4000000 in
set_option maxRecDepth 100000 in
theorem mb_readTable_78 {E : mj_E} {σ : mj_S} {x1 : Int32} {t0 : Int32} {P : mj_S → Prop} (h : ((t0 = 0 → mg_readTable_36 E (mj_sF σ 3 ((mj_F σ 3) + (0 : Int32))) x1 t0 P) ∧ (¬ t0 = 0 → mg_readTable_36 E (mj_sF σ 3 ((mj_F σ 3) + (1 : Int32))) x1 t0 P))) : mg_readTable_78 E σ x1 t0 P := by
  intro d hd p e s m args below meth c hcx H locs ls hW hS hl
  have hx := hcx.1
  have hb := hcx.2.1
  have hown := hcx.2.2.2.2.2.1
  have hts := hcx.2.2.2.2.2.2.1
  refine lv_istore_n (pc := 78) (lv' := [(2, .int t0), (0, .ref (mj_o E)), (1, .int x1)]) hx hb dX4_readTable_78 rfl hl (by decide) rfl (fun ls hl => ?_)
  refine lv_aload_n (pc := 79) hx hb dX4_readTable_79 rfl (lv_at hl 1 rfl) ?_
  refine lv_dup (pc := 80) hx hb dX4_readTable_80 rfl ?_
  refine mj_geti (pc := 81) hcx hW 3 (by decide) rfl q1258 dX4_readTable_81 ?_
  refine lv_iload_n (pc := 84) hx hb dX4_readTable_84 rfl (lv_at hl 0 rfl) ?_
  refine lv_if_eq (pc := 85) (tgt := 92) hx hb dX4_readTable_85 (by decide) (fun c1 => ?_) (fun c1 => ?_)
  · have h := h.1 c1
    refine lv_iconst (pc := 92) (v := (0 : Int32)) hx hb dX4_readTable_92 (by decide) ?_
    refine lv_iadd (pc := 93) hx hb dX4_readTable_93 ?_
    refine mj_puti (pc := 94) hcx hW hS 3 (by decide) rfl rfl rfl rfl q1258 dX4_readTable_94 (fun H locs hW hS => ?_)
    refine lv_goto (pc := 97) (tgt := 36) hx hb dX4_readTable_97 (by decide) ?_
    exact h d hd p e s m args below meth c hcx H locs _ hW hS (lv_sub hl [1, 2, 0] rfl)
  · have h := h.2 c1
    refine lv_iconst (pc := 88) (v := (1 : Int32)) hx hb dX4_readTable_88 (by decide) ?_
    refine lv_goto (pc := 89) (tgt := 93) hx hb dX4_readTable_89 (by decide) ?_
    refine lv_iadd (pc := 93) hx hb dX4_readTable_93 ?_
    refine mj_puti (pc := 94) hcx hW hS 3 (by decide) rfl rfl rfl rfl q1258 dX4_readTable_94 (fun H locs hW hS => ?_)
    refine lv_goto (pc := 97) (tgt := 36) hx hb dX4_readTable_97 (by decide) ?_
    exact h d hd p e s m args below meth c hcx H locs _ hW hS (lv_sub hl [1, 2, 0] rfl)
set_option maxHeartbeats 4000000 in
set_option maxRecDepth 100000 in
theorem mb_readTable {E : mj_E} {σ : mj_S} {x1 : Int32} {P : mj_S → Prop} (hE : mj_ok E) (h : ms_readHead E σ x1 (fun σ2 => (vp_in x1 4 ∧ (((mj_F (mj_sA σ2 7 x1.toNatClampNeg (0 : Int32)) 4) = (-1 : Int32) → ms_ahead E (mj_sA σ2 7 x1.toNatClampNeg (0 : Int32)) (fun r5 σ6 => ms_isDigit E σ6 r5 (fun r7 σ8 => ((r7 = 0 → mg_readTable_36 E σ8 x1 (0 : Int32) P) ∧ (¬ r7 = 0 → mg_readTable_36 E σ8 x1 (1 : Int32) P))))) ∧ (¬ (mj_F (mj_sA σ2 7 x1.toNatClampNeg (0 : Int32)) 4) = (-1 : Int32) → mg_readTable_36 E (mj_sA σ2 7 x1.toNatClampNeg (0 : Int32)) x1 (0 : Int32) P))))) : ms_readTable E σ x1 P :=
  mj_enter (k := 4) (lv := [(0, .ref (mj_o E)), (1, .int x1)]) hE rfl (Nat.le_of_ble_eq_true rfl) rfl (by
    intro d hd p e s m args below meth c hcx H locs ls hW hS hl
    have hx := hcx.1
    have hb := hcx.2.1
    have hown := hcx.2.2.2.2.2.1
    have hts := hcx.2.2.2.2.2.2.1
    refine lv_aload_n (pc := 0) hx hb dX4_readTable_0 rfl (lv_at hl 0 rfl) ?_
    refine lv_iload_n (pc := 1) hx hb dX4_readTable_1 rfl (lv_at hl 1 rfl) ?_
    refine mj_cv (pc := 2) (mj_runV hcx hW [.int x1] h (Nat.le_trans (by decide) hd) (lw_V q1420 q1422 qs48 q125 q1423) yd_readHead (by decide) rfl rfl (Nat.le_of_ble_eq_true rfl) hl.1 dX4_readTable_2) hS (fun σ2 h H locs hW hS => ?_)
    refine lv_aload_n (pc := 5) hx hb dX4_readTable_5 rfl (lv_at hl 0 rfl) ?_
    refine mj_geta (pc := 6) hcx hW 7 (by decide) rfl q1262 dX4_readTable_6 ?_
    refine lv_iload_n (pc := 9) hx hb dX4_readTable_9 rfl (lv_at hl 1 rfl) ?_
    refine lv_iconst (pc := 10) (v := (0 : Int32)) hx hb dX4_readTable_10 (by decide) ?_
    obtain ⟨g3, h⟩ := h
    refine mj_ast (pc := 11) hcx hW hS 7 rfl rfl g3 dX4_readTable_11 (fun H locs hW hS => ?_)
    refine lv_aload_n (pc := 12) hx hb dX4_readTable_12 rfl (lv_at hl 0 rfl) ?_
    refine mj_geti (pc := 13) hcx hW 4 (by decide) rfl q1259 dX4_readTable_13 ?_
    refine lv_iconst (pc := 16) (v := (-1 : Int32)) hx hb dX4_readTable_16 (by decide) ?_
    refine lv_icmp_ne (pc := 17) (tgt := 34) hx hb dX4_readTable_17 (by decide) (fun c4 => ?_) (fun c4 => ?_)
    · have h := h.2 c4
      refine lv_iconst (pc := 34) (v := (0 : Int32)) hx hb dX4_readTable_34 (by decide) ?_
      refine lv_istore_n (pc := 35) (lv' := [(2, .int (0 : Int32)), (0, .ref (mj_o E)), (1, .int x1)]) hx hb dX4_readTable_35 rfl hl (by decide) rfl (fun ls hl => ?_)
      exact h d hd p e s m args below meth c hcx H locs _ hW hS (lv_sub hl [1, 2, 0] rfl)
    · have h := h.1 c4
      refine lv_aload_n (pc := 20) hx hb dX4_readTable_20 rfl (lv_at hl 0 rfl) ?_
      refine mj_ci (pc := 21) (mj_runV hcx hW [] h (Nat.le_trans (by decide) hd) (lw_V q1424 q1426 qs49 q125 q1427) yd_ahead (by decide) rfl rfl (Nat.le_of_ble_eq_true rfl) hl.1 dX4_readTable_21) hS (fun r5 σ6 h H locs hW hS => ?_)
      refine mj_ci (pc := 24) (mj_runS hcx hW [.int r5] h (Nat.le_trans (by decide) hd) (lw_S q1447 q1448 q125 q1449) yd_isDigit.2 (by decide) rfl rfl (Nat.le_of_ble_eq_true rfl) hl.1 dX4_readTable_24) hS (fun r7 σ8 h H locs hW hS => ?_)
      refine lv_if_eq (pc := 27) (tgt := 34) hx hb dX4_readTable_27 (by decide) (fun c9 => ?_) (fun c9 => ?_)
      · have h := h.1 c9
        refine lv_iconst (pc := 34) (v := (0 : Int32)) hx hb dX4_readTable_34 (by decide) ?_
        refine lv_istore_n (pc := 35) (lv' := [(2, .int (0 : Int32)), (0, .ref (mj_o E)), (1, .int x1)]) hx hb dX4_readTable_35 rfl hl (by decide) rfl (fun ls hl => ?_)
        exact h d hd p e s m args below meth c hcx H locs _ hW hS (lv_sub hl [1, 2, 0] rfl)
      · have h := h.2 c9
        refine lv_iconst (pc := 30) (v := (1 : Int32)) hx hb dX4_readTable_30 (by decide) ?_
        refine lv_goto (pc := 31) (tgt := 35) hx hb dX4_readTable_31 (by decide) ?_
        refine lv_istore_n (pc := 35) (lv' := [(2, .int (1 : Int32)), (0, .ref (mj_o E)), (1, .int x1)]) hx hb dX4_readTable_35 rfl hl (by decide) rfl (fun ls hl => ?_)
        exact h d hd p e s m args below meth c hcx H locs _ hW hS (lv_sub hl [1, 2, 0] rfl))
/-! takeTables -/
set_option maxHeartbeats 4000000 in
set_option maxRecDepth 100000 in
theorem mb_takeTables_10 {E : mj_E} {σ : mj_S} {x1 : Int32} {P : Int32 → mj_S → Prop} (h : (((331 : Int32) ≤ x1 → (vp_in (0 : Int32) 331 ∧ mg_takeTables_46 E (mj_sA σ 13 (0 : Int32).toNatClampNeg (((1 : Int32) <<< ((mj_F σ 17) &&& 31)) - (1 : Int32))) (0 : Int32) P)) ∧ (¬ (331 : Int32) ≤ x1 → (vp_in x1 331 ∧ mg_takeTables_10 E (mj_sA σ 13 x1.toNatClampNeg (0 : Int32)) (x1 + (1 : Int32)) P)))) : mg_takeTables_10 E σ x1 P := by
  intro d hd p e s m args below meth c hcx H locs ls hW hS hl
  have hx := hcx.1
  have hb := hcx.2.1
  have hown := hcx.2.2.2.2.2.1
  have hts := hcx.2.2.2.2.2.2.1
  refine lv_iload_n (pc := 10) hx hb dX4_takeTables_10 rfl (lv_at hl 1 rfl) ?_
  refine lv_sipush (pc := 11) (v := (331 : Int32)) hx hb dX4_takeTables_11 (by decide) ?_
  refine lv_icmp_ge (pc := 14) (tgt := 30) hx hb dX4_takeTables_14 (by decide) (fun c1 => ?_) (fun c1 => ?_)
  · have h := h.1 c1
    refine lv_aload_n (pc := 30) hx hb dX4_takeTables_30 rfl (lv_at hl 0 rfl) ?_
    refine mj_geta (pc := 31) hcx hW 13 (by decide) rfl q1268 dX4_takeTables_31 ?_
    refine lv_iconst (pc := 34) (v := (0 : Int32)) hx hb dX4_takeTables_34 (by decide) ?_
    refine lv_iconst (pc := 35) (v := (1 : Int32)) hx hb dX4_takeTables_35 (by decide) ?_
    refine lv_aload_n (pc := 36) hx hb dX4_takeTables_36 rfl (lv_at hl 0 rfl) ?_
    refine mj_geti (pc := 37) hcx hW 17 (by decide) rfl q1272 dX4_takeTables_37 ?_
    refine lv_ishl (pc := 40) hx hb dX4_takeTables_40 ?_
    refine lv_iconst (pc := 41) (v := (1 : Int32)) hx hb dX4_takeTables_41 (by decide) ?_
    refine lv_isub (pc := 42) hx hb dX4_takeTables_42 ?_
    obtain ⟨g2, h⟩ := h
    refine mj_ast (pc := 43) hcx hW hS 13 rfl rfl g2 dX4_takeTables_43 (fun H locs hW hS => ?_)
    refine lv_iconst (pc := 44) (v := (0 : Int32)) hx hb dX4_takeTables_44 (by decide) ?_
    refine lv_istore_n (pc := 45) (lv' := [(1, .int (0 : Int32)), (0, .ref (mj_o E))]) hx hb dX4_takeTables_45 rfl hl (by decide) rfl (fun ls hl => ?_)
    exact h d hd p e s m args below meth c hcx H locs _ hW hS (lv_sub hl [1, 0] rfl)
  · have h := h.2 c1
    refine lv_aload_n (pc := 17) hx hb dX4_takeTables_17 rfl (lv_at hl 0 rfl) ?_
    refine mj_geta (pc := 18) hcx hW 13 (by decide) rfl q1268 dX4_takeTables_18 ?_
    refine lv_iload_n (pc := 21) hx hb dX4_takeTables_21 rfl (lv_at hl 1 rfl) ?_
    refine lv_iconst (pc := 22) (v := (0 : Int32)) hx hb dX4_takeTables_22 (by decide) ?_
    obtain ⟨g3, h⟩ := h
    refine mj_ast (pc := 23) hcx hW hS 13 rfl rfl g3 dX4_takeTables_23 (fun H locs hW hS => ?_)
    refine lv_iinc (pc := 24) (v := (x1 + (1 : Int32))) (lv' := [(1, .int (x1 + (1 : Int32))), (0, .ref (mj_o E))]) hx hb dX4_takeTables_24 hl (k := 1) rfl rfl (by decide) rfl (fun ls hl => ?_)
    refine lv_goto (pc := 27) (tgt := 10) hx hb dX4_takeTables_27 (by decide) ?_
    exact h d hd p e s m args below meth c hcx H locs _ hW hS (lv_sub hl [1, 0] rfl)
set_option maxHeartbeats 4000000 in
set_option maxRecDepth 100000 in
theorem mb_takeTables_46 {E : mj_E} {σ : mj_S} {x1 : Int32} {P : Int32 → mj_S → Prop} (h : (((mj_F σ 17) ≤ x1 → P (mj_F (mj_sF (mj_sF σ 29 (0 : Int32)) 42 (0 : Int32)) 17) (mj_sF (mj_sF σ 29 (0 : Int32)) 42 (0 : Int32))) ∧ (¬ (mj_F σ 17) ≤ x1 → (vp_in x1 4 ∧ (vp_in x1 4 ∧ mg_takeTables_68 E (mj_sA σ 15 x1.toNatClampNeg (mj_A σ 5 x1.toNatClampNeg)) x1 (0 : Int32) P))))) : mg_takeTables_46 E σ x1 P := by
  intro d hd p e s m args below meth c hcx H locs ls hW hS hl
  have hx := hcx.1
  have hb := hcx.2.1
  have hown := hcx.2.2.2.2.2.1
  have hts := hcx.2.2.2.2.2.2.1
  refine lv_iload_n (pc := 46) hx hb dX4_takeTables_46 rfl (lv_at hl 1 rfl) ?_
  refine lv_aload_n (pc := 47) hx hb dX4_takeTables_47 rfl (lv_at hl 0 rfl) ?_
  refine mj_geti (pc := 48) hcx hW 17 (by decide) rfl q1272 dX4_takeTables_48 ?_
  refine lv_icmp_ge (pc := 51) (tgt := 190) hx hb dX4_takeTables_51 (by decide) (fun c1 => ?_) (fun c1 => ?_)
  · have h := h.1 c1
    refine lv_aload_n (pc := 190) hx hb dX4_takeTables_190 rfl (lv_at hl 0 rfl) ?_
    refine lv_iconst (pc := 191) (v := (0 : Int32)) hx hb dX4_takeTables_191 (by decide) ?_
    refine mj_puti (pc := 192) hcx hW hS 29 (by decide) rfl rfl rfl rfl q1284 dX4_takeTables_192 (fun H locs hW hS => ?_)
    refine lv_aload_n (pc := 195) hx hb dX4_takeTables_195 rfl (lv_at hl 0 rfl) ?_
    refine lv_iconst (pc := 196) (v := (0 : Int32)) hx hb dX4_takeTables_196 (by decide) ?_
    refine mj_puti (pc := 197) hcx hW hS 42 (by decide) rfl rfl rfl rfl q1297 dX4_takeTables_197 (fun H locs hW hS => ?_)
    refine lv_aload_n (pc := 200) hx hb dX4_takeTables_200 rfl (lv_at hl 0 rfl) ?_
    refine mj_geti (pc := 201) hcx hW 17 (by decide) rfl q1272 dX4_takeTables_201 ?_
    exact mj_reti (pc := 204) hcx hW hS rfl h dX4_takeTables_204
  · have h := h.2 c1
    refine lv_aload_n (pc := 54) hx hb dX4_takeTables_54 rfl (lv_at hl 0 rfl) ?_
    refine mj_geta (pc := 55) hcx hW 15 (by decide) rfl q1270 dX4_takeTables_55 ?_
    refine lv_iload_n (pc := 58) hx hb dX4_takeTables_58 rfl (lv_at hl 1 rfl) ?_
    refine lv_aload_n (pc := 59) hx hb dX4_takeTables_59 rfl (lv_at hl 0 rfl) ?_
    refine mj_geta (pc := 60) hcx hW 5 (by decide) rfl q1260 dX4_takeTables_60 ?_
    refine lv_iload_n (pc := 63) hx hb dX4_takeTables_63 rfl (lv_at hl 1 rfl) ?_
    obtain ⟨g2, h⟩ := h
    refine mj_ald (pc := 64) hcx hW 5 rfl rfl g2 dX4_takeTables_64 ?_
    obtain ⟨g3, h⟩ := h
    refine mj_ast (pc := 65) hcx hW hS 15 rfl rfl g3 dX4_takeTables_65 (fun H locs hW hS => ?_)
    refine lv_iconst (pc := 66) (v := (0 : Int32)) hx hb dX4_takeTables_66 (by decide) ?_
    refine lv_istore_n (pc := 67) (lv' := [(2, .int (0 : Int32)), (0, .ref (mj_o E)), (1, .int x1)]) hx hb dX4_takeTables_67 rfl hl (by decide) rfl (fun ls hl => ?_)
    exact h d hd p e s m args below meth c hcx H locs _ hW hS (lv_sub hl [1, 2, 0] rfl)
set_option maxHeartbeats 4000000 in
set_option maxRecDepth 100000 in
theorem mb_takeTables_68 {E : mj_E} {σ : mj_S} {x1 : Int32} {x2 : Int32} {P : Int32 → mj_S → Prop} (h : (((3 : Int32) ≤ x2 → mg_takeTables_101 E σ x1 (0 : Int32) P) ∧ (¬ (3 : Int32) ≤ x2 → (vp_in (((3 : Int32) * x1) + x2) 12 ∧ (vp_in (((3 : Int32) * x1) + x2) 12 ∧ mg_takeTables_68 E (mj_sA σ 16 (((3 : Int32) * x1) + x2).toNatClampNeg (mj_A σ 6 (((3 : Int32) * x1) + x2).toNatClampNeg)) x1 (x2 + (1 : Int32)) P))))) : mg_takeTables_68 E σ x1 x2 P := by
  intro d hd p e s m args below meth c hcx H locs ls hW hS hl
  have hx := hcx.1
  have hb := hcx.2.1
  have hown := hcx.2.2.2.2.2.1
  have hts := hcx.2.2.2.2.2.2.1
  refine lv_iload_n (pc := 68) hx hb dX4_takeTables_68 rfl (lv_at hl 2 rfl) ?_
  refine lv_iconst (pc := 69) (v := (3 : Int32)) hx hb dX4_takeTables_69 (by decide) ?_
  refine lv_icmp_ge (pc := 70) (tgt := 99) hx hb dX4_takeTables_70 (by decide) (fun c1 => ?_) (fun c1 => ?_)
  · have h := h.1 c1
    refine lv_iconst (pc := 99) (v := (0 : Int32)) hx hb dX4_takeTables_99 (by decide) ?_
    refine lv_istore_n (pc := 100) (lv' := [(2, .int (0 : Int32)), (0, .ref (mj_o E)), (1, .int x1)]) hx hb dX4_takeTables_100 rfl hl (by decide) rfl (fun ls hl => ?_)
    exact h d hd p e s m args below meth c hcx H locs _ hW hS (lv_sub hl [1, 2, 0] rfl)
  · have h := h.2 c1
    refine lv_aload_n (pc := 73) hx hb dX4_takeTables_73 rfl (lv_at hl 0 rfl) ?_
    refine mj_geta (pc := 74) hcx hW 16 (by decide) rfl q1271 dX4_takeTables_74 ?_
    refine lv_iconst (pc := 77) (v := (3 : Int32)) hx hb dX4_takeTables_77 (by decide) ?_
    refine lv_iload_n (pc := 78) hx hb dX4_takeTables_78 rfl (lv_at hl 1 rfl) ?_
    refine lv_imul (pc := 79) hx hb dX4_takeTables_79 ?_
    refine lv_iload_n (pc := 80) hx hb dX4_takeTables_80 rfl (lv_at hl 2 rfl) ?_
    refine lv_iadd (pc := 81) hx hb dX4_takeTables_81 ?_
    refine lv_aload_n (pc := 82) hx hb dX4_takeTables_82 rfl (lv_at hl 0 rfl) ?_
    refine mj_geta (pc := 83) hcx hW 6 (by decide) rfl q1261 dX4_takeTables_83 ?_
    refine lv_iconst (pc := 86) (v := (3 : Int32)) hx hb dX4_takeTables_86 (by decide) ?_
    refine lv_iload_n (pc := 87) hx hb dX4_takeTables_87 rfl (lv_at hl 1 rfl) ?_
    refine lv_imul (pc := 88) hx hb dX4_takeTables_88 ?_
    refine lv_iload_n (pc := 89) hx hb dX4_takeTables_89 rfl (lv_at hl 2 rfl) ?_
    refine lv_iadd (pc := 90) hx hb dX4_takeTables_90 ?_
    obtain ⟨g2, h⟩ := h
    refine mj_ald (pc := 91) hcx hW 6 rfl rfl g2 dX4_takeTables_91 ?_
    obtain ⟨g3, h⟩ := h
    refine mj_ast (pc := 92) hcx hW hS 16 rfl rfl g3 dX4_takeTables_92 (fun H locs hW hS => ?_)
    refine lv_iinc (pc := 93) (v := (x2 + (1 : Int32))) (lv' := [(2, .int (x2 + (1 : Int32))), (0, .ref (mj_o E)), (1, .int x1)]) hx hb dX4_takeTables_93 hl (k := 2) rfl rfl (by decide) rfl (fun ls hl => ?_)
    refine lv_goto (pc := 96) (tgt := 68) hx hb dX4_takeTables_96 (by decide) ?_
    exact h d hd p e s m args below meth c hcx H locs _ hW hS (lv_sub hl [1, 2, 0] rfl)
set_option maxHeartbeats 4000000 in
set_option maxRecDepth 100000 in
theorem mb_takeTables_101 {E : mj_E} {σ : mj_S} {x1 : Int32} {x2 : Int32} {P : Int32 → mj_S → Prop} (h : (vp_in x1 4 ∧ (((mj_A σ 7 x1.toNatClampNeg) ≤ x2 → mg_takeTables_46 E σ (x1 + (1 : Int32)) P) ∧ (¬ (mj_A σ 7 x1.toNatClampNeg) ≤ x2 → (vp_in ((3 : Int32) * (((12 : Int32) * x1) + x2)) 144 ∧ (vp_in (((3 : Int32) * (((12 : Int32) * x1) + x2)) + (1 : Int32)) 144 ∧ (vp_in (((3 : Int32) * (((12 : Int32) * x1) + x2)) + (2 : Int32)) 144 ∧ ms_hasRow E σ x1 (mj_A σ 8 ((3 : Int32) * (((12 : Int32) * x1) + x2)).toNatClampNeg) (mj_A σ 8 (((3 : Int32) * (((12 : Int32) * x1) + x2)) + (1 : Int32)).toNatClampNeg) (mj_A σ 8 (((3 : Int32) * (((12 : Int32) * x1) + x2)) + (2 : Int32)).toNatClampNeg) (fun r6 σ7 => ((r6 = 0 → (vp_in ((3 : Int32) * (((12 : Int32) * x1) + x2)) 144 ∧ (vp_in (((3 : Int32) * (((12 : Int32) * x1) + x2)) + (1 : Int32)) 144 ∧ (vp_in (((3 : Int32) * (((12 : Int32) * x1) + x2)) + (2 : Int32)) 144 ∧ ms_putsNow E σ7 x1 (mj_A σ7 8 ((3 : Int32) * (((12 : Int32) * x1) + x2)).toNatClampNeg) (mj_A σ7 8 (((3 : Int32) * (((12 : Int32) * x1) + x2)) + (1 : Int32)).toNatClampNeg) (mj_A σ7 8 (((3 : Int32) * (((12 : Int32) * x1) + x2)) + (2 : Int32)).toNatClampNeg) (fun r12 σ13 => mg_takeTables_101 E σ13 x1 (x2 + (1 : Int32)) P))))) ∧ (¬ r6 = 0 → mg_takeTables_101 E σ7 x1 (x2 + (1 : Int32)) P)))))))))) : mg_takeTables_101 E σ x1 x2 P := by
  intro d hd p e s m args below meth c hcx H locs ls hW hS hl
  have hx := hcx.1
  have hb := hcx.2.1
  have hown := hcx.2.2.2.2.2.1
  have hts := hcx.2.2.2.2.2.2.1
  refine lv_iload_n (pc := 101) hx hb dX4_takeTables_101 rfl (lv_at hl 2 rfl) ?_
  refine lv_aload_n (pc := 102) hx hb dX4_takeTables_102 rfl (lv_at hl 0 rfl) ?_
  refine mj_geta (pc := 103) hcx hW 7 (by decide) rfl q1262 dX4_takeTables_103 ?_
  refine lv_iload_n (pc := 106) hx hb dX4_takeTables_106 rfl (lv_at hl 1 rfl) ?_
  obtain ⟨g1, h⟩ := h
  refine mj_ald (pc := 107) hcx hW 7 rfl rfl g1 dX4_takeTables_107 ?_
  refine lv_icmp_ge (pc := 108) (tgt := 184) hx hb dX4_takeTables_108 (by decide) (fun c2 => ?_) (fun c2 => ?_)
  · have h := h.1 c2
    refine lv_iinc (pc := 184) (v := (x1 + (1 : Int32))) (lv' := [(1, .int (x1 + (1 : Int32))), (0, .ref (mj_o E)), (2, .int x2)]) hx hb dX4_takeTables_184 hl (k := 1) rfl rfl (by decide) rfl (fun ls hl => ?_)
    refine lv_goto (pc := 187) (tgt := 46) hx hb dX4_takeTables_187 (by decide) ?_
    exact h d hd p e s m args below meth c hcx H locs _ hW hS (lv_sub hl [1, 0] rfl)
  · have h := h.2 c2
    refine lv_iconst (pc := 111) (v := (3 : Int32)) hx hb dX4_takeTables_111 (by decide) ?_
    refine lv_bipush (pc := 112) (v := (12 : Int32)) hx hb dX4_takeTables_112 (by decide) ?_
    refine lv_iload_n (pc := 114) hx hb dX4_takeTables_114 rfl (lv_at hl 1 rfl) ?_
    refine lv_imul (pc := 115) hx hb dX4_takeTables_115 ?_
    refine lv_iload_n (pc := 116) hx hb dX4_takeTables_116 rfl (lv_at hl 2 rfl) ?_
    refine lv_iadd (pc := 117) hx hb dX4_takeTables_117 ?_
    refine lv_imul (pc := 118) hx hb dX4_takeTables_118 ?_
    refine lv_istore_n (pc := 119) (lv' := [(3, .int ((3 : Int32) * (((12 : Int32) * x1) + x2))), (0, .ref (mj_o E)), (1, .int x1), (2, .int x2)]) hx hb dX4_takeTables_119 rfl hl (by decide) rfl (fun ls hl => ?_)
    refine lv_aload_n (pc := 120) hx hb dX4_takeTables_120 rfl (lv_at hl 1 rfl) ?_
    refine lv_iload_n (pc := 121) hx hb dX4_takeTables_121 rfl (lv_at hl 2 rfl) ?_
    refine lv_aload_n (pc := 122) hx hb dX4_takeTables_122 rfl (lv_at hl 1 rfl) ?_
    refine mj_geta (pc := 123) hcx hW 8 (by decide) rfl q1263 dX4_takeTables_123 ?_
    refine lv_iload_n (pc := 126) hx hb dX4_takeTables_126 rfl (lv_at hl 0 rfl) ?_
    obtain ⟨g3, h⟩ := h
    refine mj_ald (pc := 127) hcx hW 8 rfl rfl g3 dX4_takeTables_127 ?_
    refine lv_aload_n (pc := 128) hx hb dX4_takeTables_128 rfl (lv_at hl 1 rfl) ?_
    refine mj_geta (pc := 129) hcx hW 8 (by decide) rfl q1263 dX4_takeTables_129 ?_
    refine lv_iload_n (pc := 132) hx hb dX4_takeTables_132 rfl (lv_at hl 0 rfl) ?_
    refine lv_iconst (pc := 133) (v := (1 : Int32)) hx hb dX4_takeTables_133 (by decide) ?_
    refine lv_iadd (pc := 134) hx hb dX4_takeTables_134 ?_
    obtain ⟨g4, h⟩ := h
    refine mj_ald (pc := 135) hcx hW 8 rfl rfl g4 dX4_takeTables_135 ?_
    refine lv_aload_n (pc := 136) hx hb dX4_takeTables_136 rfl (lv_at hl 1 rfl) ?_
    refine mj_geta (pc := 137) hcx hW 8 (by decide) rfl q1263 dX4_takeTables_137 ?_
    refine lv_iload_n (pc := 140) hx hb dX4_takeTables_140 rfl (lv_at hl 0 rfl) ?_
    refine lv_iconst (pc := 141) (v := (2 : Int32)) hx hb dX4_takeTables_141 (by decide) ?_
    refine lv_iadd (pc := 142) hx hb dX4_takeTables_142 ?_
    obtain ⟨g5, h⟩ := h
    refine mj_ald (pc := 143) hcx hW 8 rfl rfl g5 dX4_takeTables_143 ?_
    refine mj_ci (pc := 144) (mj_runV hcx hW [.int x1, .int (mj_A σ 8 ((3 : Int32) * (((12 : Int32) * x1) + x2)).toNatClampNeg), .int (mj_A σ 8 (((3 : Int32) * (((12 : Int32) * x1) + x2)) + (1 : Int32)).toNatClampNeg), .int (mj_A σ 8 (((3 : Int32) * (((12 : Int32) * x1) + x2)) + (2 : Int32)).toNatClampNeg)] h (Nat.le_trans (by decide) hd) (lw_V q1482 q1484 qs61 q125 q1485) yd_hasRow (by decide) rfl rfl (Nat.le_of_ble_eq_true rfl) hl.1 dX4_takeTables_144) hS (fun r6 σ7 h H locs hW hS => ?_)
    refine lv_if_ne (pc := 147) (tgt := 178) hx hb dX4_takeTables_147 (by decide) (fun c8 => ?_) (fun c8 => ?_)
    · have h := h.2 c8
      refine lv_iinc (pc := 178) (v := (x2 + (1 : Int32))) (lv' := [(2, .int (x2 + (1 : Int32))), (3, .int ((3 : Int32) * (((12 : Int32) * x1) + x2))), (0, .ref (mj_o E)), (1, .int x1)]) hx hb dX4_takeTables_178 hl (k := 3) rfl rfl (by decide) rfl (fun ls hl => ?_)
      refine lv_goto (pc := 181) (tgt := 101) hx hb dX4_takeTables_181 (by decide) ?_
      exact h d hd p e s m args below meth c hcx H locs _ hW hS (lv_sub hl [2, 3, 0] rfl)
    · have h := h.1 c8
      refine lv_aload_n (pc := 150) hx hb dX4_takeTables_150 rfl (lv_at hl 1 rfl) ?_
      refine lv_iload_n (pc := 151) hx hb dX4_takeTables_151 rfl (lv_at hl 2 rfl) ?_
      refine lv_aload_n (pc := 152) hx hb dX4_takeTables_152 rfl (lv_at hl 1 rfl) ?_
      refine mj_geta (pc := 153) hcx hW 8 (by decide) rfl q1263 dX4_takeTables_153 ?_
      refine lv_iload_n (pc := 156) hx hb dX4_takeTables_156 rfl (lv_at hl 0 rfl) ?_
      obtain ⟨g9, h⟩ := h
      refine mj_ald (pc := 157) hcx hW 8 rfl rfl g9 dX4_takeTables_157 ?_
      refine lv_aload_n (pc := 158) hx hb dX4_takeTables_158 rfl (lv_at hl 1 rfl) ?_
      refine mj_geta (pc := 159) hcx hW 8 (by decide) rfl q1263 dX4_takeTables_159 ?_
      refine lv_iload_n (pc := 162) hx hb dX4_takeTables_162 rfl (lv_at hl 0 rfl) ?_
      refine lv_iconst (pc := 163) (v := (1 : Int32)) hx hb dX4_takeTables_163 (by decide) ?_
      refine lv_iadd (pc := 164) hx hb dX4_takeTables_164 ?_
      obtain ⟨g10, h⟩ := h
      refine mj_ald (pc := 165) hcx hW 8 rfl rfl g10 dX4_takeTables_165 ?_
      refine lv_aload_n (pc := 166) hx hb dX4_takeTables_166 rfl (lv_at hl 1 rfl) ?_
      refine mj_geta (pc := 167) hcx hW 8 (by decide) rfl q1263 dX4_takeTables_167 ?_
      refine lv_iload_n (pc := 170) hx hb dX4_takeTables_170 rfl (lv_at hl 0 rfl) ?_
      refine lv_iconst (pc := 171) (v := (2 : Int32)) hx hb dX4_takeTables_171 (by decide) ?_
      refine lv_iadd (pc := 172) hx hb dX4_takeTables_172 ?_
      obtain ⟨g11, h⟩ := h
      refine mj_ald (pc := 173) hcx hW 8 rfl rfl g11 dX4_takeTables_173 ?_
      refine mj_ci (pc := 174) (mj_runV hcx hW [.int x1, .int (mj_A σ7 8 ((3 : Int32) * (((12 : Int32) * x1) + x2)).toNatClampNeg), .int (mj_A σ7 8 (((3 : Int32) * (((12 : Int32) * x1) + x2)) + (1 : Int32)).toNatClampNeg), .int (mj_A σ7 8 (((3 : Int32) * (((12 : Int32) * x1) + x2)) + (2 : Int32)).toNatClampNeg)] h (Nat.le_trans (by decide) hd) (lw_V q1501 q1503 qs65 q125 q1504) yd_putsNow (by decide) rfl rfl (Nat.le_of_ble_eq_true rfl) hl.1 dX4_takeTables_174) hS (fun r12 σ13 h H locs hW hS => ?_)
      refine lv_pop (pc := 177) hx hb dX4_takeTables_177 rfl ?_
      refine lv_iinc (pc := 178) (v := (x2 + (1 : Int32))) (lv' := [(2, .int (x2 + (1 : Int32))), (3, .int ((3 : Int32) * (((12 : Int32) * x1) + x2))), (0, .ref (mj_o E)), (1, .int x1)]) hx hb dX4_takeTables_178 hl (k := 3) rfl rfl (by decide) rfl (fun ls hl => ?_)
      refine lv_goto (pc := 181) (tgt := 101) hx hb dX4_takeTables_181 (by decide) ?_
      exact h d hd p e s m args below meth c hcx H locs _ hW hS (lv_sub hl [2, 3, 0] rfl)
set_option maxHeartbeats 4000000 in
set_option maxRecDepth 100000 in
theorem mb_takeTables {E : mj_E} {σ : mj_S} {P : Int32 → mj_S → Prop} (hE : mj_ok E) (h : mg_takeTables_10 E (mj_sF σ 17 (mj_F σ 9)) (0 : Int32) P) : ms_takeTables E σ P :=
  mj_enter (k := 4) (lv := [(0, .ref (mj_o E))]) hE rfl (Nat.le_of_ble_eq_true rfl) rfl (by
    intro d hd p e s m args below meth c hcx H locs ls hW hS hl
    have hx := hcx.1
    have hb := hcx.2.1
    have hown := hcx.2.2.2.2.2.1
    have hts := hcx.2.2.2.2.2.2.1
    refine lv_aload_n (pc := 0) hx hb dX4_takeTables_0 rfl (lv_at hl 0 rfl) ?_
    refine lv_aload_n (pc := 1) hx hb dX4_takeTables_1 rfl (lv_at hl 0 rfl) ?_
    refine mj_geti (pc := 2) hcx hW 9 (by decide) rfl q1264 dX4_takeTables_2 ?_
    refine mj_puti (pc := 5) hcx hW hS 17 (by decide) rfl rfl rfl rfl q1272 dX4_takeTables_5 (fun H locs hW hS => ?_)
    refine lv_iconst (pc := 8) (v := (0 : Int32)) hx hb dX4_takeTables_8 (by decide) ?_
    refine lv_istore_n (pc := 9) (lv' := [(1, .int (0 : Int32)), (0, .ref (mj_o E))]) hx hb dX4_takeTables_9 rfl hl (by decide) rfl (fun ls hl => ?_)
    exact h d hd p e s m args below meth c hcx H locs _ hW hS (lv_sub hl [1, 0] rfl))
/-! whyPut -/
set_option maxHeartbeats 4000000 in
set_option maxRecDepth 100000 in
theorem mb_whyPut {E : mj_E} {σ : mj_S} {x1 : Int32} {x2 : Int32} {x3 : Int32} {x4 : Int32} {P : Int32 → mj_S → Prop} (hE : mj_ok E) (h : ms_isTable E σ x1 (fun r1 σ2 => ((r1 = 0 → P (0 : Int32) σ2) ∧ (¬ r1 = 0 → ms_isRow E σ2 x1 x2 x3 x4 (fun r4 σ5 => ((r4 = 0 → P (1 : Int32) σ5) ∧ (¬ r4 = 0 → ms_hasRow E σ5 x1 x2 x3 x4 (fun r7 σ8 => ((r7 = 0 → ms_many E σ8 x1 (fun r10 σ11 => ((r10 = (12 : Int32) → P (3 : Int32) σ11) ∧ (¬ r10 = (12 : Int32) → P (-1 : Int32) σ11)))) ∧ (¬ r7 = 0 → P (2 : Int32) σ8)))))))))) : ms_whyPut E σ x1 x2 x3 x4 P :=
  mj_enter (k := 4) (lv := [(0, .ref (mj_o E)), (1, .int x1), (2, .int x2), (3, .int x3), (4, .int x4)]) hE rfl (Nat.le_of_ble_eq_true rfl) rfl (by
    intro d hd p e s m args below meth c hcx H locs ls hW hS hl
    have hx := hcx.1
    have hb := hcx.2.1
    have hown := hcx.2.2.2.2.2.1
    have hts := hcx.2.2.2.2.2.2.1
    refine lv_aload_n (pc := 0) hx hb dX4_whyPut_0 rfl (lv_at hl 0 rfl) ?_
    refine lv_iload_n (pc := 1) hx hb dX4_whyPut_1 rfl (lv_at hl 1 rfl) ?_
    refine mj_ci (pc := 2) (mj_runV hcx hW [.int x1] h (Nat.le_trans (by decide) hd) (lw_V q1521 q1523 qs69 q125 q1524) yd_isTable (by decide) rfl rfl (Nat.le_of_ble_eq_true rfl) hl.1 dX4_whyPut_2) hS (fun r1 σ2 h H locs hW hS => ?_)
    refine lv_if_ne (pc := 5) (tgt := 10) hx hb dX4_whyPut_5 (by decide) (fun c3 => ?_) (fun c3 => ?_)
    · have h := h.2 c3
      refine lv_aload_n (pc := 10) hx hb dX4_whyPut_10 rfl (lv_at hl 0 rfl) ?_
      refine lv_iload_n (pc := 11) hx hb dX4_whyPut_11 rfl (lv_at hl 1 rfl) ?_
      refine lv_iload_n (pc := 12) hx hb dX4_whyPut_12 rfl (lv_at hl 2 rfl) ?_
      refine lv_iload_n (pc := 13) hx hb dX4_whyPut_13 rfl (lv_at hl 3 rfl) ?_
      refine lv_iload (pc := 14) hx hb dX4_whyPut_14 (lv_at hl 4 rfl) ?_
      refine mj_ci (pc := 16) (mj_runV hcx hW [.int x1, .int x2, .int x3, .int x4] h (Nat.le_trans (by decide) hd) (lw_V q1525 q1527 qs70 q125 q1528) yd_isRow (by decide) rfl rfl (Nat.le_of_ble_eq_true rfl) hl.1 dX4_whyPut_16) hS (fun r4 σ5 h H locs hW hS => ?_)
      refine lv_if_ne (pc := 19) (tgt := 26) hx hb dX4_whyPut_19 (by decide) (fun c6 => ?_) (fun c6 => ?_)
      · have h := h.2 c6
        refine lv_aload_n (pc := 26) hx hb dX4_whyPut_26 rfl (lv_at hl 0 rfl) ?_
        refine lv_iload_n (pc := 27) hx hb dX4_whyPut_27 rfl (lv_at hl 1 rfl) ?_
        refine lv_iload_n (pc := 28) hx hb dX4_whyPut_28 rfl (lv_at hl 2 rfl) ?_
        refine lv_iload_n (pc := 29) hx hb dX4_whyPut_29 rfl (lv_at hl 3 rfl) ?_
        refine lv_iload (pc := 30) hx hb dX4_whyPut_30 (lv_at hl 4 rfl) ?_
        refine mj_ci (pc := 32) (mj_runV hcx hW [.int x1, .int x2, .int x3, .int x4] h (Nat.le_trans (by decide) hd) (lw_V q1482 q1484 qs61 q125 q1485) yd_hasRow (by decide) rfl rfl (Nat.le_of_ble_eq_true rfl) hl.1 dX4_whyPut_32) hS (fun r7 σ8 h H locs hW hS => ?_)
        refine lv_if_eq (pc := 35) (tgt := 42) hx hb dX4_whyPut_35 (by decide) (fun c9 => ?_) (fun c9 => ?_)
        · have h := h.1 c9
          refine lv_aload_n (pc := 42) hx hb dX4_whyPut_42 rfl (lv_at hl 0 rfl) ?_
          refine lv_iload_n (pc := 43) hx hb dX4_whyPut_43 rfl (lv_at hl 1 rfl) ?_
          refine mj_ci (pc := 44) (mj_runV hcx hW [.int x1] h (Nat.le_trans (by decide) hd) (lw_V q1490 q1492 qs63 q125 q1493) yd_many (by decide) rfl rfl (Nat.le_of_ble_eq_true rfl) hl.1 dX4_whyPut_44) hS (fun r10 σ11 h H locs hW hS => ?_)
          refine lv_bipush (pc := 47) (v := (12 : Int32)) hx hb dX4_whyPut_47 (by decide) ?_
          refine lv_icmp_ne (pc := 49) (tgt := 56) hx hb dX4_whyPut_49 (by decide) (fun c12 => ?_) (fun c12 => ?_)
          · have h := h.2 c12
            refine lv_iconst (pc := 56) (v := (-1 : Int32)) hx hb dX4_whyPut_56 (by decide) ?_
            exact mj_reti (pc := 57) hcx hW hS rfl h dX4_whyPut_57
          · have h := h.1 c12
            refine lv_iconst (pc := 52) (v := (3 : Int32)) hx hb dX4_whyPut_52 (by decide) ?_
            refine lv_goto (pc := 53) (tgt := 57) hx hb dX4_whyPut_53 (by decide) ?_
            exact mj_reti (pc := 57) hcx hW hS rfl h dX4_whyPut_57
        · have h := h.2 c9
          refine lv_iconst (pc := 38) (v := (2 : Int32)) hx hb dX4_whyPut_38 (by decide) ?_
          refine lv_goto (pc := 39) (tgt := 57) hx hb dX4_whyPut_39 (by decide) ?_
          exact mj_reti (pc := 57) hcx hW hS rfl h dX4_whyPut_57
      · have h := h.1 c6
        refine lv_iconst (pc := 22) (v := (1 : Int32)) hx hb dX4_whyPut_22 (by decide) ?_
        refine lv_goto (pc := 23) (tgt := 57) hx hb dX4_whyPut_23 (by decide) ?_
        exact mj_reti (pc := 57) hcx hW hS rfl h dX4_whyPut_57
    · have h := h.1 c3
      refine lv_iconst (pc := 8) (v := (0 : Int32)) hx hb dX4_whyPut_8 (by decide) ?_
      exact mj_reti (pc := 9) hcx hW hS rfl h dX4_whyPut_9)
/-! whyTake -/
set_option maxHeartbeats 4000000 in
set_option maxRecDepth 100000 in
theorem mb_whyTake {E : mj_E} {σ : mj_S} {x1 : Int32} {x2 : Int32} {x3 : Int32} {x4 : Int32} {P : Int32 → mj_S → Prop} (hE : mj_ok E) (h : ms_isTable E σ x1 (fun r1 σ2 => ((r1 = 0 → P (0 : Int32) σ2) ∧ (¬ r1 = 0 → ms_isRow E σ2 x1 x2 x3 x4 (fun r4 σ5 => ((r4 = 0 → P (1 : Int32) σ5) ∧ (¬ r4 = 0 → ms_hasRow E σ5 x1 x2 x3 x4 (fun r7 σ8 => ((r7 = 0 → P (2 : Int32) σ8) ∧ (¬ r7 = 0 → P (-1 : Int32) σ8)))))))))) : ms_whyTake E σ x1 x2 x3 x4 P :=
  mj_enter (k := 4) (lv := [(0, .ref (mj_o E)), (1, .int x1), (2, .int x2), (3, .int x3), (4, .int x4)]) hE rfl (Nat.le_of_ble_eq_true rfl) rfl (by
    intro d hd p e s m args below meth c hcx H locs ls hW hS hl
    have hx := hcx.1
    have hb := hcx.2.1
    have hown := hcx.2.2.2.2.2.1
    have hts := hcx.2.2.2.2.2.2.1
    refine lv_aload_n (pc := 0) hx hb dX4_whyTake_0 rfl (lv_at hl 0 rfl) ?_
    refine lv_iload_n (pc := 1) hx hb dX4_whyTake_1 rfl (lv_at hl 1 rfl) ?_
    refine mj_ci (pc := 2) (mj_runV hcx hW [.int x1] h (Nat.le_trans (by decide) hd) (lw_V q1521 q1523 qs69 q125 q1524) yd_isTable (by decide) rfl rfl (Nat.le_of_ble_eq_true rfl) hl.1 dX4_whyTake_2) hS (fun r1 σ2 h H locs hW hS => ?_)
    refine lv_if_ne (pc := 5) (tgt := 10) hx hb dX4_whyTake_5 (by decide) (fun c3 => ?_) (fun c3 => ?_)
    · have h := h.2 c3
      refine lv_aload_n (pc := 10) hx hb dX4_whyTake_10 rfl (lv_at hl 0 rfl) ?_
      refine lv_iload_n (pc := 11) hx hb dX4_whyTake_11 rfl (lv_at hl 1 rfl) ?_
      refine lv_iload_n (pc := 12) hx hb dX4_whyTake_12 rfl (lv_at hl 2 rfl) ?_
      refine lv_iload_n (pc := 13) hx hb dX4_whyTake_13 rfl (lv_at hl 3 rfl) ?_
      refine lv_iload (pc := 14) hx hb dX4_whyTake_14 (lv_at hl 4 rfl) ?_
      refine mj_ci (pc := 16) (mj_runV hcx hW [.int x1, .int x2, .int x3, .int x4] h (Nat.le_trans (by decide) hd) (lw_V q1525 q1527 qs70 q125 q1528) yd_isRow (by decide) rfl rfl (Nat.le_of_ble_eq_true rfl) hl.1 dX4_whyTake_16) hS (fun r4 σ5 h H locs hW hS => ?_)
      refine lv_if_ne (pc := 19) (tgt := 26) hx hb dX4_whyTake_19 (by decide) (fun c6 => ?_) (fun c6 => ?_)
      · have h := h.2 c6
        refine lv_aload_n (pc := 26) hx hb dX4_whyTake_26 rfl (lv_at hl 0 rfl) ?_
        refine lv_iload_n (pc := 27) hx hb dX4_whyTake_27 rfl (lv_at hl 1 rfl) ?_
        refine lv_iload_n (pc := 28) hx hb dX4_whyTake_28 rfl (lv_at hl 2 rfl) ?_
        refine lv_iload_n (pc := 29) hx hb dX4_whyTake_29 rfl (lv_at hl 3 rfl) ?_
        refine lv_iload (pc := 30) hx hb dX4_whyTake_30 (lv_at hl 4 rfl) ?_
        refine mj_ci (pc := 32) (mj_runV hcx hW [.int x1, .int x2, .int x3, .int x4] h (Nat.le_trans (by decide) hd) (lw_V q1482 q1484 qs61 q125 q1485) yd_hasRow (by decide) rfl rfl (Nat.le_of_ble_eq_true rfl) hl.1 dX4_whyTake_32) hS (fun r7 σ8 h H locs hW hS => ?_)
        refine lv_if_eq (pc := 35) (tgt := 42) hx hb dX4_whyTake_35 (by decide) (fun c9 => ?_) (fun c9 => ?_)
        · have h := h.1 c9
          refine lv_iconst (pc := 42) (v := (2 : Int32)) hx hb dX4_whyTake_42 (by decide) ?_
          exact mj_reti (pc := 43) hcx hW hS rfl h dX4_whyTake_43
        · have h := h.2 c9
          refine lv_iconst (pc := 38) (v := (-1 : Int32)) hx hb dX4_whyTake_38 (by decide) ?_
          refine lv_goto (pc := 39) (tgt := 43) hx hb dX4_whyTake_39 (by decide) ?_
          exact mj_reti (pc := 43) hcx hW hS rfl h dX4_whyTake_43
      · have h := h.1 c6
        refine lv_iconst (pc := 22) (v := (1 : Int32)) hx hb dX4_whyTake_22 (by decide) ?_
        refine lv_goto (pc := 23) (tgt := 43) hx hb dX4_whyTake_23 (by decide) ?_
        exact mj_reti (pc := 43) hcx hW hS rfl h dX4_whyTake_43
    · have h := h.1 c3
      refine lv_iconst (pc := 8) (v := (0 : Int32)) hx hb dX4_whyTake_8 (by decide) ?_
      exact mj_reti (pc := 9) hcx hW hS rfl h dX4_whyTake_9)
/-! readAll -/
set_option maxHeartbeats 4000000 in
set_option maxRecDepth 100000 in
theorem mb_readAll_11 {E : mj_E} {σ : mj_S} {x1 : Int32} {P : Int32 → mj_S → Prop} (h : ((x1 = 0 → ms_ends E σ (fun r2 σ3 => P r2 σ3)) ∧ (¬ x1 = 0 → ms_readTable E σ (mj_F σ 9) (fun σ5 => (((mj_F (mj_sF σ5 9 ((mj_F σ5 9) + (1 : Int32))) 4) = (-1 : Int32) → ms_ahead E (mj_sF σ5 9 ((mj_F σ5 9) + (1 : Int32))) (fun r7 σ8 => ((r7 = (59 : Int32) → (((4 : Int32) ≤ (mj_F σ8 9) → mg_readAll_63 E σ8 (0 : Int32) P) ∧ (¬ (4 : Int32) ≤ (mj_F σ8 9) → mg_readAll_63 E σ8 (1 : Int32) P))) ∧ (¬ r7 = (59 : Int32) → mg_readAll_63 E σ8 (0 : Int32) P)))) ∧ (¬ (mj_F (mj_sF σ5 9 ((mj_F σ5 9) + (1 : Int32))) 4) = (-1 : Int32) → mg_readAll_63 E (mj_sF σ5 9 ((mj_F σ5 9) + (1 : Int32))) (0 : Int32) P)))))) : mg_readAll_11 E σ x1 P := by
  intro d hd p e s m args below meth c hcx H locs ls hW hS hl
  have hx := hcx.1
  have hb := hcx.2.1
  have hown := hcx.2.2.2.2.2.1
  have hts := hcx.2.2.2.2.2.2.1
  refine lv_iload_n (pc := 11) hx hb dX4_readAll_11 rfl (lv_at hl 1 rfl) ?_
  refine lv_if_eq (pc := 12) (tgt := 85) hx hb dX4_readAll_12 (by decide) (fun c1 => ?_) (fun c1 => ?_)
  · have h := h.1 c1
    refine lv_aload_n (pc := 85) hx hb dX4_readAll_85 rfl (lv_at hl 0 rfl) ?_
    refine mj_ci (pc := 86) (mj_runV hcx hW [] h (Nat.le_trans (by decide) hd) (lw_V q1458 q1460 qs56 q125 q1461) yd_ends (by decide) rfl rfl (Nat.le_of_ble_eq_true rfl) hl.1 dX4_readAll_86) hS (fun r2 σ3 h H locs hW hS => ?_)
    exact mj_reti (pc := 89) hcx hW hS rfl h dX4_readAll_89
  · have h := h.2 c1
    refine lv_aload_n (pc := 15) hx hb dX4_readAll_15 rfl (lv_at hl 0 rfl) ?_
    refine lv_aload_n (pc := 16) hx hb dX4_readAll_16 rfl (lv_at hl 0 rfl) ?_
    refine mj_geti (pc := 17) hcx hW 9 (by decide) rfl q1264 dX4_readAll_17 ?_
    refine mj_cv (pc := 20) (mj_runV hcx hW [.int (mj_F σ 9)] h (Nat.le_trans (by decide) hd) (lw_V q1416 q1418 qs47 q125 q1419) yd_readTable (by decide) rfl rfl (Nat.le_of_ble_eq_true rfl) hl.1 dX4_readAll_20) hS (fun σ5 h H locs hW hS => ?_)
    refine lv_aload_n (pc := 23) hx hb dX4_readAll_23 rfl (lv_at hl 0 rfl) ?_
    refine lv_dup (pc := 24) hx hb dX4_readAll_24 rfl ?_
    refine mj_geti (pc := 25) hcx hW 9 (by decide) rfl q1264 dX4_readAll_25 ?_
    refine lv_iconst (pc := 28) (v := (1 : Int32)) hx hb dX4_readAll_28 (by decide) ?_
    refine lv_iadd (pc := 29) hx hb dX4_readAll_29 ?_
    refine mj_puti (pc := 30) hcx hW hS 9 (by decide) rfl rfl rfl rfl q1264 dX4_readAll_30 (fun H locs hW hS => ?_)
    refine lv_aload_n (pc := 33) hx hb dX4_readAll_33 rfl (lv_at hl 0 rfl) ?_
    refine mj_geti (pc := 34) hcx hW 4 (by decide) rfl q1259 dX4_readAll_34 ?_
    refine lv_iconst (pc := 37) (v := (-1 : Int32)) hx hb dX4_readAll_37 (by decide) ?_
    refine lv_icmp_ne (pc := 38) (tgt := 62) hx hb dX4_readAll_38 (by decide) (fun c6 => ?_) (fun c6 => ?_)
    · have h := h.2 c6
      refine lv_iconst (pc := 62) (v := (0 : Int32)) hx hb dX4_readAll_62 (by decide) ?_
      exact h d hd p e s m args below meth c hcx H locs _ hW hS (lv_sub hl [0] rfl)
    · have h := h.1 c6
      refine lv_aload_n (pc := 41) hx hb dX4_readAll_41 rfl (lv_at hl 0 rfl) ?_
      refine mj_ci (pc := 42) (mj_runV hcx hW [] h (Nat.le_trans (by decide) hd) (lw_V q1424 q1426 qs49 q125 q1427) yd_ahead (by decide) rfl rfl (Nat.le_of_ble_eq_true rfl) hl.1 dX4_readAll_42) hS (fun r7 σ8 h H locs hW hS => ?_)
      refine lv_bipush (pc := 45) (v := (59 : Int32)) hx hb dX4_readAll_45 (by decide) ?_
      refine lv_icmp_ne (pc := 47) (tgt := 62) hx hb dX4_readAll_47 (by decide) (fun c9 => ?_) (fun c9 => ?_)
      · have h := h.2 c9
        refine lv_iconst (pc := 62) (v := (0 : Int32)) hx hb dX4_readAll_62 (by decide) ?_
        exact h d hd p e s m args below meth c hcx H locs _ hW hS (lv_sub hl [0] rfl)
      · have h := h.1 c9
        refine lv_aload_n (pc := 50) hx hb dX4_readAll_50 rfl (lv_at hl 0 rfl) ?_
        refine mj_geti (pc := 51) hcx hW 9 (by decide) rfl q1264 dX4_readAll_51 ?_
        refine lv_iconst (pc := 54) (v := (4 : Int32)) hx hb dX4_readAll_54 (by decide) ?_
        refine lv_icmp_ge (pc := 55) (tgt := 62) hx hb dX4_readAll_55 (by decide) (fun c10 => ?_) (fun c10 => ?_)
        · have h := h.1 c10
          refine lv_iconst (pc := 62) (v := (0 : Int32)) hx hb dX4_readAll_62 (by decide) ?_
          exact h d hd p e s m args below meth c hcx H locs _ hW hS (lv_sub hl [0] rfl)
        · have h := h.2 c10
          refine lv_iconst (pc := 58) (v := (1 : Int32)) hx hb dX4_readAll_58 (by decide) ?_
          refine lv_goto (pc := 59) (tgt := 63) hx hb dX4_readAll_59 (by decide) ?_
          exact h d hd p e s m args below meth c hcx H locs _ hW hS (lv_sub hl [0] rfl)
set_option maxHeartbeats 4000000 in
set_option maxRecDepth 100000 in
theorem mb_readAll_63 {E : mj_E} {σ : mj_S} {t0 : Int32} {P : Int32 → mj_S → Prop} (h : ((t0 = 0 → mg_readAll_11 E (mj_sF σ 3 ((mj_F σ 3) + (0 : Int32))) t0 P) ∧ (¬ t0 = 0 → mg_readAll_11 E (mj_sF σ 3 ((mj_F σ 3) + (1 : Int32))) t0 P))) : mg_readAll_63 E σ t0 P := by
  intro d hd p e s m args below meth c hcx H locs ls hW hS hl
  have hx := hcx.1
  have hb := hcx.2.1
  have hown := hcx.2.2.2.2.2.1
  have hts := hcx.2.2.2.2.2.2.1
  refine lv_istore_n (pc := 63) (lv' := [(1, .int t0), (0, .ref (mj_o E))]) hx hb dX4_readAll_63 rfl hl (by decide) rfl (fun ls hl => ?_)
  refine lv_aload_n (pc := 64) hx hb dX4_readAll_64 rfl (lv_at hl 1 rfl) ?_
  refine lv_dup (pc := 65) hx hb dX4_readAll_65 rfl ?_
  refine mj_geti (pc := 66) hcx hW 3 (by decide) rfl q1258 dX4_readAll_66 ?_
  refine lv_iload_n (pc := 69) hx hb dX4_readAll_69 rfl (lv_at hl 0 rfl) ?_
  refine lv_if_eq (pc := 70) (tgt := 77) hx hb dX4_readAll_70 (by decide) (fun c1 => ?_) (fun c1 => ?_)
  · have h := h.1 c1
    refine lv_iconst (pc := 77) (v := (0 : Int32)) hx hb dX4_readAll_77 (by decide) ?_
    refine lv_iadd (pc := 78) hx hb dX4_readAll_78 ?_
    refine mj_puti (pc := 79) hcx hW hS 3 (by decide) rfl rfl rfl rfl q1258 dX4_readAll_79 (fun H locs hW hS => ?_)
    refine lv_goto (pc := 82) (tgt := 11) hx hb dX4_readAll_82 (by decide) ?_
    exact h d hd p e s m args below meth c hcx H locs _ hW hS (lv_sub hl [1, 0] rfl)
  · have h := h.2 c1
    refine lv_iconst (pc := 73) (v := (1 : Int32)) hx hb dX4_readAll_73 (by decide) ?_
    refine lv_goto (pc := 74) (tgt := 78) hx hb dX4_readAll_74 (by decide) ?_
    refine lv_iadd (pc := 78) hx hb dX4_readAll_78 ?_
    refine mj_puti (pc := 79) hcx hW hS 3 (by decide) rfl rfl rfl rfl q1258 dX4_readAll_79 (fun H locs hW hS => ?_)
    refine lv_goto (pc := 82) (tgt := 11) hx hb dX4_readAll_82 (by decide) ?_
    exact h d hd p e s m args below meth c hcx H locs _ hW hS (lv_sub hl [1, 0] rfl)
set_option maxHeartbeats 4000000 in
set_option maxRecDepth 100000 in
theorem mb_readAll {E : mj_E} {σ : mj_S} {P : Int32 → mj_S → Prop} (hE : mj_ok E) (h : ms_begins E σ (fun σ2 => mg_readAll_11 E (mj_sF σ2 9 (0 : Int32)) (1 : Int32) P)) : ms_readAll E σ P :=
  mj_enter (k := 5) (lv := [(0, .ref (mj_o E))]) hE rfl (Nat.le_of_ble_eq_true rfl) rfl (by
    intro d hd p e s m args below meth c hcx H locs ls hW hS hl
    have hx := hcx.1
    have hb := hcx.2.1
    have hown := hcx.2.2.2.2.2.1
    have hts := hcx.2.2.2.2.2.2.1
    refine lv_aload_n (pc := 0) hx hb dX4_readAll_0 rfl (lv_at hl 0 rfl) ?_
    refine mj_cv (pc := 1) (mj_runV hcx hW [] h (Nat.le_trans (by decide) hd) (lw_V q1412 q1414 qs46 q125 q1415) yd_begins (by decide) rfl rfl (Nat.le_of_ble_eq_true rfl) hl.1 dX4_readAll_1) hS (fun σ2 h H locs hW hS => ?_)
    refine lv_aload_n (pc := 4) hx hb dX4_readAll_4 rfl (lv_at hl 0 rfl) ?_
    refine lv_iconst (pc := 5) (v := (0 : Int32)) hx hb dX4_readAll_5 (by decide) ?_
    refine mj_puti (pc := 6) hcx hW hS 9 (by decide) rfl rfl rfl rfl q1264 dX4_readAll_6 (fun H locs hW hS => ?_)
    refine lv_iconst (pc := 9) (v := (1 : Int32)) hx hb dX4_readAll_9 (by decide) ?_
    refine lv_istore_n (pc := 10) (lv' := [(1, .int (1 : Int32)), (0, .ref (mj_o E))]) hx hb dX4_readAll_10 rfl hl (by decide) rfl (fun ls hl => ?_)
    exact h d hd p e s m args below meth c hcx H locs _ hW hS (lv_sub hl [1, 0] rfl))
/-! whyNot -/
set_option maxHeartbeats 4000000 in
set_option maxRecDepth 100000 in
theorem mb_whyNot {E : mj_E} {σ : mj_S} {x1 : Int32} {x2 : Int32} {x3 : Int32} {x4 : Int32} {x5 : Int32} {P : Int32 → mj_S → Prop} (hE : mj_ok E) (h : ((x1 = (0 : Int32) → ms_whyPut E σ x2 x3 x4 x5 (fun r2 σ3 => P r2 σ3)) ∧ (¬ x1 = (0 : Int32) → ((x1 = (1 : Int32) → ms_whyTake E σ x2 x3 x4 x5 (fun r5 σ6 => P r5 σ6)) ∧ (¬ x1 = (1 : Int32) → ((x1 = (2 : Int32) → ms_isTable E σ x2 (fun r8 σ9 => ((r8 = 0 → P (0 : Int32) σ9) ∧ (¬ r8 = 0 → (vp_in (0 : Int32) 331 ∧ (((mj_A σ9 13 (0 : Int32).toNatClampNeg) = ((1 : Int32) <<< (x2 &&& 31)) → P (2 : Int32) σ9) ∧ (¬ (mj_A σ9 13 (0 : Int32).toNatClampNeg) = ((1 : Int32) <<< (x2 &&& 31)) → P (-1 : Int32) σ9))))))) ∧ (¬ x1 = (2 : Int32) → ms_areTables E σ (fun r13 σ14 => ((r13 = 0 → P (0 : Int32) σ14) ∧ (¬ r13 = 0 → ms_in E σ14 x2 (0 : Int32) (23 : Int32) (fun r16 σ17 => ((r16 = 0 → P (1 : Int32) σ17) ∧ (¬ r16 = 0 → (vp_in (1 : Int32) 331 ∧ (((mj_A σ17 13 (1 : Int32).toNatClampNeg) = x2 → P (2 : Int32) σ17) ∧ (¬ (mj_A σ17 13 (1 : Int32).toNatClampNeg) = x2 → P (-1 : Int32) σ17)))))))))))))))) : ms_whyNot E σ x1 x2 x3 x4 x5 P :=
  mj_enter (k := 5) (lv := [(0, .ref (mj_o E)), (1, .int x1), (2, .int x2), (3, .int x3), (4, .int x4), (5, .int x5)]) hE rfl (Nat.le_of_ble_eq_true rfl) rfl (by
    intro d hd p e s m args below meth c hcx H locs ls hW hS hl
    have hx := hcx.1
    have hb := hcx.2.1
    have hown := hcx.2.2.2.2.2.1
    have hts := hcx.2.2.2.2.2.2.1
    refine lv_iload_n (pc := 0) hx hb dX4_whyNot_0 rfl (lv_at hl 1 rfl) ?_
    by_cases c1 : x1 = (0 : Int32)
    · have h := h.1 c1
      refine lv_tableIn (pc := 1) (off := 27) (tgt := 28) hx hb dX4_whyNot_1 (by rw [c1]; decide) (by rw [c1]; decide) (by rw [c1]; rfl) (by decide) ?_
      refine lv_aload_n (pc := 28) hx hb dX4_whyNot_28 rfl (lv_at hl 0 rfl) ?_
      refine lv_iload_n (pc := 29) hx hb dX4_whyNot_29 rfl (lv_at hl 2 rfl) ?_
      refine lv_iload_n (pc := 30) hx hb dX4_whyNot_30 rfl (lv_at hl 3 rfl) ?_
      refine lv_iload (pc := 31) hx hb dX4_whyNot_31 (lv_at hl 4 rfl) ?_
      refine lv_iload (pc := 33) hx hb dX4_whyNot_33 (lv_at hl 5 rfl) ?_
      refine mj_ci (pc := 35) (mj_runV hcx hW [.int x2, .int x3, .int x4, .int x5] h (Nat.le_trans (by decide) hd) (lw_V q1517 q1519 qs68 q125 q1520) yd_whyPut (by decide) rfl rfl (Nat.le_of_ble_eq_true rfl) hl.1 dX4_whyNot_35) hS (fun r2 σ3 h H locs hW hS => ?_)
      exact mj_reti (pc := 38) hcx hW hS rfl h dX4_whyNot_38
    · have h := h.2 c1
      by_cases c4 : x1 = (1 : Int32)
      · have h := h.1 c4
        refine lv_tableIn (pc := 1) (off := 38) (tgt := 39) hx hb dX4_whyNot_1 (by rw [c4]; decide) (by rw [c4]; decide) (by rw [c4]; rfl) (by decide) ?_
        refine lv_aload_n (pc := 39) hx hb dX4_whyNot_39 rfl (lv_at hl 0 rfl) ?_
        refine lv_iload_n (pc := 40) hx hb dX4_whyNot_40 rfl (lv_at hl 2 rfl) ?_
        refine lv_iload_n (pc := 41) hx hb dX4_whyNot_41 rfl (lv_at hl 3 rfl) ?_
        refine lv_iload (pc := 42) hx hb dX4_whyNot_42 (lv_at hl 4 rfl) ?_
        refine lv_iload (pc := 44) hx hb dX4_whyNot_44 (lv_at hl 5 rfl) ?_
        refine mj_ci (pc := 46) (mj_runV hcx hW [.int x2, .int x3, .int x4, .int x5] h (Nat.le_trans (by decide) hd) (lw_V q1529 q1531 qs71 q125 q1532) yd_whyTake (by decide) rfl rfl (Nat.le_of_ble_eq_true rfl) hl.1 dX4_whyNot_46) hS (fun r5 σ6 h H locs hW hS => ?_)
        exact mj_reti (pc := 49) hcx hW hS rfl h dX4_whyNot_49
      · have h := h.2 c4
        by_cases c7 : x1 = (2 : Int32)
        · have h := h.1 c7
          refine lv_tableIn (pc := 1) (off := 49) (tgt := 50) hx hb dX4_whyNot_1 (by rw [c7]; decide) (by rw [c7]; decide) (by rw [c7]; rfl) (by decide) ?_
          refine lv_aload_n (pc := 50) hx hb dX4_whyNot_50 rfl (lv_at hl 0 rfl) ?_
          refine lv_iload_n (pc := 51) hx hb dX4_whyNot_51 rfl (lv_at hl 2 rfl) ?_
          refine mj_ci (pc := 52) (mj_runV hcx hW [.int x2] h (Nat.le_trans (by decide) hd) (lw_V q1521 q1523 qs69 q125 q1524) yd_isTable (by decide) rfl rfl (Nat.le_of_ble_eq_true rfl) hl.1 dX4_whyNot_52) hS (fun r8 σ9 h H locs hW hS => ?_)
          refine lv_if_ne (pc := 55) (tgt := 62) hx hb dX4_whyNot_55 (by decide) (fun c10 => ?_) (fun c10 => ?_)
          · have h := h.2 c10
            refine lv_aload_n (pc := 62) hx hb dX4_whyNot_62 rfl (lv_at hl 0 rfl) ?_
            refine mj_geta (pc := 63) hcx hW 13 (by decide) rfl q1268 dX4_whyNot_63 ?_
            refine lv_iconst (pc := 66) (v := (0 : Int32)) hx hb dX4_whyNot_66 (by decide) ?_
            obtain ⟨g11, h⟩ := h
            refine mj_ald (pc := 67) hcx hW 13 rfl rfl g11 dX4_whyNot_67 ?_
            refine lv_iconst (pc := 68) (v := (1 : Int32)) hx hb dX4_whyNot_68 (by decide) ?_
            refine lv_iload_n (pc := 69) hx hb dX4_whyNot_69 rfl (lv_at hl 2 rfl) ?_
            refine lv_ishl (pc := 70) hx hb dX4_whyNot_70 ?_
            refine lv_icmp_ne (pc := 71) (tgt := 78) hx hb dX4_whyNot_71 (by decide) (fun c12 => ?_) (fun c12 => ?_)
            · have h := h.2 c12
              refine lv_iconst (pc := 78) (v := (-1 : Int32)) hx hb dX4_whyNot_78 (by decide) ?_
              exact mj_reti (pc := 79) hcx hW hS rfl h dX4_whyNot_79
            · have h := h.1 c12
              refine lv_iconst (pc := 74) (v := (2 : Int32)) hx hb dX4_whyNot_74 (by decide) ?_
              refine lv_goto (pc := 75) (tgt := 79) hx hb dX4_whyNot_75 (by decide) ?_
              exact mj_reti (pc := 79) hcx hW hS rfl h dX4_whyNot_79
          · have h := h.1 c10
            refine lv_iconst (pc := 58) (v := (0 : Int32)) hx hb dX4_whyNot_58 (by decide) ?_
            refine lv_goto (pc := 59) (tgt := 79) hx hb dX4_whyNot_59 (by decide) ?_
            exact mj_reti (pc := 79) hcx hW hS rfl h dX4_whyNot_79
        · have h := h.2 c7
          refine lv_tableOut (pc := 1) (tgt := 80) hx hb dX4_whyNot_1 (mj_sw3 c1 c4 c7) (by decide) ?_
          refine lv_aload_n (pc := 80) hx hb dX4_whyNot_80 rfl (lv_at hl 0 rfl) ?_
          refine mj_ci (pc := 81) (mj_runV hcx hW [] h (Nat.le_trans (by decide) hd) (lw_V q1533 q1535 qs72 q125 q1536) yd_areTables (by decide) rfl rfl (Nat.le_of_ble_eq_true rfl) hl.1 dX4_whyNot_81) hS (fun r13 σ14 h H locs hW hS => ?_)
          refine lv_if_ne (pc := 84) (tgt := 91) hx hb dX4_whyNot_84 (by decide) (fun c15 => ?_) (fun c15 => ?_)
          · have h := h.2 c15
            refine lv_iload_n (pc := 91) hx hb dX4_whyNot_91 rfl (lv_at hl 2 rfl) ?_
            refine lv_iconst (pc := 92) (v := (0 : Int32)) hx hb dX4_whyNot_92 (by decide) ?_
            refine lv_bipush (pc := 93) (v := (23 : Int32)) hx hb dX4_whyNot_93 (by decide) ?_
            refine mj_ci (pc := 95) (mj_runS hcx hW [.int x2, .int (0 : Int32), .int (23 : Int32)] h (Nat.le_trans (by decide) hd) (lw_S q1401 q1402 q125 q1403) yd_in.2 (by decide) rfl rfl (Nat.le_of_ble_eq_true rfl) hl.1 dX4_whyNot_95) hS (fun r16 σ17 h H locs hW hS => ?_)
            refine lv_if_ne (pc := 98) (tgt := 105) hx hb dX4_whyNot_98 (by decide) (fun c18 => ?_) (fun c18 => ?_)
            · have h := h.2 c18
              refine lv_aload_n (pc := 105) hx hb dX4_whyNot_105 rfl (lv_at hl 0 rfl) ?_
              refine mj_geta (pc := 106) hcx hW 13 (by decide) rfl q1268 dX4_whyNot_106 ?_
              refine lv_iconst (pc := 109) (v := (1 : Int32)) hx hb dX4_whyNot_109 (by decide) ?_
              obtain ⟨g19, h⟩ := h
              refine mj_ald (pc := 110) hcx hW 13 rfl rfl g19 dX4_whyNot_110 ?_
              refine lv_iload_n (pc := 111) hx hb dX4_whyNot_111 rfl (lv_at hl 2 rfl) ?_
              refine lv_icmp_ne (pc := 112) (tgt := 119) hx hb dX4_whyNot_112 (by decide) (fun c20 => ?_) (fun c20 => ?_)
              · have h := h.2 c20
                refine lv_iconst (pc := 119) (v := (-1 : Int32)) hx hb dX4_whyNot_119 (by decide) ?_
                exact mj_reti (pc := 120) hcx hW hS rfl h dX4_whyNot_120
              · have h := h.1 c20
                refine lv_iconst (pc := 115) (v := (2 : Int32)) hx hb dX4_whyNot_115 (by decide) ?_
                refine lv_goto (pc := 116) (tgt := 120) hx hb dX4_whyNot_116 (by decide) ?_
                exact mj_reti (pc := 120) hcx hW hS rfl h dX4_whyNot_120
            · have h := h.1 c18
              refine lv_iconst (pc := 101) (v := (1 : Int32)) hx hb dX4_whyNot_101 (by decide) ?_
              refine lv_goto (pc := 102) (tgt := 120) hx hb dX4_whyNot_102 (by decide) ?_
              exact mj_reti (pc := 120) hcx hW hS rfl h dX4_whyNot_120
          · have h := h.1 c15
            refine lv_iconst (pc := 87) (v := (0 : Int32)) hx hb dX4_whyNot_87 (by decide) ?_
            refine lv_goto (pc := 88) (tgt := 120) hx hb dX4_whyNot_88 (by decide) ?_
            exact mj_reti (pc := 120) hcx hW hS rfl h dX4_whyNot_120)
/-! fault -/
set_option maxHeartbeats 4000000 in
set_option maxRecDepth 100000 in
theorem mb_fault {E : mj_E} {σ : mj_S} {x1 : Int32} {P : Int32 → mj_S → Prop} (hE : mj_ok E) (h : ((x1 = 0 → ms_readAll E σ (fun r5 σ6 => P r5 σ6)) ∧ (¬ x1 = 0 → ((x1 = (1 : Int32) → ms_readScript E σ (4 : Int32) (fun r3 σ4 => P r3 σ4)) ∧ (¬ x1 = (1 : Int32) → P (-2 : Int32) σ))))) : ms_fault E σ x1 P :=
  mj_enter (k := 6) (lv := [(0, .ref (mj_o E)), (1, .int x1)]) hE rfl (Nat.le_of_ble_eq_true rfl) rfl (by
    intro d hd p e s m args below meth c hcx H locs ls hW hS hl
    have hx := hcx.1
    have hb := hcx.2.1
    have hown := hcx.2.2.2.2.2.1
    have hts := hcx.2.2.2.2.2.2.1
    refine lv_iload_n (pc := 0) hx hb dX4_fault_0 rfl (lv_at hl 1 rfl) ?_
    refine lv_if_ne (pc := 1) (tgt := 11) hx hb dX4_fault_1 (by decide) (fun c1 => ?_) (fun c1 => ?_)
    · have h := h.2 c1
      refine lv_iload_n (pc := 11) hx hb dX4_fault_11 rfl (lv_at hl 1 rfl) ?_
      refine lv_iconst (pc := 12) (v := (1 : Int32)) hx hb dX4_fault_12 (by decide) ?_
      refine lv_icmp_ne (pc := 13) (tgt := 24) hx hb dX4_fault_13 (by decide) (fun c2 => ?_) (fun c2 => ?_)
      · have h := h.2 c2
        refine lv_bipush (pc := 24) (v := (-2 : Int32)) hx hb dX4_fault_24 (by decide) ?_
        exact mj_reti (pc := 26) hcx hW hS rfl h dX4_fault_26
      · have h := h.1 c2
        refine lv_aload_n (pc := 16) hx hb dX4_fault_16 rfl (lv_at hl 0 rfl) ?_
        refine lv_iconst (pc := 17) (v := (4 : Int32)) hx hb dX4_fault_17 (by decide) ?_
        refine mj_ci (pc := 18) (mj_runV hcx hW [.int (4 : Int32)] h (Nat.le_trans (by decide) hd) (lw_V q1462 q1464 qs57 q125 q1465) yd_readScript (by decide) rfl rfl (Nat.le_of_ble_eq_true rfl) hl.1 dX4_fault_18) hS (fun r3 σ4 h H locs hW hS => ?_)
        refine lv_goto (pc := 21) (tgt := 26) hx hb dX4_fault_21 (by decide) ?_
        exact mj_reti (pc := 26) hcx hW hS rfl h dX4_fault_26
    · have h := h.1 c1
      refine lv_aload_n (pc := 4) hx hb dX4_fault_4 rfl (lv_at hl 0 rfl) ?_
      refine mj_ci (pc := 5) (mj_runV hcx hW [] h (Nat.le_trans (by decide) hd) (lw_V q1408 q1410 qs45 q125 q1411) yd_readAll (by decide) rfl rfl (Nat.le_of_ble_eq_true rfl) hl.1 dX4_fault_5) hS (fun r5 σ6 h H locs hW hS => ?_)
      refine lv_goto (pc := 8) (tgt := 26) hx hb dX4_fault_8 (by decide) ?_
      exact mj_reti (pc := 26) hcx hW hS rfl h dX4_fault_26)
/-! text -/
set_option maxHeartbeats 4000000 in
set_option maxRecDepth 100000 in
theorem mb_text_22 {E : mj_E} {σ : mj_S} {x1 : Int32} {P : Int32 → mj_S → Prop} (h : ((x1 = (1 : Int32) → (((4 : Int32) ≤ (mj_F σ 12) → P (-1 : Int32) σ) ∧ (¬ (4 : Int32) ≤ (mj_F σ 12) → ms_readScript E σ (mj_F σ 12) (fun r3 σ4 => ((r3 = (-1 : Int32) → P ((mj_F (mj_sF (mj_sF σ4 2 (0 : Int32)) 12 ((mj_F (mj_sF σ4 2 (0 : Int32)) 12) + (1 : Int32))) 12) - (1 : Int32)) (mj_sF (mj_sF σ4 2 (0 : Int32)) 12 ((mj_F (mj_sF σ4 2 (0 : Int32)) 12) + (1 : Int32)))) ∧ (¬ r3 = (-1 : Int32) → P (-1 : Int32) σ4)))))) ∧ (¬ x1 = (1 : Int32) → P (-1 : Int32) σ))) : mg_text_22 E σ x1 P := by
  intro d hd p e s m args below meth c hcx H locs ls hW hS hl
  have hx := hcx.1
  have hb := hcx.2.1
  have hown := hcx.2.2.2.2.2.1
  have hts := hcx.2.2.2.2.2.2.1
  refine lv_iload_n (pc := 22) hx hb dX4_text_22 rfl (lv_at hl 1 rfl) ?_
  refine lv_iconst (pc := 23) (v := (1 : Int32)) hx hb dX4_text_23 (by decide) ?_
  refine lv_icmp_ne (pc := 24) (tgt := 69) hx hb dX4_text_24 (by decide) (fun c1 => ?_) (fun c1 => ?_)
  · have h := h.2 c1
    refine lv_iconst (pc := 69) (v := (-1 : Int32)) hx hb dX4_text_69 (by decide) ?_
    exact mj_reti (pc := 70) hcx hW hS rfl h dX4_text_70
  · have h := h.1 c1
    refine lv_aload_n (pc := 27) hx hb dX4_text_27 rfl (lv_at hl 0 rfl) ?_
    refine mj_geti (pc := 28) hcx hW 12 (by decide) rfl q1267 dX4_text_28 ?_
    refine lv_iconst (pc := 31) (v := (4 : Int32)) hx hb dX4_text_31 (by decide) ?_
    refine lv_icmp_ge (pc := 32) (tgt := 69) hx hb dX4_text_32 (by decide) (fun c2 => ?_) (fun c2 => ?_)
    · have h := h.1 c2
      refine lv_iconst (pc := 69) (v := (-1 : Int32)) hx hb dX4_text_69 (by decide) ?_
      exact mj_reti (pc := 70) hcx hW hS rfl h dX4_text_70
    · have h := h.2 c2
      refine lv_aload_n (pc := 35) hx hb dX4_text_35 rfl (lv_at hl 0 rfl) ?_
      refine lv_aload_n (pc := 36) hx hb dX4_text_36 rfl (lv_at hl 0 rfl) ?_
      refine mj_geti (pc := 37) hcx hW 12 (by decide) rfl q1267 dX4_text_37 ?_
      refine mj_ci (pc := 40) (mj_runV hcx hW [.int (mj_F σ 12)] h (Nat.le_trans (by decide) hd) (lw_V q1462 q1464 qs57 q125 q1465) yd_readScript (by decide) rfl rfl (Nat.le_of_ble_eq_true rfl) hl.1 dX4_text_40) hS (fun r3 σ4 h H locs hW hS => ?_)
      refine lv_iconst (pc := 43) (v := (-1 : Int32)) hx hb dX4_text_43 (by decide) ?_
      refine lv_icmp_ne (pc := 44) (tgt := 69) hx hb dX4_text_44 (by decide) (fun c5 => ?_) (fun c5 => ?_)
      · have h := h.2 c5
        refine lv_iconst (pc := 69) (v := (-1 : Int32)) hx hb dX4_text_69 (by decide) ?_
        exact mj_reti (pc := 70) hcx hW hS rfl h dX4_text_70
      · have h := h.1 c5
        refine lv_aload_n (pc := 47) hx hb dX4_text_47 rfl (lv_at hl 0 rfl) ?_
        refine lv_iconst (pc := 48) (v := (0 : Int32)) hx hb dX4_text_48 (by decide) ?_
        refine mj_puti (pc := 49) hcx hW hS 2 (by decide) rfl rfl rfl rfl q1257 dX4_text_49 (fun H locs hW hS => ?_)
        refine lv_aload_n (pc := 52) hx hb dX4_text_52 rfl (lv_at hl 0 rfl) ?_
        refine lv_dup (pc := 53) hx hb dX4_text_53 rfl ?_
        refine mj_geti (pc := 54) hcx hW 12 (by decide) rfl q1267 dX4_text_54 ?_
        refine lv_iconst (pc := 57) (v := (1 : Int32)) hx hb dX4_text_57 (by decide) ?_
        refine lv_iadd (pc := 58) hx hb dX4_text_58 ?_
        refine mj_puti (pc := 59) hcx hW hS 12 (by decide) rfl rfl rfl rfl q1267 dX4_text_59 (fun H locs hW hS => ?_)
        refine lv_aload_n (pc := 62) hx hb dX4_text_62 rfl (lv_at hl 0 rfl) ?_
        refine mj_geti (pc := 63) hcx hW 12 (by decide) rfl q1267 dX4_text_63 ?_
        refine lv_iconst (pc := 66) (v := (1 : Int32)) hx hb dX4_text_66 (by decide) ?_
        refine lv_isub (pc := 67) hx hb dX4_text_67 ?_
        exact mj_reti (pc := 68) hcx hW hS rfl h dX4_text_68
set_option maxHeartbeats 4000000 in
set_option maxRecDepth 100000 in
theorem mb_text {E : mj_E} {σ : mj_S} {x1 : Int32} {P : Int32 → mj_S → Prop} (hE : mj_ok E) (h : ((x1 = 0 → ms_readAll E σ (fun r2 σ3 => ((r2 = (-1 : Int32) → ms_takeTables E (mj_sF σ3 2 (0 : Int32)) (fun r5 σ6 => P r5 σ6)) ∧ (¬ r2 = (-1 : Int32) → mg_text_22 E σ3 x1 P)))) ∧ (¬ x1 = 0 → mg_text_22 E σ x1 P))) : ms_text E σ x1 P :=
  mj_enter (k := 6) (lv := [(0, .ref (mj_o E)), (1, .int x1)]) hE rfl (Nat.le_of_ble_eq_true rfl) rfl (by
    intro d hd p e s m args below meth c hcx H locs ls hW hS hl
    have hx := hcx.1
    have hb := hcx.2.1
    have hown := hcx.2.2.2.2.2.1
    have hts := hcx.2.2.2.2.2.2.1
    refine lv_iload_n (pc := 0) hx hb dX4_text_0 rfl (lv_at hl 1 rfl) ?_
    refine lv_if_ne (pc := 1) (tgt := 22) hx hb dX4_text_1 (by decide) (fun c1 => ?_) (fun c1 => ?_)
    · have h := h.2 c1
      exact h d hd p e s m args below meth c hcx H locs _ hW hS (lv_sub hl [0, 1] rfl)
    · have h := h.1 c1
      refine lv_aload_n (pc := 4) hx hb dX4_text_4 rfl (lv_at hl 0 rfl) ?_
      refine mj_ci (pc := 5) (mj_runV hcx hW [] h (Nat.le_trans (by decide) hd) (lw_V q1408 q1410 qs45 q125 q1411) yd_readAll (by decide) rfl rfl (Nat.le_of_ble_eq_true rfl) hl.1 dX4_text_5) hS (fun r2 σ3 h H locs hW hS => ?_)
      refine lv_iconst (pc := 8) (v := (-1 : Int32)) hx hb dX4_text_8 (by decide) ?_
      refine lv_icmp_ne (pc := 9) (tgt := 22) hx hb dX4_text_9 (by decide) (fun c4 => ?_) (fun c4 => ?_)
      · have h := h.2 c4
        exact h d hd p e s m args below meth c hcx H locs _ hW hS (lv_sub hl [0, 1] rfl)
      · have h := h.1 c4
        refine lv_aload_n (pc := 12) hx hb dX4_text_12 rfl (lv_at hl 0 rfl) ?_
        refine lv_iconst (pc := 13) (v := (0 : Int32)) hx hb dX4_text_13 (by decide) ?_
        refine mj_puti (pc := 14) hcx hW hS 2 (by decide) rfl rfl rfl rfl q1257 dX4_text_14 (fun H locs hW hS => ?_)
        refine lv_aload_n (pc := 17) hx hb dX4_text_17 rfl (lv_at hl 0 rfl) ?_
        refine mj_ci (pc := 18) (mj_runV hcx hW [] h (Nat.le_trans (by decide) hd) (lw_V q1478 q1480 qs60 q125 q1481) yd_takeTables (by decide) rfl rfl (Nat.le_of_ble_eq_true rfl) hl.1 dX4_text_18) hS (fun r5 σ6 h H locs hW hS => ?_)
        exact mj_reti (pc := 21) hcx hW hS rfl h dX4_text_21)
/-! goes -/
set_option maxHeartbeats 4000000 in
set_option maxRecDepth 100000 in
theorem mb_goes_19 {E : mj_E} {k : Nat} {σ : mj_S} {x1 : Int32} {x2 : Int32} {P : mj_S → Prop} (hk : 8 ≤ k) (h : ((x2 = 0 → P σ) ∧ (¬ x2 = 0 → ms_greatestKey E σ x1 (fun r2 σ3 => ms_firstBehind E σ3 x1 r2 (fun r4 σ5 => ((r4 = (-1 : Int32) → (vp_in x1 4 ∧ (vp_in (mj_A σ5 18 x1.toNatClampNeg) 4 ∧ (vp_in (x1 + (1 : Int32)) 5 ∧ (vp_in (x1 + (1 : Int32)) 5 ∧ ms_goes E k (mj_sA (mj_sA σ5 20 (mj_A σ5 18 x1.toNatClampNeg).toNatClampNeg r2) 24 (x1 + (1 : Int32)).toNatClampNeg ((mj_A (mj_sA σ5 20 (mj_A σ5 18 x1.toNatClampNeg).toNatClampNeg r2) 24 (x1 + (1 : Int32)).toNatClampNeg) + (1 : Int32))) (x1 + (1 : Int32)) (fun σ14 => (vp_in x1 4 ∧ (vp_in (mj_A σ14 18 x1.toNatClampNeg) 4 ∧ ms_firstIn E (mj_sA σ14 20 (mj_A σ14 18 x1.toNatClampNeg).toNatClampNeg (-1 : Int32)) x1 (fun r17 σ18 => ms_leaps E σ18 x1 r17 (r2 + (1 : Int32)) (fun r19 σ20 => mg_goes_19 E k σ20 x1 r19 P)))))))))) ∧ (¬ r4 = (-1 : Int32) → ms_leaps E σ5 x1 r4 r2 (fun r7 σ8 => mg_goes_19 E k σ8 x1 r7 P)))))))) : mg_goes_19 E k σ x1 x2 P := by
  intro d hd p e s m args below meth c hcx H locs ls hW hS hl
  have hx := hcx.1
  have hb := hcx.2.1
  have hown := hcx.2.2.2.2.2.1
  have hts := hcx.2.2.2.2.2.2.1
  refine lv_iload_n (pc := 19) hx hb dX4_goes_19 rfl (lv_at hl 2 rfl) ?_
  refine lv_if_eq (pc := 20) (tgt := 115) hx hb dX4_goes_20 (by decide) (fun c1 => ?_) (fun c1 => ?_)
  · have h := h.1 c1
    exact mj_retv (pc := 115) hcx hW hS h dX4_goes_115
  · have h := h.2 c1
    refine lv_aload_n (pc := 23) hx hb dX4_goes_23 rfl (lv_at hl 0 rfl) ?_
    refine lv_iload_n (pc := 24) hx hb dX4_goes_24 rfl (lv_at hl 1 rfl) ?_
    refine mj_ci (pc := 25) (mj_runV hcx hW [.int x1] h (Nat.le_trans (by decide) (Nat.le_trans hk (Nat.le_of_succ_le hd))) (lw_V q1613 q1615 qs92 q125 q1616) yd_greatestKey (by decide) rfl rfl (Nat.le_of_ble_eq_true rfl) hl.1 dX4_goes_25) hS (fun r2 σ3 h H locs hW hS => ?_)
    refine lv_istore_n (pc := 28) (lv' := [(3, .int r2), (0, .ref (mj_o E)), (1, .int x1), (2, .int x2)]) hx hb dX4_goes_28 rfl hl (by decide) rfl (fun ls hl => ?_)
    refine lv_aload_n (pc := 29) hx hb dX4_goes_29 rfl (lv_at hl 1 rfl) ?_
    refine lv_iload_n (pc := 30) hx hb dX4_goes_30 rfl (lv_at hl 2 rfl) ?_
    refine lv_iload_n (pc := 31) hx hb dX4_goes_31 rfl (lv_at hl 0 rfl) ?_
    refine mj_ci (pc := 32) (mj_runV hcx hW [.int x1, .int r2] h (Nat.le_trans (by decide) (Nat.le_trans hk (Nat.le_of_succ_le hd))) (lw_V q1622 q1624 qs94 q125 q1625) yd_firstBehind (by decide) rfl rfl (Nat.le_of_ble_eq_true rfl) hl.1 dX4_goes_32) hS (fun r4 σ5 h H locs hW hS => ?_)
    refine lv_istore (pc := 35) (lv' := [(4, .int r4), (3, .int r2), (0, .ref (mj_o E)), (1, .int x1), (2, .int x2)]) hx hb dX4_goes_35 hl (by decide) rfl (fun ls hl => ?_)
    refine lv_iload (pc := 37) hx hb dX4_goes_37 (lv_at hl 0 rfl) ?_
    refine lv_iconst (pc := 39) (v := (-1 : Int32)) hx hb dX4_goes_39 (by decide) ?_
    refine lv_icmp_ne (pc := 40) (tgt := 103) hx hb dX4_goes_40 (by decide) (fun c6 => ?_) (fun c6 => ?_)
    · have h := h.2 c6
      refine lv_aload_n (pc := 103) hx hb dX4_goes_103 rfl (lv_at hl 2 rfl) ?_
      refine lv_iload_n (pc := 104) hx hb dX4_goes_104 rfl (lv_at hl 3 rfl) ?_
      refine lv_iload (pc := 105) hx hb dX4_goes_105 (lv_at hl 0 rfl) ?_
      refine lv_iload_n (pc := 107) hx hb dX4_goes_107 rfl (lv_at hl 1 rfl) ?_
      refine mj_ci (pc := 108) (mj_runV hcx hW [.int x1, .int r4, .int r2] h (Nat.le_trans (by decide) (Nat.le_trans hk (Nat.le_of_succ_le hd))) (lw_V q1630 q1632 qs96 q125 q1633) yd_leaps (by decide) rfl rfl (Nat.le_of_ble_eq_true rfl) hl.1 dX4_goes_108) hS (fun r7 σ8 h H locs hW hS => ?_)
      refine lv_istore_n (pc := 111) (lv' := [(2, .int r7), (4, .int r4), (3, .int r2), (0, .ref (mj_o E)), (1, .int x1)]) hx hb dX4_goes_111 rfl hl (by decide) rfl (fun ls hl => ?_)
      refine lv_goto (pc := 112) (tgt := 19) hx hb dX4_goes_112 (by decide) ?_
      exact h d hd p e s m args below meth c hcx H locs _ hW hS (lv_sub hl [3, 4, 0] rfl)
    · have h := h.1 c6
      refine lv_aload_n (pc := 43) hx hb dX4_goes_43 rfl (lv_at hl 2 rfl) ?_
      refine mj_geta (pc := 44) hcx hW 20 (by decide) rfl q1275 dX4_goes_44 ?_
      refine lv_aload_n (pc := 47) hx hb dX4_goes_47 rfl (lv_at hl 2 rfl) ?_
      refine mj_geta (pc := 48) hcx hW 18 (by decide) rfl q1273 dX4_goes_48 ?_
      refine lv_iload_n (pc := 51) hx hb dX4_goes_51 rfl (lv_at hl 3 rfl) ?_
      obtain ⟨g9, h⟩ := h
      refine mj_ald (pc := 52) hcx hW 18 rfl rfl g9 dX4_goes_52 ?_
      refine lv_iload_n (pc := 53) hx hb dX4_goes_53 rfl (lv_at hl 1 rfl) ?_
      obtain ⟨g10, h⟩ := h
      refine mj_ast (pc := 54) hcx hW hS 20 rfl rfl g10 dX4_goes_54 (fun H locs hW hS => ?_)
      refine lv_aload_n (pc := 55) hx hb dX4_goes_55 rfl (lv_at hl 2 rfl) ?_
      refine mj_geta (pc := 56) hcx hW 24 (by decide) rfl q1279 dX4_goes_56 ?_
      refine lv_iload_n (pc := 59) hx hb dX4_goes_59 rfl (lv_at hl 3 rfl) ?_
      refine lv_iconst (pc := 60) (v := (1 : Int32)) hx hb dX4_goes_60 (by decide) ?_
      refine lv_iadd (pc := 61) hx hb dX4_goes_61 ?_
      refine lv_dup2_11 (pc := 62) hx hb dX4_goes_62 rfl rfl ?_
      obtain ⟨g11, h⟩ := h
      refine mj_ald (pc := 63) hcx hW 24 rfl rfl g11 dX4_goes_63 ?_
      refine lv_iconst (pc := 64) (v := (1 : Int32)) hx hb dX4_goes_64 (by decide) ?_
      refine lv_iadd (pc := 65) hx hb dX4_goes_65 ?_
      obtain ⟨g12, h⟩ := h
      refine mj_ast (pc := 66) hcx hW hS 24 rfl rfl g12 dX4_goes_66 (fun H locs hW hS => ?_)
      refine lv_aload_n (pc := 67) hx hb dX4_goes_67 rfl (lv_at hl 2 rfl) ?_
      refine lv_iload_n (pc := 68) hx hb dX4_goes_68 rfl (lv_at hl 3 rfl) ?_
      refine lv_iconst (pc := 69) (v := (1 : Int32)) hx hb dX4_goes_69 (by decide) ?_
      refine lv_iadd (pc := 70) hx hb dX4_goes_70 ?_
      refine mj_cv (pc := 71) (mj_runV hcx hW [.int (x1 + (1 : Int32))] h hd (lw_V q1585 q1587 qs85 q125 q1588) yd_goes (by decide) rfl rfl (Nat.le_of_ble_eq_true rfl) hl.1 dX4_goes_71) hS (fun σ14 h H locs hW hS => ?_)
      refine lv_aload_n (pc := 74) hx hb dX4_goes_74 rfl (lv_at hl 2 rfl) ?_
      refine mj_geta (pc := 75) hcx hW 20 (by decide) rfl q1275 dX4_goes_75 ?_
      refine lv_aload_n (pc := 78) hx hb dX4_goes_78 rfl (lv_at hl 2 rfl) ?_
      refine mj_geta (pc := 79) hcx hW 18 (by decide) rfl q1273 dX4_goes_79 ?_
      refine lv_iload_n (pc := 82) hx hb dX4_goes_82 rfl (lv_at hl 3 rfl) ?_
      obtain ⟨g15, h⟩ := h
      refine mj_ald (pc := 83) hcx hW 18 rfl rfl g15 dX4_goes_83 ?_
      refine lv_iconst (pc := 84) (v := (-1 : Int32)) hx hb dX4_goes_84 (by decide) ?_
      obtain ⟨g16, h⟩ := h
      refine mj_ast (pc := 85) hcx hW hS 20 rfl rfl g16 dX4_goes_85 (fun H locs hW hS => ?_)
      refine lv_aload_n (pc := 86) hx hb dX4_goes_86 rfl (lv_at hl 2 rfl) ?_
      refine lv_iload_n (pc := 87) hx hb dX4_goes_87 rfl (lv_at hl 3 rfl) ?_
      refine lv_aload_n (pc := 88) hx hb dX4_goes_88 rfl (lv_at hl 2 rfl) ?_
      refine lv_iload_n (pc := 89) hx hb dX4_goes_89 rfl (lv_at hl 3 rfl) ?_
      refine mj_ci (pc := 90) (mj_runV hcx hW [.int x1] h (Nat.le_trans (by decide) (Nat.le_trans hk (Nat.le_of_succ_le hd))) (lw_V q1626 q1628 qs95 q125 q1629) yd_firstIn (by decide) rfl rfl (Nat.le_of_ble_eq_true rfl) hl.1 dX4_goes_90) hS (fun r17 σ18 h H locs hW hS => ?_)
      refine lv_iload_n (pc := 93) hx hb dX4_goes_93 rfl (lv_at hl 1 rfl) ?_
      refine lv_iconst (pc := 94) (v := (1 : Int32)) hx hb dX4_goes_94 (by decide) ?_
      refine lv_iadd (pc := 95) hx hb dX4_goes_95 ?_
      refine mj_ci (pc := 96) (mj_runV hcx hW [.int x1, .int r17, .int (r2 + (1 : Int32))] h (Nat.le_trans (by decide) (Nat.le_trans hk (Nat.le_of_succ_le hd))) (lw_V q1630 q1632 qs96 q125 q1633) yd_leaps (by decide) rfl rfl (Nat.le_of_ble_eq_true rfl) hl.1 dX4_goes_96) hS (fun r19 σ20 h H locs hW hS => ?_)
      refine lv_istore_n (pc := 99) (lv' := [(2, .int r19), (4, .int r4), (3, .int r2), (0, .ref (mj_o E)), (1, .int x1)]) hx hb dX4_goes_99 rfl hl (by decide) rfl (fun ls hl => ?_)
      refine lv_goto (pc := 100) (tgt := 112) hx hb dX4_goes_100 (by decide) ?_
      refine lv_goto (pc := 112) (tgt := 19) hx hb dX4_goes_112 (by decide) ?_
      exact h d hd p e s m args below meth c hcx H locs _ hW hS (lv_sub hl [3, 4, 0] rfl)
set_option maxHeartbeats 4000000 in
set_option maxRecDepth 100000 in
theorem mb_goes {E : mj_E} {k : Nat} {σ : mj_S} {x1 : Int32} {P : mj_S → Prop} (hE : mj_ok E) (hk : 8 ≤ k) (h : ((x1 = (mj_F σ 19) → ms_takesRow E σ (fun σ5 => P σ5)) ∧ (¬ x1 = (mj_F σ 19) → ms_laysKeys E σ x1 (fun r2 σ3 => mg_goes_19 E k σ3 x1 r2 P)))) : ms_goes E (k + 1) σ x1 P :=
  mj_enter (k := (k + 1)) (lv := [(0, .ref (mj_o E)), (1, .int x1)]) hE rfl (Nat.le_of_ble_eq_true rfl) rfl (by
    intro d hd p e s m args below meth c hcx H locs ls hW hS hl
    have hx := hcx.1
    have hb := hcx.2.1
    have hown := hcx.2.2.2.2.2.1
    have hts := hcx.2.2.2.2.2.2.1
    refine lv_iload_n (pc := 0) hx hb dX4_goes_0 rfl (lv_at hl 1 rfl) ?_
    refine lv_aload_n (pc := 1) hx hb dX4_goes_1 rfl (lv_at hl 0 rfl) ?_
    refine mj_geti (pc := 2) hcx hW 19 (by decide) rfl q1274 dX4_goes_2 ?_
    refine lv_icmp_ne (pc := 5) (tgt := 13) hx hb dX4_goes_5 (by decide) (fun c1 => ?_) (fun c1 => ?_)
    · have h := h.2 c1
      refine lv_aload_n (pc := 13) hx hb dX4_goes_13 rfl (lv_at hl 0 rfl) ?_
      refine lv_iload_n (pc := 14) hx hb dX4_goes_14 rfl (lv_at hl 1 rfl) ?_
      refine mj_ci (pc := 15) (mj_runV hcx hW [.int x1] h (Nat.le_trans (by decide) (Nat.le_trans hk (Nat.le_of_succ_le hd))) (lw_V q1593 q1595 qs87 q125 q1596) yd_laysKeys (by decide) rfl rfl (Nat.le_of_ble_eq_true rfl) hl.1 dX4_goes_15) hS (fun r2 σ3 h H locs hW hS => ?_)
      refine lv_istore_n (pc := 18) (lv' := [(2, .int r2), (0, .ref (mj_o E)), (1, .int x1)]) hx hb dX4_goes_18 rfl hl (by decide) rfl (fun ls hl => ?_)
      exact h d hd p e s m args below meth c hcx H locs _ hW hS (lv_sub hl [1, 2, 0] rfl)
    · have h := h.1 c1
      refine lv_aload_n (pc := 8) hx hb dX4_goes_8 rfl (lv_at hl 0 rfl) ?_
      refine mj_cv (pc := 9) (mj_runV hcx hW [] h (Nat.le_trans (by decide) (Nat.le_trans hk (Nat.le_of_succ_le hd))) (lw_V q1589 q1591 qs86 q125 q1592) yd_takesRow (by decide) rfl rfl (Nat.le_of_ble_eq_true rfl) hl.1 dX4_goes_9) hS (fun σ5 h H locs hW hS => ?_)
      exact mj_retv (pc := 12) hcx hW hS h dX4_goes_12)
