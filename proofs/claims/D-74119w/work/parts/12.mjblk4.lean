/-! tryOne -/
set_option maxHeartbeats 4000000 in
set_option maxRecDepth 100000 in
theorem mb_tryOne {E : mj_E} {σ : mj_S} {x1 : Int32} {x2 : Int32} {x3 : Int32} {x4 : Int32} {x5 : Int32} {P : mj_S → Prop} (hE : mj_ok E) (h : ms_whyNot E σ x1 x2 x3 x4 x5 (fun r1 σ2 => ((r1 = (-1 : Int32) → ms_act E σ2 x1 x2 x3 x4 x5 (fun r4 σ5 => P σ5)) ∧ (¬ r1 = (-1 : Int32) → P σ2)))) : ms_tryOne E σ x1 x2 x3 x4 x5 P :=
  mj_enter (k := 26) (lv := [(0, .ref (mj_o E)), (1, .int x1), (2, .int x2), (3, .int x3), (4, .int x4), (5, .int x5)]) hE rfl (Nat.le_of_ble_eq_true rfl) rfl (by
    intro d hd p e s m args below meth c hcx H locs ls hW hS hl
    have hx := hcx.1
    have hb := hcx.2.1
    have hown := hcx.2.2.2.2.2.1
    have hts := hcx.2.2.2.2.2.2.1
    refine lv_aload_n (pc := 0) hx hb dX4_tryOne_0 rfl (lv_at hl 0 rfl) ?_
    refine lv_iload_n (pc := 1) hx hb dX4_tryOne_1 rfl (lv_at hl 1 rfl) ?_
    refine lv_iload_n (pc := 2) hx hb dX4_tryOne_2 rfl (lv_at hl 2 rfl) ?_
    refine lv_iload_n (pc := 3) hx hb dX4_tryOne_3 rfl (lv_at hl 3 rfl) ?_
    refine lv_iload (pc := 4) hx hb dX4_tryOne_4 (lv_at hl 4 rfl) ?_
    refine lv_iload (pc := 6) hx hb dX4_tryOne_6 (lv_at hl 5 rfl) ?_
    refine mj_ci (pc := 8) (mj_runV hcx hW [.int x1, .int x2, .int x3, .int x4, .int x5] h (Nat.le_trans (by decide) hd) (lw_V q1513 q1515 qs67 q125 q1516) yd_whyNot (by decide) rfl rfl (Nat.le_of_ble_eq_true rfl) hl.1 dX4_tryOne_8) hS (fun r1 σ2 h H locs hW hS => ?_)
    refine lv_iconst (pc := 11) (v := (-1 : Int32)) hx hb dX4_tryOne_11 (by decide) ?_
    refine lv_icmp_ne (pc := 12) (tgt := 27) hx hb dX4_tryOne_12 (by decide) (fun c3 => ?_) (fun c3 => ?_)
    · have h := h.2 c3
      exact mj_retv (pc := 27) hcx hW hS h dX4_tryOne_27
    · have h := h.1 c3
      refine lv_aload_n (pc := 15) hx hb dX4_tryOne_15 rfl (lv_at hl 0 rfl) ?_
      refine lv_iload_n (pc := 16) hx hb dX4_tryOne_16 rfl (lv_at hl 1 rfl) ?_
      refine lv_iload_n (pc := 17) hx hb dX4_tryOne_17 rfl (lv_at hl 2 rfl) ?_
      refine lv_iload_n (pc := 18) hx hb dX4_tryOne_18 rfl (lv_at hl 3 rfl) ?_
      refine lv_iload (pc := 19) hx hb dX4_tryOne_19 (lv_at hl 4 rfl) ?_
      refine lv_iload (pc := 21) hx hb dX4_tryOne_21 (lv_at hl 5 rfl) ?_
      refine mj_ci (pc := 23) (mj_runV hcx hW [.int x1, .int x2, .int x3, .int x4, .int x5] h (Nat.le_trans (by decide) hd) (lw_V q1537 q1539 qs73 q125 q1540) yd_act (by decide) rfl rfl (Nat.le_of_ble_eq_true rfl) hl.1 dX4_tryOne_23) hS (fun r4 σ5 h H locs hW hS => ?_)
      refine lv_pop (pc := 26) hx hb dX4_tryOne_26 rfl ?_
      exact mj_retv (pc := 27) hcx hW hS h dX4_tryOne_27)
/-! drawWay -/
set_option maxHeartbeats 4000000 in
set_option maxRecDepth 100000 in
theorem mb_drawWay_69 {E : mj_E} {σ : mj_S} {x2 : Int32} {x3 : Int32} {t0 : Int32} {P : mj_S → Prop} (h : (vp_in x2 4 ∧ (((mj_A σ 15 x2.toNatClampNeg) ≤ (2 : Int32) → ms_tryOne E σ (0 : Int32) x2 x3 t0 (-1 : Int32) (fun σ4 => P σ4)) ∧ (¬ (mj_A σ 15 x2.toNatClampNeg) ≤ (2 : Int32) → ms_draw E σ (6 : Int32) (fun r5 σ6 => ms_tryOne E σ6 (0 : Int32) x2 x3 t0 r5 (fun σ8 => P σ8)))))) : mg_drawWay_69 E σ x2 x3 t0 P := by
  intro d hd p e s m args below meth c hcx H locs ls hW hS hl
  have hx := hcx.1
  have hb := hcx.2.1
  have hown := hcx.2.2.2.2.2.1
  have hts := hcx.2.2.2.2.2.2.1
  refine lv_istore (pc := 69) (lv' := [(4, .int t0), (0, .ref (mj_o E)), (2, .int x2), (3, .int x3)]) hx hb dX4_drawWay_69 hl (by decide) rfl (fun ls hl => ?_)
  refine lv_aload_n (pc := 71) hx hb dX4_drawWay_71 rfl (lv_at hl 1 rfl) ?_
  refine lv_iconst (pc := 72) (v := (0 : Int32)) hx hb dX4_drawWay_72 (by decide) ?_
  refine lv_iload_n (pc := 73) hx hb dX4_drawWay_73 rfl (lv_at hl 2 rfl) ?_
  refine lv_iload_n (pc := 74) hx hb dX4_drawWay_74 rfl (lv_at hl 3 rfl) ?_
  refine lv_iload (pc := 75) hx hb dX4_drawWay_75 (lv_at hl 0 rfl) ?_
  refine lv_aload_n (pc := 77) hx hb dX4_drawWay_77 rfl (lv_at hl 1 rfl) ?_
  refine mj_geta (pc := 78) hcx hW 15 (by decide) rfl q1270 dX4_drawWay_78 ?_
  refine lv_iload_n (pc := 81) hx hb dX4_drawWay_81 rfl (lv_at hl 2 rfl) ?_
  obtain ⟨g1, h⟩ := h
  refine mj_ald (pc := 82) hcx hW 15 rfl rfl g1 dX4_drawWay_82 ?_
  refine lv_iconst (pc := 83) (v := (2 : Int32)) hx hb dX4_drawWay_83 (by decide) ?_
  refine lv_icmp_le (pc := 84) (tgt := 96) hx hb dX4_drawWay_84 (by decide) (fun c2 => ?_) (fun c2 => ?_)
  · have h := h.1 c2
    refine lv_iconst (pc := 96) (v := (-1 : Int32)) hx hb dX4_drawWay_96 (by decide) ?_
    refine mj_cv (pc := 97) (mj_runV hcx hW [.int (0 : Int32), .int x2, .int x3, .int t0, .int (-1 : Int32)] h (Nat.le_trans (by decide) hd) (lw_V q1660 q1662 qs99 q125 q1663) yd_tryOne (by decide) rfl rfl (Nat.le_of_ble_eq_true rfl) hl.1 dX4_drawWay_97) hS (fun σ4 h H locs hW hS => ?_)
    refine lv_goto (pc := 100) (tgt := 175) hx hb dX4_drawWay_100 (by decide) ?_
    exact mj_retv (pc := 175) hcx hW hS h dX4_drawWay_175
  · have h := h.2 c2
    refine lv_aload_n (pc := 87) hx hb dX4_drawWay_87 rfl (lv_at hl 1 rfl) ?_
    refine lv_bipush (pc := 88) (v := (6 : Int32)) hx hb dX4_drawWay_88 (by decide) ?_
    refine mj_ci (pc := 90) (mj_runV hcx hW [.int (6 : Int32)] h (Nat.le_trans (by decide) hd) (lw_V q1654 q1656 qs98 q125 q1657) yd_draw (by decide) rfl rfl (Nat.le_of_ble_eq_true rfl) hl.1 dX4_drawWay_90) hS (fun r5 σ6 h H locs hW hS => ?_)
    refine lv_goto (pc := 93) (tgt := 97) hx hb dX4_drawWay_93 (by decide) ?_
    refine mj_cv (pc := 97) (mj_runV hcx hW [.int (0 : Int32), .int x2, .int x3, .int t0, .int r5] h (Nat.le_trans (by decide) hd) (lw_V q1660 q1662 qs99 q125 q1663) yd_tryOne (by decide) rfl rfl (Nat.le_of_ble_eq_true rfl) hl.1 dX4_drawWay_97) hS (fun σ8 h H locs hW hS => ?_)
    refine lv_goto (pc := 100) (tgt := 175) hx hb dX4_drawWay_100 (by decide) ?_
    exact mj_retv (pc := 175) hcx hW hS h dX4_drawWay_175
set_option maxHeartbeats 4000000 in
set_option maxRecDepth 100000 in
theorem mb_drawWay {E : mj_E} {σ : mj_S} {P : mj_S → Prop} (hE : mj_ok E) (h : ms_draw E σ (8 : Int32) (fun r1 σ2 => ((r1 = (7 : Int32) → ms_draw E σ2 (24 : Int32) (fun r28 σ29 => ms_tryOne E σ29 (3 : Int32) r28 (0 : Int32) (0 : Int32) (0 : Int32) (fun σ31 => P σ31))) ∧ (¬ r1 = (7 : Int32) → ms_draw E σ2 (mj_F σ2 17) (fun r4 σ5 => (((4 : Int32) ≤ r1 → ((r1 = (6 : Int32) → ms_tryOne E σ5 (2 : Int32) r4 (0 : Int32) (0 : Int32) (0 : Int32) (fun σ21 => P σ21)) ∧ (¬ r1 = (6 : Int32) → ms_draw E σ5 (12 : Int32) (fun r8 σ9 => ms_many E σ9 r4 (fun r10 σ11 => ((r10 ≤ r8 → P σ11) ∧ (¬ r10 ≤ r8 → ms_rowAt E σ11 r4 r8 (fun r13 σ14 => (vp_in r13 331 ∧ (vp_in (r13 + (1 : Int32)) 331 ∧ (vp_in (r13 + (2 : Int32)) 331 ∧ ms_tryOne E σ14 (1 : Int32) r4 (mj_A σ14 13 r13.toNatClampNeg) (mj_A σ14 13 (r13 + (1 : Int32)).toNatClampNeg) (mj_A σ14 13 (r13 + (2 : Int32)).toNatClampNeg) (fun σ19 => P σ19)))))))))))) ∧ (¬ (4 : Int32) ≤ r1 → ms_draw E σ5 (6 : Int32) (fun r22 σ23 => (vp_in r4 4 ∧ (((mj_A σ23 15 r4.toNatClampNeg) ≤ (1 : Int32) → mg_drawWay_69 E σ23 r4 r22 (-1 : Int32) P) ∧ (¬ (mj_A σ23 15 r4.toNatClampNeg) ≤ (1 : Int32) → ms_draw E σ23 (6 : Int32) (fun r26 σ27 => mg_drawWay_69 E σ27 r4 r22 r26 P)))))))))))) : ms_drawWay E σ P :=
  mj_enter (k := 27) (lv := [(0, .ref (mj_o E))]) hE rfl (Nat.le_of_ble_eq_true rfl) rfl (by
    intro d hd p e s m args below meth c hcx H locs ls hW hS hl
    have hx := hcx.1
    have hb := hcx.2.1
    have hown := hcx.2.2.2.2.2.1
    have hts := hcx.2.2.2.2.2.2.1
    refine lv_aload_n (pc := 0) hx hb dX4_drawWay_0 rfl (lv_at hl 0 rfl) ?_
    refine lv_bipush (pc := 1) (v := (8 : Int32)) hx hb dX4_drawWay_1 (by decide) ?_
    refine mj_ci (pc := 3) (mj_runV hcx hW [.int (8 : Int32)] h (Nat.le_trans (by decide) hd) (lw_V q1654 q1656 qs98 q125 q1657) yd_draw (by decide) rfl rfl (Nat.le_of_ble_eq_true rfl) hl.1 dX4_drawWay_3) hS (fun r1 σ2 h H locs hW hS => ?_)
    refine lv_istore_n (pc := 6) (lv' := [(1, .int r1), (0, .ref (mj_o E))]) hx hb dX4_drawWay_6 rfl hl (by decide) rfl (fun ls hl => ?_)
    refine lv_iload_n (pc := 7) hx hb dX4_drawWay_7 rfl (lv_at hl 0 rfl) ?_
    refine lv_bipush (pc := 8) (v := (7 : Int32)) hx hb dX4_drawWay_8 (by decide) ?_
    refine lv_icmp_ne (pc := 10) (tgt := 28) hx hb dX4_drawWay_10 (by decide) (fun c3 => ?_) (fun c3 => ?_)
    · have h := h.2 c3
      refine lv_aload_n (pc := 28) hx hb dX4_drawWay_28 rfl (lv_at hl 1 rfl) ?_
      refine lv_aload_n (pc := 29) hx hb dX4_drawWay_29 rfl (lv_at hl 1 rfl) ?_
      refine mj_geti (pc := 30) hcx hW 17 (by decide) rfl q1272 dX4_drawWay_30 ?_
      refine mj_ci (pc := 33) (mj_runV hcx hW [.int (mj_F σ2 17)] h (Nat.le_trans (by decide) hd) (lw_V q1654 q1656 qs98 q125 q1657) yd_draw (by decide) rfl rfl (Nat.le_of_ble_eq_true rfl) hl.1 dX4_drawWay_33) hS (fun r4 σ5 h H locs hW hS => ?_)
      refine lv_istore_n (pc := 36) (lv' := [(2, .int r4), (1, .int r1), (0, .ref (mj_o E))]) hx hb dX4_drawWay_36 rfl hl (by decide) rfl (fun ls hl => ?_)
      refine lv_iload_n (pc := 37) hx hb dX4_drawWay_37 rfl (lv_at hl 1 rfl) ?_
      refine lv_iconst (pc := 38) (v := (4 : Int32)) hx hb dX4_drawWay_38 (by decide) ?_
      refine lv_icmp_ge (pc := 39) (tgt := 103) hx hb dX4_drawWay_39 (by decide) (fun c6 => ?_) (fun c6 => ?_)
      · have h := h.1 c6
        refine lv_iload_n (pc := 103) hx hb dX4_drawWay_103 rfl (lv_at hl 1 rfl) ?_
        refine lv_bipush (pc := 104) (v := (6 : Int32)) hx hb dX4_drawWay_104 (by decide) ?_
        refine lv_icmp_ne (pc := 106) (tgt := 121) hx hb dX4_drawWay_106 (by decide) (fun c7 => ?_) (fun c7 => ?_)
        · have h := h.2 c7
          refine lv_aload_n (pc := 121) hx hb dX4_drawWay_121 rfl (lv_at hl 2 rfl) ?_
          refine lv_bipush (pc := 122) (v := (12 : Int32)) hx hb dX4_drawWay_122 (by decide) ?_
          refine mj_ci (pc := 124) (mj_runV hcx hW [.int (12 : Int32)] h (Nat.le_trans (by decide) hd) (lw_V q1654 q1656 qs98 q125 q1657) yd_draw (by decide) rfl rfl (Nat.le_of_ble_eq_true rfl) hl.1 dX4_drawWay_124) hS (fun r8 σ9 h H locs hW hS => ?_)
          refine lv_istore_n (pc := 127) (lv' := [(3, .int r8), (2, .int r4), (1, .int r1), (0, .ref (mj_o E))]) hx hb dX4_drawWay_127 rfl hl (by decide) rfl (fun ls hl => ?_)
          refine lv_iload_n (pc := 128) hx hb dX4_drawWay_128 rfl (lv_at hl 0 rfl) ?_
          refine lv_aload_n (pc := 129) hx hb dX4_drawWay_129 rfl (lv_at hl 3 rfl) ?_
          refine lv_iload_n (pc := 130) hx hb dX4_drawWay_130 rfl (lv_at hl 1 rfl) ?_
          refine mj_ci (pc := 131) (mj_runV hcx hW [.int r4] h (Nat.le_trans (by decide) hd) (lw_V q1490 q1492 qs63 q125 q1493) yd_many (by decide) rfl rfl (Nat.le_of_ble_eq_true rfl) hl.1 dX4_drawWay_131) hS (fun r10 σ11 h H locs hW hS => ?_)
          refine lv_icmp_ge (pc := 134) (tgt := 175) hx hb dX4_drawWay_134 (by decide) (fun c12 => ?_) (fun c12 => ?_)
          · have h := h.1 c12
            exact mj_retv (pc := 175) hcx hW hS h dX4_drawWay_175
          · have h := h.2 c12
            refine lv_iload_n (pc := 137) hx hb dX4_drawWay_137 rfl (lv_at hl 1 rfl) ?_
            refine lv_iload_n (pc := 138) hx hb dX4_drawWay_138 rfl (lv_at hl 0 rfl) ?_
            refine mj_ci (pc := 139) (mj_runS hcx hW [.int r4, .int r8] h (Nat.le_trans (by decide) hd) (lw_S q1498 q1499 q125 q1500) yd_rowAt.2 (by decide) rfl rfl (Nat.le_of_ble_eq_true rfl) hl.1 dX4_drawWay_139) hS (fun r13 σ14 h H locs hW hS => ?_)
            refine lv_istore (pc := 142) (lv' := [(4, .int r13), (3, .int r8), (2, .int r4), (1, .int r1), (0, .ref (mj_o E))]) hx hb dX4_drawWay_142 hl (by decide) rfl (fun ls hl => ?_)
            refine lv_aload_n (pc := 144) hx hb dX4_drawWay_144 rfl (lv_at hl 4 rfl) ?_
            refine lv_iconst (pc := 145) (v := (1 : Int32)) hx hb dX4_drawWay_145 (by decide) ?_
            refine lv_iload_n (pc := 146) hx hb dX4_drawWay_146 rfl (lv_at hl 2 rfl) ?_
            refine lv_aload_n (pc := 147) hx hb dX4_drawWay_147 rfl (lv_at hl 4 rfl) ?_
            refine mj_geta (pc := 148) hcx hW 13 (by decide) rfl q1268 dX4_drawWay_148 ?_
            refine lv_iload (pc := 151) hx hb dX4_drawWay_151 (lv_at hl 0 rfl) ?_
            obtain ⟨g15, h⟩ := h
            refine mj_ald (pc := 153) hcx hW 13 rfl rfl g15 dX4_drawWay_153 ?_
            refine lv_aload_n (pc := 154) hx hb dX4_drawWay_154 rfl (lv_at hl 4 rfl) ?_
            refine mj_geta (pc := 155) hcx hW 13 (by decide) rfl q1268 dX4_drawWay_155 ?_
            refine lv_iload (pc := 158) hx hb dX4_drawWay_158 (lv_at hl 0 rfl) ?_
            refine lv_iconst (pc := 160) (v := (1 : Int32)) hx hb dX4_drawWay_160 (by decide) ?_
            refine lv_iadd (pc := 161) hx hb dX4_drawWay_161 ?_
            obtain ⟨g16, h⟩ := h
            refine mj_ald (pc := 162) hcx hW 13 rfl rfl g16 dX4_drawWay_162 ?_
            refine lv_aload_n (pc := 163) hx hb dX4_drawWay_163 rfl (lv_at hl 4 rfl) ?_
            refine mj_geta (pc := 164) hcx hW 13 (by decide) rfl q1268 dX4_drawWay_164 ?_
            refine lv_iload (pc := 167) hx hb dX4_drawWay_167 (lv_at hl 0 rfl) ?_
            refine lv_iconst (pc := 169) (v := (2 : Int32)) hx hb dX4_drawWay_169 (by decide) ?_
            refine lv_iadd (pc := 170) hx hb dX4_drawWay_170 ?_
            obtain ⟨g17, h⟩ := h
            refine mj_ald (pc := 171) hcx hW 13 rfl rfl g17 dX4_drawWay_171 ?_
            refine mj_cv (pc := 172) (mj_runV hcx hW [.int (1 : Int32), .int r4, .int (mj_A σ14 13 r13.toNatClampNeg), .int (mj_A σ14 13 (r13 + (1 : Int32)).toNatClampNeg), .int (mj_A σ14 13 (r13 + (2 : Int32)).toNatClampNeg)] h (Nat.le_trans (by decide) hd) (lw_V q1660 q1662 qs99 q125 q1663) yd_tryOne (by decide) rfl rfl (Nat.le_of_ble_eq_true rfl) hl.1 dX4_drawWay_172) hS (fun σ19 h H locs hW hS => ?_)
            exact mj_retv (pc := 175) hcx hW hS h dX4_drawWay_175
        · have h := h.1 c7
          refine lv_aload_n (pc := 109) hx hb dX4_drawWay_109 rfl (lv_at hl 2 rfl) ?_
          refine lv_iconst (pc := 110) (v := (2 : Int32)) hx hb dX4_drawWay_110 (by decide) ?_
          refine lv_iload_n (pc := 111) hx hb dX4_drawWay_111 rfl (lv_at hl 0 rfl) ?_
          refine lv_iconst (pc := 112) (v := (0 : Int32)) hx hb dX4_drawWay_112 (by decide) ?_
          refine lv_iconst (pc := 113) (v := (0 : Int32)) hx hb dX4_drawWay_113 (by decide) ?_
          refine lv_iconst (pc := 114) (v := (0 : Int32)) hx hb dX4_drawWay_114 (by decide) ?_
          refine mj_cv (pc := 115) (mj_runV hcx hW [.int (2 : Int32), .int r4, .int (0 : Int32), .int (0 : Int32), .int (0 : Int32)] h (Nat.le_trans (by decide) hd) (lw_V q1660 q1662 qs99 q125 q1663) yd_tryOne (by decide) rfl rfl (Nat.le_of_ble_eq_true rfl) hl.1 dX4_drawWay_115) hS (fun σ21 h H locs hW hS => ?_)
          refine lv_goto (pc := 118) (tgt := 175) hx hb dX4_drawWay_118 (by decide) ?_
          exact mj_retv (pc := 175) hcx hW hS h dX4_drawWay_175
      · have h := h.2 c6
        refine lv_aload_n (pc := 42) hx hb dX4_drawWay_42 rfl (lv_at hl 2 rfl) ?_
        refine lv_bipush (pc := 43) (v := (6 : Int32)) hx hb dX4_drawWay_43 (by decide) ?_
        refine mj_ci (pc := 45) (mj_runV hcx hW [.int (6 : Int32)] h (Nat.le_trans (by decide) hd) (lw_V q1654 q1656 qs98 q125 q1657) yd_draw (by decide) rfl rfl (Nat.le_of_ble_eq_true rfl) hl.1 dX4_drawWay_45) hS (fun r22 σ23 h H locs hW hS => ?_)
        refine lv_istore_n (pc := 48) (lv' := [(3, .int r22), (2, .int r4), (1, .int r1), (0, .ref (mj_o E))]) hx hb dX4_drawWay_48 rfl hl (by decide) rfl (fun ls hl => ?_)
        refine lv_aload_n (pc := 49) hx hb dX4_drawWay_49 rfl (lv_at hl 3 rfl) ?_
        refine mj_geta (pc := 50) hcx hW 15 (by decide) rfl q1270 dX4_drawWay_50 ?_
        refine lv_iload_n (pc := 53) hx hb dX4_drawWay_53 rfl (lv_at hl 1 rfl) ?_
        obtain ⟨g24, h⟩ := h
        refine mj_ald (pc := 54) hcx hW 15 rfl rfl g24 dX4_drawWay_54 ?_
        refine lv_iconst (pc := 55) (v := (1 : Int32)) hx hb dX4_drawWay_55 (by decide) ?_
        refine lv_icmp_le (pc := 56) (tgt := 68) hx hb dX4_drawWay_56 (by decide) (fun c25 => ?_) (fun c25 => ?_)
        · have h := h.1 c25
          refine lv_iconst (pc := 68) (v := (-1 : Int32)) hx hb dX4_drawWay_68 (by decide) ?_
          exact h d hd p e s m args below meth c hcx H locs _ hW hS (lv_sub hl [3, 1, 0] rfl)
        · have h := h.2 c25
          refine lv_aload_n (pc := 59) hx hb dX4_drawWay_59 rfl (lv_at hl 3 rfl) ?_
          refine lv_bipush (pc := 60) (v := (6 : Int32)) hx hb dX4_drawWay_60 (by decide) ?_
          refine mj_ci (pc := 62) (mj_runV hcx hW [.int (6 : Int32)] h (Nat.le_trans (by decide) hd) (lw_V q1654 q1656 qs98 q125 q1657) yd_draw (by decide) rfl rfl (Nat.le_of_ble_eq_true rfl) hl.1 dX4_drawWay_62) hS (fun r26 σ27 h H locs hW hS => ?_)
          refine lv_goto (pc := 65) (tgt := 69) hx hb dX4_drawWay_65 (by decide) ?_
          exact h d hd p e s m args below meth c hcx H locs _ hW hS (lv_sub hl [3, 1, 0] rfl)
    · have h := h.1 c3
      refine lv_aload_n (pc := 13) hx hb dX4_drawWay_13 rfl (lv_at hl 1 rfl) ?_
      refine lv_iconst (pc := 14) (v := (3 : Int32)) hx hb dX4_drawWay_14 (by decide) ?_
      refine lv_aload_n (pc := 15) hx hb dX4_drawWay_15 rfl (lv_at hl 1 rfl) ?_
      refine lv_bipush (pc := 16) (v := (24 : Int32)) hx hb dX4_drawWay_16 (by decide) ?_
      refine mj_ci (pc := 18) (mj_runV hcx hW [.int (24 : Int32)] h (Nat.le_trans (by decide) hd) (lw_V q1654 q1656 qs98 q125 q1657) yd_draw (by decide) rfl rfl (Nat.le_of_ble_eq_true rfl) hl.1 dX4_drawWay_18) hS (fun r28 σ29 h H locs hW hS => ?_)
      refine lv_iconst (pc := 21) (v := (0 : Int32)) hx hb dX4_drawWay_21 (by decide) ?_
      refine lv_iconst (pc := 22) (v := (0 : Int32)) hx hb dX4_drawWay_22 (by decide) ?_
      refine lv_iconst (pc := 23) (v := (0 : Int32)) hx hb dX4_drawWay_23 (by decide) ?_
      refine mj_cv (pc := 24) (mj_runV hcx hW [.int (3 : Int32), .int r28, .int (0 : Int32), .int (0 : Int32), .int (0 : Int32)] h (Nat.le_trans (by decide) hd) (lw_V q1660 q1662 qs99 q125 q1663) yd_tryOne (by decide) rfl rfl (Nat.le_of_ble_eq_true rfl) hl.1 dX4_drawWay_24) hS (fun σ31 h H locs hW hS => ?_)
      exact mj_retv (pc := 27) hcx hW hS h dX4_drawWay_27)
/-! order -/
set_option maxHeartbeats 4000000 in
set_option maxRecDepth 100000 in
theorem mb_order {E : mj_E} {σ : mj_S} {x1 : Int32} {P : Int32 → mj_S → Prop} (hE : mj_ok E) (h : ms_hand E σ (3 : Int32) x1 (0 : Int32) (0 : Int32) (0 : Int32) (fun r1 σ2 => P r1 σ2)) : ms_order E σ x1 P :=
  mj_enter (k := 27) (lv := [(0, .ref (mj_o E)), (1, .int x1)]) hE rfl (Nat.le_of_ble_eq_true rfl) rfl (by
    intro d hd p e s m args below meth c hcx H locs ls hW hS hl
    have hx := hcx.1
    have hb := hcx.2.1
    have hown := hcx.2.2.2.2.2.1
    have hts := hcx.2.2.2.2.2.2.1
    refine lv_aload_n (pc := 0) hx hb dX4_order_0 rfl (lv_at hl 0 rfl) ?_
    refine lv_iconst (pc := 1) (v := (3 : Int32)) hx hb dX4_order_1 (by decide) ?_
    refine lv_iload_n (pc := 2) hx hb dX4_order_2 rfl (lv_at hl 1 rfl) ?_
    refine lv_iconst (pc := 3) (v := (0 : Int32)) hx hb dX4_order_3 (by decide) ?_
    refine lv_iconst (pc := 4) (v := (0 : Int32)) hx hb dX4_order_4 (by decide) ?_
    refine lv_iconst (pc := 5) (v := (0 : Int32)) hx hb dX4_order_5 (by decide) ?_
    refine mj_ci (pc := 6) (mj_runV hcx hW [.int (3 : Int32), .int x1, .int (0 : Int32), .int (0 : Int32), .int (0 : Int32)] h (Nat.le_trans (by decide) hd) (lw_V q1509 q1511 qs66 q125 q1512) yd_hand (by decide) rfl rfl (Nat.le_of_ble_eq_true rfl) hl.1 dX4_order_6) hS (fun r1 σ2 h H locs hW hS => ?_)
    exact mj_reti (pc := 9) hcx hW hS rfl h dX4_order_9)
/-! perform -/
set_option maxHeartbeats 4000000 in
set_option maxRecDepth 100000 in
theorem mb_perform {E : mj_E} {σ : mj_S} {x1 : Int32} {P : Int32 → mj_S → Prop} (hE : mj_ok E) (h : ms_isScript E σ x1 (fun r1 σ2 => ((r1 = 0 → P (-1 : Int32) σ2) ∧ (¬ r1 = 0 → ms_areTables E σ2 (fun r4 σ5 => ((r4 = 0 → P (-1 : Int32) σ5) ∧ (¬ r4 = 0 → ms_goSteps E σ5 x1 (1 : Int32) (fun r7 σ8 => P r7 σ8)))))))) : ms_perform E σ x1 P :=
  mj_enter (k := 27) (lv := [(0, .ref (mj_o E)), (1, .int x1)]) hE rfl (Nat.le_of_ble_eq_true rfl) rfl (by
    intro d hd p e s m args below meth c hcx H locs ls hW hS hl
    have hx := hcx.1
    have hb := hcx.2.1
    have hown := hcx.2.2.2.2.2.1
    have hts := hcx.2.2.2.2.2.2.1
    refine lv_aload_n (pc := 0) hx hb dX4_perform_0 rfl (lv_at hl 0 rfl) ?_
    refine lv_iload_n (pc := 1) hx hb dX4_perform_1 rfl (lv_at hl 1 rfl) ?_
    refine mj_ci (pc := 2) (mj_runV hcx hW [.int x1] h (Nat.le_trans (by decide) hd) (lw_V q1832 q1834 qs115 q125 q1835) yd_isScript (by decide) rfl rfl (Nat.le_of_ble_eq_true rfl) hl.1 dX4_perform_2) hS (fun r1 σ2 h H locs hW hS => ?_)
    refine lv_if_eq (pc := 5) (tgt := 24) hx hb dX4_perform_5 (by decide) (fun c3 => ?_) (fun c3 => ?_)
    · have h := h.1 c3
      refine lv_iconst (pc := 24) (v := (-1 : Int32)) hx hb dX4_perform_24 (by decide) ?_
      exact mj_reti (pc := 25) hcx hW hS rfl h dX4_perform_25
    · have h := h.2 c3
      refine lv_aload_n (pc := 8) hx hb dX4_perform_8 rfl (lv_at hl 0 rfl) ?_
      refine mj_ci (pc := 9) (mj_runV hcx hW [] h (Nat.le_trans (by decide) hd) (lw_V q1533 q1535 qs72 q125 q1536) yd_areTables (by decide) rfl rfl (Nat.le_of_ble_eq_true rfl) hl.1 dX4_perform_9) hS (fun r4 σ5 h H locs hW hS => ?_)
      refine lv_if_eq (pc := 12) (tgt := 24) hx hb dX4_perform_12 (by decide) (fun c6 => ?_) (fun c6 => ?_)
      · have h := h.1 c6
        refine lv_iconst (pc := 24) (v := (-1 : Int32)) hx hb dX4_perform_24 (by decide) ?_
        exact mj_reti (pc := 25) hcx hW hS rfl h dX4_perform_25
      · have h := h.2 c6
        refine lv_aload_n (pc := 15) hx hb dX4_perform_15 rfl (lv_at hl 0 rfl) ?_
        refine lv_iload_n (pc := 16) hx hb dX4_perform_16 rfl (lv_at hl 1 rfl) ?_
        refine lv_iconst (pc := 17) (v := (1 : Int32)) hx hb dX4_perform_17 (by decide) ?_
        refine mj_ci (pc := 18) (mj_runV hcx hW [.int x1, .int (1 : Int32)] h (Nat.le_trans (by decide) hd) (lw_V q1840 q1842 qs116 q125 q1843) yd_goSteps (by decide) rfl rfl (Nat.le_of_ble_eq_true rfl) hl.1 dX4_perform_18) hS (fun r7 σ8 h H locs hW hS => ?_)
        refine lv_goto (pc := 21) (tgt := 25) hx hb dX4_perform_21 (by decide) ?_
        exact mj_reti (pc := 25) hcx hW hS rfl h dX4_perform_25)
/-! put -/
set_option maxHeartbeats 4000000 in
set_option maxRecDepth 100000 in
theorem mb_put {E : mj_E} {σ : mj_S} {x1 : Int32} {x2 : Int32} {x3 : Int32} {x4 : Int32} {P : Int32 → mj_S → Prop} (hE : mj_ok E) (h : ms_hand E σ (0 : Int32) x1 x2 x3 x4 (fun r1 σ2 => P r1 σ2)) : ms_put E σ x1 x2 x3 x4 P :=
  mj_enter (k := 27) (lv := [(0, .ref (mj_o E)), (1, .int x1), (2, .int x2), (3, .int x3), (4, .int x4)]) hE rfl (Nat.le_of_ble_eq_true rfl) rfl (by
    intro d hd p e s m args below meth c hcx H locs ls hW hS hl
    have hx := hcx.1
    have hb := hcx.2.1
    have hown := hcx.2.2.2.2.2.1
    have hts := hcx.2.2.2.2.2.2.1
    refine lv_aload_n (pc := 0) hx hb dX4_put_0 rfl (lv_at hl 0 rfl) ?_
    refine lv_iconst (pc := 1) (v := (0 : Int32)) hx hb dX4_put_1 (by decide) ?_
    refine lv_iload_n (pc := 2) hx hb dX4_put_2 rfl (lv_at hl 1 rfl) ?_
    refine lv_iload_n (pc := 3) hx hb dX4_put_3 rfl (lv_at hl 2 rfl) ?_
    refine lv_iload_n (pc := 4) hx hb dX4_put_4 rfl (lv_at hl 3 rfl) ?_
    refine lv_iload (pc := 5) hx hb dX4_put_5 (lv_at hl 4 rfl) ?_
    refine mj_ci (pc := 7) (mj_runV hcx hW [.int (0 : Int32), .int x1, .int x2, .int x3, .int x4] h (Nat.le_trans (by decide) hd) (lw_V q1509 q1511 qs66 q125 q1512) yd_hand (by decide) rfl rfl (Nat.le_of_ble_eq_true rfl) hl.1 dX4_put_7) hS (fun r1 σ2 h H locs hW hS => ?_)
    exact mj_reti (pc := 10) hcx hW hS rfl h dX4_put_10)
/-! run -/
set_option maxHeartbeats 4000000 in
set_option maxRecDepth 100000 in
theorem mb_run {E : mj_E} {σ : mj_S} {x1 : Int32} {x2 : Int32} {P : Int32 → mj_S → Prop} (hE : mj_ok E) (h : ms_isScript E σ x1 (fun r1 σ2 => ((r1 = 0 → P (-1000000 : Int32) σ2) ∧ (¬ r1 = 0 → ms_areTables E σ2 (fun r4 σ5 => ((r4 = 0 → P (-1000000 : Int32) σ5) ∧ (¬ r4 = 0 → ms_in E σ5 x2 (0 : Int32) (1 : Int32) (fun r7 σ8 => ((r7 = 0 → P (-1000000 : Int32) σ8) ∧ (¬ r7 = 0 → ms_putAside E σ8 (fun σ11 => ms_goSteps E σ11 x1 (0 : Int32) (fun r12 σ13 => ms_rowsNow E σ13 (fun r14 σ15 => ms_bringBack E σ15 (fun σ17 => ((x2 = (1 : Int32) → P r14 σ17) ∧ (¬ x2 = (1 : Int32) → (vp_in x1 5 ∧ ((r12 = (mj_A σ17 11 x1.toNatClampNeg) → P (-1 : Int32) σ17) ∧ (¬ r12 = (mj_A σ17 11 x1.toNatClampNeg) → P r12 σ17))))))))))))))))))) : ms_run E σ x1 x2 P :=
  mj_enter (k := 27) (lv := [(0, .ref (mj_o E)), (1, .int x1), (2, .int x2)]) hE rfl (Nat.le_of_ble_eq_true rfl) rfl (by
    intro d hd p e s m args below meth c hcx H locs ls hW hS hl
    have hx := hcx.1
    have hb := hcx.2.1
    have hown := hcx.2.2.2.2.2.1
    have hts := hcx.2.2.2.2.2.2.1
    refine lv_aload_n (pc := 0) hx hb dX4_run_0 rfl (lv_at hl 0 rfl) ?_
    refine lv_iload_n (pc := 1) hx hb dX4_run_1 rfl (lv_at hl 1 rfl) ?_
    refine mj_ci (pc := 2) (mj_runV hcx hW [.int x1] h (Nat.le_trans (by decide) hd) (lw_V q1832 q1834 qs115 q125 q1835) yd_isScript (by decide) rfl rfl (Nat.le_of_ble_eq_true rfl) hl.1 dX4_run_2) hS (fun r1 σ2 h H locs hW hS => ?_)
    refine lv_if_eq (pc := 5) (tgt := 24) hx hb dX4_run_5 (by decide) (fun c3 => ?_) (fun c3 => ?_)
    · have h := h.1 c3
      refine lv_ldcw (pc := 24) (v := (-1000000 : Int32)) hx hb hown (hts _ q1676) dX4_run_24 ?_
      exact mj_reti (pc := 27) hcx hW hS rfl h dX4_run_27
    · have h := h.2 c3
      refine lv_aload_n (pc := 8) hx hb dX4_run_8 rfl (lv_at hl 0 rfl) ?_
      refine mj_ci (pc := 9) (mj_runV hcx hW [] h (Nat.le_trans (by decide) hd) (lw_V q1533 q1535 qs72 q125 q1536) yd_areTables (by decide) rfl rfl (Nat.le_of_ble_eq_true rfl) hl.1 dX4_run_9) hS (fun r4 σ5 h H locs hW hS => ?_)
      refine lv_if_eq (pc := 12) (tgt := 24) hx hb dX4_run_12 (by decide) (fun c6 => ?_) (fun c6 => ?_)
      · have h := h.1 c6
        refine lv_ldcw (pc := 24) (v := (-1000000 : Int32)) hx hb hown (hts _ q1676) dX4_run_24 ?_
        exact mj_reti (pc := 27) hcx hW hS rfl h dX4_run_27
      · have h := h.2 c6
        refine lv_iload_n (pc := 15) hx hb dX4_run_15 rfl (lv_at hl 2 rfl) ?_
        refine lv_iconst (pc := 16) (v := (0 : Int32)) hx hb dX4_run_16 (by decide) ?_
        refine lv_iconst (pc := 17) (v := (1 : Int32)) hx hb dX4_run_17 (by decide) ?_
        refine mj_ci (pc := 18) (mj_runS hcx hW [.int x2, .int (0 : Int32), .int (1 : Int32)] h (Nat.le_trans (by decide) hd) (lw_S q1401 q1402 q125 q1403) yd_in.2 (by decide) rfl rfl (Nat.le_of_ble_eq_true rfl) hl.1 dX4_run_18) hS (fun r7 σ8 h H locs hW hS => ?_)
        refine lv_if_ne (pc := 21) (tgt := 28) hx hb dX4_run_21 (by decide) (fun c9 => ?_) (fun c9 => ?_)
        · have h := h.2 c9
          refine lv_aload_n (pc := 28) hx hb dX4_run_28 rfl (lv_at hl 0 rfl) ?_
          refine mj_cv (pc := 29) (mj_runV hcx hW [] h (Nat.le_trans (by decide) hd) (lw_V q1820 q1822 qs113 q125 q1823) yd_putAside (by decide) rfl rfl (Nat.le_of_ble_eq_true rfl) hl.1 dX4_run_29) hS (fun σ11 h H locs hW hS => ?_)
          refine lv_aload_n (pc := 32) hx hb dX4_run_32 rfl (lv_at hl 0 rfl) ?_
          refine lv_iload_n (pc := 33) hx hb dX4_run_33 rfl (lv_at hl 1 rfl) ?_
          refine lv_iconst (pc := 34) (v := (0 : Int32)) hx hb dX4_run_34 (by decide) ?_
          refine mj_ci (pc := 35) (mj_runV hcx hW [.int x1, .int (0 : Int32)] h (Nat.le_trans (by decide) hd) (lw_V q1840 q1842 qs116 q125 q1843) yd_goSteps (by decide) rfl rfl (Nat.le_of_ble_eq_true rfl) hl.1 dX4_run_35) hS (fun r12 σ13 h H locs hW hS => ?_)
          refine lv_istore_n (pc := 38) (lv' := [(3, .int r12), (0, .ref (mj_o E)), (1, .int x1), (2, .int x2)]) hx hb dX4_run_38 rfl hl (by decide) rfl (fun ls hl => ?_)
          refine lv_aload_n (pc := 39) hx hb dX4_run_39 rfl (lv_at hl 1 rfl) ?_
          refine mj_ci (pc := 40) (mj_runV hcx hW [] h (Nat.le_trans (by decide) hd) (lw_V q1561 q1563 qs79 q125 q1564) yd_rowsNow (by decide) rfl rfl (Nat.le_of_ble_eq_true rfl) hl.1 dX4_run_40) hS (fun r14 σ15 h H locs hW hS => ?_)
          refine lv_istore (pc := 43) (lv' := [(4, .int r14), (3, .int r12), (0, .ref (mj_o E)), (1, .int x1), (2, .int x2)]) hx hb dX4_run_43 hl (by decide) rfl (fun ls hl => ?_)
          refine lv_aload_n (pc := 45) hx hb dX4_run_45 rfl (lv_at hl 2 rfl) ?_
          refine mj_cv (pc := 46) (mj_runV hcx hW [] h (Nat.le_trans (by decide) hd) (lw_V q1824 q1826 qs114 q125 q1827) yd_bringBack (by decide) rfl rfl (Nat.le_of_ble_eq_true rfl) hl.1 dX4_run_46) hS (fun σ17 h H locs hW hS => ?_)
          refine lv_iload_n (pc := 49) hx hb dX4_run_49 rfl (lv_at hl 4 rfl) ?_
          refine lv_iconst (pc := 50) (v := (1 : Int32)) hx hb dX4_run_50 (by decide) ?_
          refine lv_icmp_ne (pc := 51) (tgt := 59) hx hb dX4_run_51 (by decide) (fun c18 => ?_) (fun c18 => ?_)
          · have h := h.2 c18
            refine lv_iload_n (pc := 59) hx hb dX4_run_59 rfl (lv_at hl 1 rfl) ?_
            refine lv_aload_n (pc := 60) hx hb dX4_run_60 rfl (lv_at hl 2 rfl) ?_
            refine mj_geta (pc := 61) hcx hW 11 (by decide) rfl q1266 dX4_run_61 ?_
            refine lv_iload_n (pc := 64) hx hb dX4_run_64 rfl (lv_at hl 3 rfl) ?_
            obtain ⟨g19, h⟩ := h
            refine mj_ald (pc := 65) hcx hW 11 rfl rfl g19 dX4_run_65 ?_
            refine lv_icmp_ne (pc := 66) (tgt := 73) hx hb dX4_run_66 (by decide) (fun c20 => ?_) (fun c20 => ?_)
            · have h := h.2 c20
              refine lv_iload_n (pc := 73) hx hb dX4_run_73 rfl (lv_at hl 1 rfl) ?_
              exact mj_reti (pc := 74) hcx hW hS rfl h dX4_run_74
            · have h := h.1 c20
              refine lv_iconst (pc := 69) (v := (-1 : Int32)) hx hb dX4_run_69 (by decide) ?_
              refine lv_goto (pc := 70) (tgt := 74) hx hb dX4_run_70 (by decide) ?_
              exact mj_reti (pc := 74) hcx hW hS rfl h dX4_run_74
          · have h := h.1 c18
            refine lv_iload (pc := 54) hx hb dX4_run_54 (lv_at hl 0 rfl) ?_
            refine lv_goto (pc := 56) (tgt := 74) hx hb dX4_run_56 (by decide) ?_
            exact mj_reti (pc := 74) hcx hW hS rfl h dX4_run_74
        · have h := h.1 c9
          refine lv_ldcw (pc := 24) (v := (-1000000 : Int32)) hx hb hown (hts _ q1676) dX4_run_24 ?_
          exact mj_reti (pc := 27) hcx hW hS rfl h dX4_run_27)
/-! take -/
set_option maxHeartbeats 4000000 in
set_option maxRecDepth 100000 in
theorem mb_take {E : mj_E} {σ : mj_S} {x1 : Int32} {x2 : Int32} {x3 : Int32} {x4 : Int32} {P : Int32 → mj_S → Prop} (hE : mj_ok E) (h : ms_hand E σ (1 : Int32) x1 x2 x3 x4 (fun r1 σ2 => P r1 σ2)) : ms_take E σ x1 x2 x3 x4 P :=
  mj_enter (k := 27) (lv := [(0, .ref (mj_o E)), (1, .int x1), (2, .int x2), (3, .int x3), (4, .int x4)]) hE rfl (Nat.le_of_ble_eq_true rfl) rfl (by
    intro d hd p e s m args below meth c hcx H locs ls hW hS hl
    have hx := hcx.1
    have hb := hcx.2.1
    have hown := hcx.2.2.2.2.2.1
    have hts := hcx.2.2.2.2.2.2.1
    refine lv_aload_n (pc := 0) hx hb dX4_take_0 rfl (lv_at hl 0 rfl) ?_
    refine lv_iconst (pc := 1) (v := (1 : Int32)) hx hb dX4_take_1 (by decide) ?_
    refine lv_iload_n (pc := 2) hx hb dX4_take_2 rfl (lv_at hl 1 rfl) ?_
    refine lv_iload_n (pc := 3) hx hb dX4_take_3 rfl (lv_at hl 2 rfl) ?_
    refine lv_iload_n (pc := 4) hx hb dX4_take_4 rfl (lv_at hl 3 rfl) ?_
    refine lv_iload (pc := 5) hx hb dX4_take_5 (lv_at hl 4 rfl) ?_
    refine mj_ci (pc := 7) (mj_runV hcx hW [.int (1 : Int32), .int x1, .int x2, .int x3, .int x4] h (Nat.le_trans (by decide) hd) (lw_V q1509 q1511 qs66 q125 q1512) yd_hand (by decide) rfl rfl (Nat.le_of_ble_eq_true rfl) hl.1 dX4_take_7) hS (fun r1 σ2 h H locs hW hS => ?_)
    exact mj_reti (pc := 10) hcx hW hS rfl h dX4_take_10)
/-! use -/
set_option maxHeartbeats 4000000 in
set_option maxRecDepth 100000 in
theorem mb_use {E : mj_E} {σ : mj_S} {x1 : Int32} {P : Int32 → mj_S → Prop} (hE : mj_ok E) (h : ms_hand E σ (2 : Int32) x1 (0 : Int32) (0 : Int32) (0 : Int32) (fun r1 σ2 => P r1 σ2)) : ms_use E σ x1 P :=
  mj_enter (k := 27) (lv := [(0, .ref (mj_o E)), (1, .int x1)]) hE rfl (Nat.le_of_ble_eq_true rfl) rfl (by
    intro d hd p e s m args below meth c hcx H locs ls hW hS hl
    have hx := hcx.1
    have hb := hcx.2.1
    have hown := hcx.2.2.2.2.2.1
    have hts := hcx.2.2.2.2.2.2.1
    refine lv_aload_n (pc := 0) hx hb dX4_use_0 rfl (lv_at hl 0 rfl) ?_
    refine lv_iconst (pc := 1) (v := (2 : Int32)) hx hb dX4_use_1 (by decide) ?_
    refine lv_iload_n (pc := 2) hx hb dX4_use_2 rfl (lv_at hl 1 rfl) ?_
    refine lv_iconst (pc := 3) (v := (0 : Int32)) hx hb dX4_use_3 (by decide) ?_
    refine lv_iconst (pc := 4) (v := (0 : Int32)) hx hb dX4_use_4 (by decide) ?_
    refine lv_iconst (pc := 5) (v := (0 : Int32)) hx hb dX4_use_5 (by decide) ?_
    refine mj_ci (pc := 6) (mj_runV hcx hW [.int (2 : Int32), .int x1, .int (0 : Int32), .int (0 : Int32), .int (0 : Int32)] h (Nat.le_trans (by decide) hd) (lw_V q1509 q1511 qs66 q125 q1512) yd_hand (by decide) rfl rfl (Nat.le_of_ble_eq_true rfl) hl.1 dX4_use_6) hS (fun r1 σ2 h H locs hW hS => ?_)
    exact mj_reti (pc := 9) hcx hW hS rfl h dX4_use_9)
/-! ways -/
set_option maxHeartbeats 4000000 in
set_option maxRecDepth 100000 in
theorem mb_ways_27 {E : mj_E} {σ : mj_S} {x1 : Int32} {x4 : Int32} {P : Int32 → mj_S → Prop} (h : ((x1 ≤ x4 → ms_rowsNow E σ (fun r2 σ3 => P r2 σ3)) ∧ (¬ x1 ≤ x4 → ms_drawWay E σ (fun σ5 => mg_ways_27 E σ5 x1 (x4 + (1 : Int32)) P)))) : mg_ways_27 E σ x1 x4 P := by
  intro d hd p e s m args below meth c hcx H locs ls hW hS hl
  have hx := hcx.1
  have hb := hcx.2.1
  have hown := hcx.2.2.2.2.2.1
  have hts := hcx.2.2.2.2.2.2.1
  refine lv_iload (pc := 27) hx hb dX4_ways_27 (lv_at hl 2 rfl) ?_
  refine lv_iload_n (pc := 29) hx hb dX4_ways_29 rfl (lv_at hl 1 rfl) ?_
  refine lv_icmp_ge (pc := 30) (tgt := 43) hx hb dX4_ways_30 (by decide) (fun c1 => ?_) (fun c1 => ?_)
  · have h := h.1 c1
    refine lv_aload_n (pc := 43) hx hb dX4_ways_43 rfl (lv_at hl 0 rfl) ?_
    refine mj_ci (pc := 44) (mj_runV hcx hW [] h (Nat.le_trans (by decide) hd) (lw_V q1561 q1563 qs79 q125 q1564) yd_rowsNow (by decide) rfl rfl (Nat.le_of_ble_eq_true rfl) hl.1 dX4_ways_44) hS (fun r2 σ3 h H locs hW hS => ?_)
    exact mj_reti (pc := 47) hcx hW hS rfl h dX4_ways_47
  · have h := h.2 c1
    refine lv_aload_n (pc := 33) hx hb dX4_ways_33 rfl (lv_at hl 0 rfl) ?_
    refine mj_cv (pc := 34) (mj_runV hcx hW [] h (Nat.le_trans (by decide) hd) (lw_V q1650 q1652 qs97 q125 q1653) yd_drawWay (by decide) rfl rfl (Nat.le_of_ble_eq_true rfl) hl.1 dX4_ways_34) hS (fun σ5 h H locs hW hS => ?_)
    refine lv_iinc (pc := 37) (v := (x4 + (1 : Int32))) (lv' := [(4, .int (x4 + (1 : Int32))), (0, .ref (mj_o E)), (1, .int x1)]) hx hb dX4_ways_37 hl (k := 2) rfl rfl (by decide) rfl (fun ls hl => ?_)
    refine lv_goto (pc := 40) (tgt := 27) hx hb dX4_ways_40 (by decide) ?_
    exact h d hd p e s m args below meth c hcx H locs _ hW hS (lv_sub hl [1, 2, 0] rfl)
set_option maxHeartbeats 4000000 in
set_option maxRecDepth 100000 in
theorem mb_ways {E : mj_E} {σ : mj_S} {x1 : Int32} {x2 : Int64} {P : Int32 → mj_S → Prop} (hE : mj_ok E) (h : ms_areTables E σ (fun r1 σ2 => ((r1 = 0 → P (-1 : Int32) σ2) ∧ (¬ r1 = 0 → ms_in E σ2 x1 (1 : Int32) (40 : Int32) (fun r4 σ5 => ((r4 = 0 → P (-1 : Int32) σ5) ∧ (¬ r4 = 0 → mg_ways_27 E (mj_sJ σ5 x2) x1 (0 : Int32) P))))))) : ms_ways E σ x1 x2 P :=
  mj_enter (k := 28) (lv := [(0, .ref (mj_o E)), (1, .int x1), (2, .long x2)]) hE rfl (Nat.le_of_ble_eq_true rfl) rfl (by
    intro d hd p e s m args below meth c hcx H locs ls hW hS hl
    have hx := hcx.1
    have hb := hcx.2.1
    have hown := hcx.2.2.2.2.2.1
    have hts := hcx.2.2.2.2.2.2.1
    refine lv_aload_n (pc := 0) hx hb dX4_ways_0 rfl (lv_at hl 0 rfl) ?_
    refine mj_ci (pc := 1) (mj_runV hcx hW [] h (Nat.le_trans (by decide) hd) (lw_V q1533 q1535 qs72 q125 q1536) yd_areTables (by decide) rfl rfl (Nat.le_of_ble_eq_true rfl) hl.1 dX4_ways_1) hS (fun r1 σ2 h H locs hW hS => ?_)
    refine lv_if_eq (pc := 4) (tgt := 17) hx hb dX4_ways_4 (by decide) (fun c3 => ?_) (fun c3 => ?_)
    · have h := h.1 c3
      refine lv_iconst (pc := 17) (v := (-1 : Int32)) hx hb dX4_ways_17 (by decide) ?_
      exact mj_reti (pc := 18) hcx hW hS rfl h dX4_ways_18
    · have h := h.2 c3
      refine lv_iload_n (pc := 7) hx hb dX4_ways_7 rfl (lv_at hl 1 rfl) ?_
      refine lv_iconst (pc := 8) (v := (1 : Int32)) hx hb dX4_ways_8 (by decide) ?_
      refine lv_bipush (pc := 9) (v := (40 : Int32)) hx hb dX4_ways_9 (by decide) ?_
      refine mj_ci (pc := 11) (mj_runS hcx hW [.int x1, .int (1 : Int32), .int (40 : Int32)] h (Nat.le_trans (by decide) hd) (lw_S q1401 q1402 q125 q1403) yd_in.2 (by decide) rfl rfl (Nat.le_of_ble_eq_true rfl) hl.1 dX4_ways_11) hS (fun r4 σ5 h H locs hW hS => ?_)
      refine lv_if_ne (pc := 14) (tgt := 19) hx hb dX4_ways_14 (by decide) (fun c6 => ?_) (fun c6 => ?_)
      · have h := h.2 c6
        refine lv_aload_n (pc := 19) hx hb dX4_ways_19 rfl (lv_at hl 0 rfl) ?_
        refine lv_lload_n (pc := 20) hx hb dX4_ways_20 rfl (lv_at hl 2 rfl) ?_
        refine mj_putl (pc := 21) hcx hW hS q1285 dX4_ways_21 (fun H locs hW hS => ?_)
        refine lv_iconst (pc := 24) (v := (0 : Int32)) hx hb dX4_ways_24 (by decide) ?_
        refine lv_istore (pc := 25) (lv' := [(4, .int (0 : Int32)), (0, .ref (mj_o E)), (1, .int x1), (2, .long x2)]) hx hb dX4_ways_25 hl (by decide) rfl (fun ls hl => ?_)
        exact h d hd p e s m args below meth c hcx H locs _ hW hS (lv_sub hl [1, 2, 0] rfl)
      · have h := h.1 c6
        refine lv_iconst (pc := 17) (v := (-1 : Int32)) hx hb dX4_ways_17 (by decide) ?_
        exact mj_reti (pc := 18) hcx hW hS rfl h dX4_ways_18)
