/-! isTable -/
set_option maxHeartbeats 4000000 in
set_option maxRecDepth 100000 in
theorem mb_isTable {E : mj_E} {σ : mj_S} {x1 : Int32} {P : Int32 → mj_S → Prop} (hE : mj_ok E) (h : ms_in E σ x1 (0 : Int32) ((mj_F σ 17) - (1 : Int32)) (fun r1 σ2 => (narrow .boolean (.int r1) = .int r1 ∧ P r1 σ2))) : ms_isTable E σ x1 P :=
  mj_enter (k := 1) (lv := [(0, .ref (mj_o E)), (1, .int x1)]) hE rfl (Nat.le_of_ble_eq_true rfl) rfl (by
    intro d hd p e s m args below meth c hcx H locs ls hW hS hl
    have hx := hcx.1
    have hb := hcx.2.1
    have hown := hcx.2.2.2.2.2.1
    have hts := hcx.2.2.2.2.2.2.1
    refine lv_iload_n (pc := 0) hx hb dX4_isTable_0 rfl (lv_at hl 1 rfl) ?_
    refine lv_iconst (pc := 1) (v := (0 : Int32)) hx hb dX4_isTable_1 (by decide) ?_
    refine lv_aload_n (pc := 2) hx hb dX4_isTable_2 rfl (lv_at hl 0 rfl) ?_
    refine mj_geti (pc := 3) hcx hW 17 (by decide) rfl q1272 dX4_isTable_3 ?_
    refine lv_iconst (pc := 6) (v := (1 : Int32)) hx hb dX4_isTable_6 (by decide) ?_
    refine lv_isub (pc := 7) hx hb dX4_isTable_7 ?_
    refine mj_ci (pc := 8) (mj_runS hcx hW [.int x1, .int (0 : Int32), .int ((mj_F σ 17) - (1 : Int32))] h (Nat.le_trans (by decide) hd) (lw_S q1401 q1402 q125 q1403) yd_in.2 (by decide) rfl rfl (Nat.le_of_ble_eq_true rfl) hl.1 dX4_isTable_8) hS (fun r1 σ2 h H locs hW hS => ?_)
    obtain ⟨g3, h⟩ := h
    exact mj_reti (pc := 11) hcx hW hS g3 h dX4_isTable_11)
/-! isTold -/
set_option maxHeartbeats 4000000 in
set_option maxRecDepth 100000 in
theorem mb_isTold_2 {E : mj_E} {σ : mj_S} {x1 : Int32} {x2 : Int32} {x3 : Int32} {P : Int32 → mj_S → Prop} (h : (((100 : Int32) ≤ x3 → mg_isTold_26 E σ x1 x2 (1 : Int32) (0 : Int32) P) ∧ (¬ (100 : Int32) ≤ x3 → (vp_in x3 100 ∧ mg_isTold_2 E (mj_sA σ 38 x3.toNatClampNeg (-1 : Int32)) x1 x2 (x3 + (1 : Int32)) P)))) : mg_isTold_2 E σ x1 x2 x3 P := by
  intro d hd p e s m args below meth c hcx H locs ls hW hS hl
  have hx := hcx.1
  have hb := hcx.2.1
  have hown := hcx.2.2.2.2.2.1
  have hts := hcx.2.2.2.2.2.2.1
  refine lv_iload_n (pc := 2) hx hb dX4_isTold_2 rfl (lv_at hl 3 rfl) ?_
  refine lv_bipush (pc := 3) (v := (100 : Int32)) hx hb dX4_isTold_3 (by decide) ?_
  refine lv_icmp_ge (pc := 5) (tgt := 21) hx hb dX4_isTold_5 (by decide) (fun c1 => ?_) (fun c1 => ?_)
  · have h := h.1 c1
    refine lv_iconst (pc := 21) (v := (1 : Int32)) hx hb dX4_isTold_21 (by decide) ?_
    refine lv_istore_n (pc := 22) (lv' := [(3, .int (1 : Int32)), (0, .ref (mj_o E)), (1, .int x1), (2, .int x2)]) hx hb dX4_isTold_22 rfl hl (by decide) rfl (fun ls hl => ?_)
    refine lv_iconst (pc := 23) (v := (0 : Int32)) hx hb dX4_isTold_23 (by decide) ?_
    refine lv_istore (pc := 24) (lv' := [(4, .int (0 : Int32)), (3, .int (1 : Int32)), (0, .ref (mj_o E)), (1, .int x1), (2, .int x2)]) hx hb dX4_isTold_24 hl (by decide) rfl (fun ls hl => ?_)
    exact h d hd p e s m args below meth c hcx H locs _ hW hS (lv_sub hl [2, 3, 4, 1, 0] rfl)
  · have h := h.2 c1
    refine lv_aload_n (pc := 8) hx hb dX4_isTold_8 rfl (lv_at hl 0 rfl) ?_
    refine mj_geta (pc := 9) hcx hW 38 (by decide) rfl q1293 dX4_isTold_9 ?_
    refine lv_iload_n (pc := 12) hx hb dX4_isTold_12 rfl (lv_at hl 3 rfl) ?_
    refine lv_iconst (pc := 13) (v := (-1 : Int32)) hx hb dX4_isTold_13 (by decide) ?_
    obtain ⟨g2, h⟩ := h
    refine mj_ast (pc := 14) hcx hW hS 38 rfl rfl g2 dX4_isTold_14 (fun H locs hW hS => ?_)
    refine lv_iinc (pc := 15) (v := (x3 + (1 : Int32))) (lv' := [(3, .int (x3 + (1 : Int32))), (0, .ref (mj_o E)), (1, .int x1), (2, .int x2)]) hx hb dX4_isTold_15 hl (k := 3) rfl rfl (by decide) rfl (fun ls hl => ?_)
    refine lv_goto (pc := 18) (tgt := 2) hx hb dX4_isTold_18 (by decide) ?_
    exact h d hd p e s m args below meth c hcx H locs _ hW hS (lv_sub hl [1, 2, 3, 0] rfl)
set_option maxHeartbeats 4000000 in
set_option maxRecDepth 100000 in
theorem mb_isTold_26 {E : mj_E} {σ : mj_S} {x1 : Int32} {x2 : Int32} {x3 : Int32} {x4 : Int32} {P : Int32 → mj_S → Prop} (h : (((mj_F σ 26) ≤ x4 → (narrow .boolean (.int x3) = .int x3 ∧ P x3 σ)) ∧ (¬ (mj_F σ 26) ≤ x4 → ms_numberOf E σ x4 x1 (fun r3 σ4 => ((x3 = 0 → mg_isTold_81 E σ4 x1 x2 x4 r3 (0 : Int32) P) ∧ (¬ x3 = 0 → (vp_in r3 100 ∧ (((mj_A σ4 38 r3.toNatClampNeg) = (-1 : Int32) → mg_isTold_81 E σ4 x1 x2 x4 r3 (1 : Int32) P) ∧ (¬ (mj_A σ4 38 r3.toNatClampNeg) = (-1 : Int32) → (vp_in r3 100 ∧ ms_numberOf E σ4 x4 x2 (fun r9 σ10 => (((mj_A σ4 38 r3.toNatClampNeg) = r9 → mg_isTold_81 E σ10 x1 x2 x4 r3 (1 : Int32) P) ∧ (¬ (mj_A σ4 38 r3.toNatClampNeg) = r9 → mg_isTold_81 E σ10 x1 x2 x4 r3 (0 : Int32) P))))))))))))) : mg_isTold_26 E σ x1 x2 x3 x4 P := by
  intro d hd p e s m args below meth c hcx H locs ls hW hS hl
  have hx := hcx.1
  have hb := hcx.2.1
  have hown := hcx.2.2.2.2.2.1
  have hts := hcx.2.2.2.2.2.2.1
  refine lv_iload (pc := 26) hx hb dX4_isTold_26 (lv_at hl 4 rfl) ?_
  refine lv_aload_n (pc := 28) hx hb dX4_isTold_28 rfl (lv_at hl 0 rfl) ?_
  refine mj_geti (pc := 29) hcx hW 26 (by decide) rfl q1281 dX4_isTold_29 ?_
  refine lv_icmp_ge (pc := 32) (tgt := 102) hx hb dX4_isTold_32 (by decide) (fun c1 => ?_) (fun c1 => ?_)
  · have h := h.1 c1
    refine lv_iload_n (pc := 102) hx hb dX4_isTold_102 rfl (lv_at hl 3 rfl) ?_
    obtain ⟨g2, h⟩ := h
    exact mj_reti (pc := 103) hcx hW hS g2 h dX4_isTold_103
  · have h := h.2 c1
    refine lv_aload_n (pc := 35) hx hb dX4_isTold_35 rfl (lv_at hl 0 rfl) ?_
    refine lv_iload (pc := 36) hx hb dX4_isTold_36 (lv_at hl 4 rfl) ?_
    refine lv_iload_n (pc := 38) hx hb dX4_isTold_38 rfl (lv_at hl 1 rfl) ?_
    refine mj_ci (pc := 39) (mj_runV hcx hW [.int x4, .int x1] h (Nat.le_trans (by decide) hd) (lw_V q1705 q1707 qs102 q125 q1708) yd_numberOf (by decide) rfl rfl (Nat.le_of_ble_eq_true rfl) hl.1 dX4_isTold_39) hS (fun r3 σ4 h H locs hW hS => ?_)
    refine lv_istore (pc := 42) (lv' := [(5, .int r3), (0, .ref (mj_o E)), (1, .int x1), (2, .int x2), (3, .int x3), (4, .int x4)]) hx hb dX4_isTold_42 hl (by decide) rfl (fun ls hl => ?_)
    refine lv_iload_n (pc := 44) hx hb dX4_isTold_44 rfl (lv_at hl 4 rfl) ?_
    refine lv_if_eq (pc := 45) (tgt := 80) hx hb dX4_isTold_45 (by decide) (fun c5 => ?_) (fun c5 => ?_)
    · have h := h.1 c5
      refine lv_iconst (pc := 80) (v := (0 : Int32)) hx hb dX4_isTold_80 (by decide) ?_
      exact h d hd p e s m args below meth c hcx H locs _ hW hS (lv_sub hl [1, 2, 3, 5, 0] rfl)
    · have h := h.2 c5
      refine lv_aload_n (pc := 48) hx hb dX4_isTold_48 rfl (lv_at hl 1 rfl) ?_
      refine mj_geta (pc := 49) hcx hW 38 (by decide) rfl q1293 dX4_isTold_49 ?_
      refine lv_iload (pc := 52) hx hb dX4_isTold_52 (lv_at hl 0 rfl) ?_
      obtain ⟨g6, h⟩ := h
      refine mj_ald (pc := 54) hcx hW 38 rfl rfl g6 dX4_isTold_54 ?_
      refine lv_iconst (pc := 55) (v := (-1 : Int32)) hx hb dX4_isTold_55 (by decide) ?_
      refine lv_icmp_eq (pc := 56) (tgt := 76) hx hb dX4_isTold_56 (by decide) (fun c7 => ?_) (fun c7 => ?_)
      · have h := h.1 c7
        refine lv_iconst (pc := 76) (v := (1 : Int32)) hx hb dX4_isTold_76 (by decide) ?_
        refine lv_goto (pc := 77) (tgt := 81) hx hb dX4_isTold_77 (by decide) ?_
        exact h d hd p e s m args below meth c hcx H locs _ hW hS (lv_sub hl [1, 2, 3, 5, 0] rfl)
      · have h := h.2 c7
        refine lv_aload_n (pc := 59) hx hb dX4_isTold_59 rfl (lv_at hl 1 rfl) ?_
        refine mj_geta (pc := 60) hcx hW 38 (by decide) rfl q1293 dX4_isTold_60 ?_
        refine lv_iload (pc := 63) hx hb dX4_isTold_63 (lv_at hl 0 rfl) ?_
        obtain ⟨g8, h⟩ := h
        refine mj_ald (pc := 65) hcx hW 38 rfl rfl g8 dX4_isTold_65 ?_
        refine lv_aload_n (pc := 66) hx hb dX4_isTold_66 rfl (lv_at hl 1 rfl) ?_
        refine lv_iload (pc := 67) hx hb dX4_isTold_67 (lv_at hl 5 rfl) ?_
        refine lv_iload_n (pc := 69) hx hb dX4_isTold_69 rfl (lv_at hl 3 rfl) ?_
        refine mj_ci (pc := 70) (mj_runV hcx hW [.int x4, .int x2] h (Nat.le_trans (by decide) hd) (lw_V q1705 q1707 qs102 q125 q1708) yd_numberOf (by decide) rfl rfl (Nat.le_of_ble_eq_true rfl) hl.1 dX4_isTold_70) hS (fun r9 σ10 h H locs hW hS => ?_)
        refine lv_icmp_ne (pc := 73) (tgt := 80) hx hb dX4_isTold_73 (by decide) (fun c11 => ?_) (fun c11 => ?_)
        · have h := h.2 c11
          refine lv_iconst (pc := 80) (v := (0 : Int32)) hx hb dX4_isTold_80 (by decide) ?_
          exact h d hd p e s m args below meth c hcx H locs _ hW hS (lv_sub hl [1, 2, 3, 5, 0] rfl)
        · have h := h.1 c11
          refine lv_iconst (pc := 76) (v := (1 : Int32)) hx hb dX4_isTold_76 (by decide) ?_
          refine lv_goto (pc := 77) (tgt := 81) hx hb dX4_isTold_77 (by decide) ?_
          exact h d hd p e s m args below meth c hcx H locs _ hW hS (lv_sub hl [1, 2, 3, 5, 0] rfl)
set_option maxHeartbeats 4000000 in
set_option maxRecDepth 100000 in
theorem mb_isTold_81 {E : mj_E} {σ : mj_S} {x1 : Int32} {x2 : Int32} {x4 : Int32} {x5 : Int32} {t0 : Int32} {P : Int32 → mj_S → Prop} (h : ms_numberOf E σ x4 x2 (fun r1 σ2 => (vp_in x5 100 ∧ mg_isTold_26 E (mj_sA σ2 38 x5.toNatClampNeg r1) x1 x2 t0 (x4 + (1 : Int32)) P))) : mg_isTold_81 E σ x1 x2 x4 x5 t0 P := by
  intro d hd p e s m args below meth c hcx H locs ls hW hS hl
  have hx := hcx.1
  have hb := hcx.2.1
  have hown := hcx.2.2.2.2.2.1
  have hts := hcx.2.2.2.2.2.2.1
  refine lv_istore_n (pc := 81) (lv' := [(3, .int t0), (0, .ref (mj_o E)), (1, .int x1), (2, .int x2), (4, .int x4), (5, .int x5)]) hx hb dX4_isTold_81 rfl hl (by decide) rfl (fun ls hl => ?_)
  refine lv_aload_n (pc := 82) hx hb dX4_isTold_82 rfl (lv_at hl 1 rfl) ?_
  refine mj_geta (pc := 83) hcx hW 38 (by decide) rfl q1293 dX4_isTold_83 ?_
  refine lv_iload (pc := 86) hx hb dX4_isTold_86 (lv_at hl 5 rfl) ?_
  refine lv_aload_n (pc := 88) hx hb dX4_isTold_88 rfl (lv_at hl 1 rfl) ?_
  refine lv_iload (pc := 89) hx hb dX4_isTold_89 (lv_at hl 4 rfl) ?_
  refine lv_iload_n (pc := 91) hx hb dX4_isTold_91 rfl (lv_at hl 3 rfl) ?_
  refine mj_ci (pc := 92) (mj_runV hcx hW [.int x4, .int x2] h (Nat.le_trans (by decide) hd) (lw_V q1705 q1707 qs102 q125 q1708) yd_numberOf (by decide) rfl rfl (Nat.le_of_ble_eq_true rfl) hl.1 dX4_isTold_92) hS (fun r1 σ2 h H locs hW hS => ?_)
  obtain ⟨g3, h⟩ := h
  refine mj_ast (pc := 95) hcx hW hS 38 rfl rfl g3 dX4_isTold_95 (fun H locs hW hS => ?_)
  refine lv_iinc (pc := 96) (v := (x4 + (1 : Int32))) (lv' := [(4, .int (x4 + (1 : Int32))), (3, .int t0), (0, .ref (mj_o E)), (1, .int x1), (2, .int x2), (5, .int x5)]) hx hb dX4_isTold_96 hl (k := 4) rfl rfl (by decide) rfl (fun ls hl => ?_)
  refine lv_goto (pc := 99) (tgt := 26) hx hb dX4_isTold_99 (by decide) ?_
  exact h d hd p e s m args below meth c hcx H locs _ hW hS (lv_sub hl [2, 3, 4, 1, 0] rfl)
set_option maxHeartbeats 4000000 in
set_option maxRecDepth 100000 in
theorem mb_isTold {E : mj_E} {σ : mj_S} {x1 : Int32} {x2 : Int32} {P : Int32 → mj_S → Prop} (hE : mj_ok E) (h : mg_isTold_2 E σ x1 x2 (0 : Int32) P) : ms_isTold E σ x1 x2 P :=
  mj_enter (k := 1) (lv := [(0, .ref (mj_o E)), (1, .int x1), (2, .int x2)]) hE rfl (Nat.le_of_ble_eq_true rfl) rfl (by
    intro d hd p e s m args below meth c hcx H locs ls hW hS hl
    have hx := hcx.1
    have hb := hcx.2.1
    have hown := hcx.2.2.2.2.2.1
    have hts := hcx.2.2.2.2.2.2.1
    refine lv_iconst (pc := 0) (v := (0 : Int32)) hx hb dX4_isTold_0 (by decide) ?_
    refine lv_istore_n (pc := 1) (lv' := [(3, .int (0 : Int32)), (0, .ref (mj_o E)), (1, .int x1), (2, .int x2)]) hx hb dX4_isTold_1 rfl hl (by decide) rfl (fun ls hl => ?_)
    exact h d hd p e s m args below meth c hcx H locs _ hW hS (lv_sub hl [1, 2, 3, 0] rfl))
/-! isUsed -/
set_option maxHeartbeats 4000000 in
set_option maxRecDepth 100000 in
theorem mb_isUsed {E : mj_E} {σ : mj_S} {x1 : Int32} {P : Int32 → mj_S → Prop} (hE : mj_ok E) (h : (vp_in (0 : Int32) 331 ∧ ms_has E σ (mj_A σ 13 (0 : Int32).toNatClampNeg) x1 (fun r2 σ3 => (narrow .boolean (.int r2) = .int r2 ∧ P r2 σ3)))) : ms_isUsed E σ x1 P :=
  mj_enter (k := 1) (lv := [(0, .ref (mj_o E)), (1, .int x1)]) hE rfl (Nat.le_of_ble_eq_true rfl) rfl (by
    intro d hd p e s m args below meth c hcx H locs ls hW hS hl
    have hx := hcx.1
    have hb := hcx.2.1
    have hown := hcx.2.2.2.2.2.1
    have hts := hcx.2.2.2.2.2.2.1
    refine lv_aload_n (pc := 0) hx hb dX4_isUsed_0 rfl (lv_at hl 0 rfl) ?_
    refine mj_geta (pc := 1) hcx hW 13 (by decide) rfl q1268 dX4_isUsed_1 ?_
    refine lv_iconst (pc := 4) (v := (0 : Int32)) hx hb dX4_isUsed_4 (by decide) ?_
    obtain ⟨g1, h⟩ := h
    refine mj_ald (pc := 5) hcx hW 13 rfl rfl g1 dX4_isUsed_5 ?_
    refine lv_iload_n (pc := 6) hx hb dX4_isUsed_6 rfl (lv_at hl 1 rfl) ?_
    refine mj_ci (pc := 7) (mj_runS hcx hW [.int (mj_A σ 13 (0 : Int32).toNatClampNeg), .int x1] h (Nat.le_trans (by decide) hd) (lw_S q1440 q1441 q125 q1442) yd_has.2 (by decide) rfl rfl (Nat.le_of_ble_eq_true rfl) hl.1 dX4_isUsed_7) hS (fun r2 σ3 h H locs hW hS => ?_)
    obtain ⟨g4, h⟩ := h
    exact mj_reti (pc := 10) hcx hW hS g4 h dX4_isUsed_10)
/-! log -/
set_option maxHeartbeats 4000000 in
set_option maxRecDepth 100000 in
theorem mb_log {E : mj_E} {σ : mj_S} {x1 : Int32} {x2 : Int32} {P : Int32 → mj_S → Prop} (hE : mj_ok E) (h : (vp_in (150 : Int32) 331 ∧ ms_in E σ x1 (0 : Int32) ((mj_A σ 13 (150 : Int32).toNatClampNeg) - (1 : Int32)) (fun r2 σ3 => ((r2 = 0 → P (-1000000 : Int32) σ3) ∧ (¬ r2 = 0 → ms_in E σ3 x2 (0 : Int32) (2 : Int32) (fun r5 σ6 => ((r5 = 0 → P (-1000000 : Int32) σ6) ∧ (¬ r5 = 0 → (vp_in (150 : Int32) 331 ∧ (vp_in (((151 : Int32) + ((3 : Int32) * (((mj_A σ6 13 (150 : Int32).toNatClampNeg) - (1 : Int32)) - x1))) + x2) 331 ∧ P (mj_A σ6 13 (((151 : Int32) + ((3 : Int32) * (((mj_A σ6 13 (150 : Int32).toNatClampNeg) - (1 : Int32)) - x1))) + x2).toNatClampNeg) σ6)))))))))) : ms_log E σ x1 x2 P :=
  mj_enter (k := 1) (lv := [(0, .ref (mj_o E)), (1, .int x1), (2, .int x2)]) hE rfl (Nat.le_of_ble_eq_true rfl) rfl (by
    intro d hd p e s m args below meth c hcx H locs ls hW hS hl
    have hx := hcx.1
    have hb := hcx.2.1
    have hown := hcx.2.2.2.2.2.1
    have hts := hcx.2.2.2.2.2.2.1
    refine lv_iload_n (pc := 0) hx hb dX4_log_0 rfl (lv_at hl 1 rfl) ?_
    refine lv_iconst (pc := 1) (v := (0 : Int32)) hx hb dX4_log_1 (by decide) ?_
    refine lv_aload_n (pc := 2) hx hb dX4_log_2 rfl (lv_at hl 0 rfl) ?_
    refine mj_geta (pc := 3) hcx hW 13 (by decide) rfl q1268 dX4_log_3 ?_
    refine lv_sipush (pc := 6) (v := (150 : Int32)) hx hb dX4_log_6 (by decide) ?_
    obtain ⟨g1, h⟩ := h
    refine mj_ald (pc := 9) hcx hW 13 rfl rfl g1 dX4_log_9 ?_
    refine lv_iconst (pc := 10) (v := (1 : Int32)) hx hb dX4_log_10 (by decide) ?_
    refine lv_isub (pc := 11) hx hb dX4_log_11 ?_
    refine mj_ci (pc := 12) (mj_runS hcx hW [.int x1, .int (0 : Int32), .int ((mj_A σ 13 (150 : Int32).toNatClampNeg) - (1 : Int32))] h (Nat.le_trans (by decide) hd) (lw_S q1401 q1402 q125 q1403) yd_in.2 (by decide) rfl rfl (Nat.le_of_ble_eq_true rfl) hl.1 dX4_log_12) hS (fun r2 σ3 h H locs hW hS => ?_)
    refine lv_if_eq (pc := 15) (tgt := 55) hx hb dX4_log_15 (by decide) (fun c4 => ?_) (fun c4 => ?_)
    · have h := h.1 c4
      refine lv_ldcw (pc := 55) (v := (-1000000 : Int32)) hx hb hown (hts _ q1676) dX4_log_55 ?_
      exact mj_reti (pc := 58) hcx hW hS rfl h dX4_log_58
    · have h := h.2 c4
      refine lv_iload_n (pc := 18) hx hb dX4_log_18 rfl (lv_at hl 2 rfl) ?_
      refine lv_iconst (pc := 19) (v := (0 : Int32)) hx hb dX4_log_19 (by decide) ?_
      refine lv_iconst (pc := 20) (v := (2 : Int32)) hx hb dX4_log_20 (by decide) ?_
      refine mj_ci (pc := 21) (mj_runS hcx hW [.int x2, .int (0 : Int32), .int (2 : Int32)] h (Nat.le_trans (by decide) hd) (lw_S q1401 q1402 q125 q1403) yd_in.2 (by decide) rfl rfl (Nat.le_of_ble_eq_true rfl) hl.1 dX4_log_21) hS (fun r5 σ6 h H locs hW hS => ?_)
      refine lv_if_eq (pc := 24) (tgt := 55) hx hb dX4_log_24 (by decide) (fun c7 => ?_) (fun c7 => ?_)
      · have h := h.1 c7
        refine lv_ldcw (pc := 55) (v := (-1000000 : Int32)) hx hb hown (hts _ q1676) dX4_log_55 ?_
        exact mj_reti (pc := 58) hcx hW hS rfl h dX4_log_58
      · have h := h.2 c7
        refine lv_aload_n (pc := 27) hx hb dX4_log_27 rfl (lv_at hl 0 rfl) ?_
        refine mj_geta (pc := 28) hcx hW 13 (by decide) rfl q1268 dX4_log_28 ?_
        refine lv_sipush (pc := 31) (v := (151 : Int32)) hx hb dX4_log_31 (by decide) ?_
        refine lv_iconst (pc := 34) (v := (3 : Int32)) hx hb dX4_log_34 (by decide) ?_
        refine lv_aload_n (pc := 35) hx hb dX4_log_35 rfl (lv_at hl 0 rfl) ?_
        refine mj_geta (pc := 36) hcx hW 13 (by decide) rfl q1268 dX4_log_36 ?_
        refine lv_sipush (pc := 39) (v := (150 : Int32)) hx hb dX4_log_39 (by decide) ?_
        obtain ⟨g8, h⟩ := h
        refine mj_ald (pc := 42) hcx hW 13 rfl rfl g8 dX4_log_42 ?_
        refine lv_iconst (pc := 43) (v := (1 : Int32)) hx hb dX4_log_43 (by decide) ?_
        refine lv_isub (pc := 44) hx hb dX4_log_44 ?_
        refine lv_iload_n (pc := 45) hx hb dX4_log_45 rfl (lv_at hl 1 rfl) ?_
        refine lv_isub (pc := 46) hx hb dX4_log_46 ?_
        refine lv_imul (pc := 47) hx hb dX4_log_47 ?_
        refine lv_iadd (pc := 48) hx hb dX4_log_48 ?_
        refine lv_iload_n (pc := 49) hx hb dX4_log_49 rfl (lv_at hl 2 rfl) ?_
        refine lv_iadd (pc := 50) hx hb dX4_log_50 ?_
        obtain ⟨g9, h⟩ := h
        refine mj_ald (pc := 51) hcx hW 13 rfl rfl g9 dX4_log_51 ?_
        refine lv_goto (pc := 52) (tgt := 58) hx hb dX4_log_52 (by decide) ?_
        exact mj_reti (pc := 58) hcx hW hS rfl h dX4_log_58)
/-! meanOf -/
set_option maxHeartbeats 4000000 in
set_option maxRecDepth 100000 in
theorem mb_meanOf_5 {E : mj_E} {σ : mj_S} {x1 : Int32} {x2 : Int64} {x4 : Int32} {P : UInt64 → mj_S → Prop} (h : (((mj_F σ 26) ≤ x4 → (vf_n64 (FP.ddiv (FP.l2d x2) (FP.i2d (mj_F σ 26))) ∧ P (FP.ddiv (FP.l2d x2) (FP.i2d (mj_F σ 26))) σ)) ∧ (¬ (mj_F σ 26) ≤ x4 → ms_numberOf E σ x4 x1 (fun r3 σ4 => mg_meanOf_5 E σ4 x1 (x2 + (r3).toInt64) (x4 + (1 : Int32)) P)))) : mg_meanOf_5 E σ x1 x2 x4 P := by
  intro d hd p e s m args below meth c hcx H locs ls hW hS hl
  have hx := hcx.1
  have hb := hcx.2.1
  have hown := hcx.2.2.2.2.2.1
  have hts := hcx.2.2.2.2.2.2.1
  refine lv_iload (pc := 5) hx hb dX4_meanOf_5 (lv_at hl 3 rfl) ?_
  refine lv_aload_n (pc := 7) hx hb dX4_meanOf_7 rfl (lv_at hl 0 rfl) ?_
  refine mj_geti (pc := 8) hcx hW 26 (by decide) rfl q1281 dX4_meanOf_8 ?_
  refine lv_icmp_ge (pc := 11) (tgt := 31) hx hb dX4_meanOf_11 (by decide) (fun c1 => ?_) (fun c1 => ?_)
  · have h := h.1 c1
    refine lv_lload_n (pc := 31) hx hb dX4_meanOf_31 rfl (lv_at hl 2 rfl) ?_
    refine lv_l2d (pc := 32) hx hb dX4_meanOf_32 ?_
    refine lv_aload_n (pc := 33) hx hb dX4_meanOf_33 rfl (lv_at hl 0 rfl) ?_
    refine mj_geti (pc := 34) hcx hW 26 (by decide) rfl q1281 dX4_meanOf_34 ?_
    refine lv_i2d (pc := 37) hx hb dX4_meanOf_37 ?_
    obtain ⟨g2, h⟩ := h
    refine lv_ddiv (pc := 38) hx hb dX4_meanOf_38 g2 ?_
    exact mj_retd (pc := 39) hcx hW hS h dX4_meanOf_39
  · have h := h.2 c1
    refine lv_lload_n (pc := 14) hx hb dX4_meanOf_14 rfl (lv_at hl 2 rfl) ?_
    refine lv_aload_n (pc := 15) hx hb dX4_meanOf_15 rfl (lv_at hl 0 rfl) ?_
    refine lv_iload (pc := 16) hx hb dX4_meanOf_16 (lv_at hl 3 rfl) ?_
    refine lv_iload_n (pc := 18) hx hb dX4_meanOf_18 rfl (lv_at hl 1 rfl) ?_
    refine mj_ci (pc := 19) (mj_runV hcx hW [.int x4, .int x1] h (Nat.le_trans (by decide) hd) (lw_V q1705 q1707 qs102 q125 q1708) yd_numberOf (by decide) rfl rfl (Nat.le_of_ble_eq_true rfl) hl.1 dX4_meanOf_19) hS (fun r3 σ4 h H locs hW hS => ?_)
    refine lv_i2l (pc := 22) hx hb dX4_meanOf_22 rfl ?_
    refine lv_ladd (pc := 23) hx hb dX4_meanOf_23 ?_
    refine lv_lstore_n (pc := 24) (lv' := [(2, .long (x2 + (r3).toInt64)), (0, .ref (mj_o E)), (1, .int x1), (4, .int x4)]) hx hb dX4_meanOf_24 rfl hl (by decide) rfl (fun ls hl => ?_)
    refine lv_iinc (pc := 25) (v := (x4 + (1 : Int32))) (lv' := [(4, .int (x4 + (1 : Int32))), (2, .long (x2 + (r3).toInt64)), (0, .ref (mj_o E)), (1, .int x1)]) hx hb dX4_meanOf_25 hl (k := 3) rfl rfl (by decide) rfl (fun ls hl => ?_)
    refine lv_goto (pc := 28) (tgt := 5) hx hb dX4_meanOf_28 (by decide) ?_
    exact h d hd p e s m args below meth c hcx H locs _ hW hS (lv_sub hl [2, 3, 1, 0] rfl)
set_option maxHeartbeats 4000000 in
set_option maxRecDepth 100000 in
theorem mb_meanOf {E : mj_E} {σ : mj_S} {x1 : Int32} {P : UInt64 → mj_S → Prop} (hE : mj_ok E) (h : mg_meanOf_5 E σ x1 (0 : Int64) (0 : Int32) P) : ms_meanOf E σ x1 P :=
  mj_enter (k := 1) (lv := [(0, .ref (mj_o E)), (1, .int x1)]) hE rfl (Nat.le_of_ble_eq_true rfl) rfl (by
    intro d hd p e s m args below meth c hcx H locs ls hW hS hl
    have hx := hcx.1
    have hb := hcx.2.1
    have hown := hcx.2.2.2.2.2.1
    have hts := hcx.2.2.2.2.2.2.1
    refine lv_lconst (pc := 0) (v := (0 : Int64)) hx hb dX4_meanOf_0 (by decide) ?_
    refine lv_lstore_n (pc := 1) (lv' := [(2, .long (0 : Int64)), (0, .ref (mj_o E)), (1, .int x1)]) hx hb dX4_meanOf_1 rfl hl (by decide) rfl (fun ls hl => ?_)
    refine lv_iconst (pc := 2) (v := (0 : Int32)) hx hb dX4_meanOf_2 (by decide) ?_
    refine lv_istore (pc := 3) (lv' := [(4, .int (0 : Int32)), (2, .long (0 : Int64)), (0, .ref (mj_o E)), (1, .int x1)]) hx hb dX4_meanOf_3 hl (by decide) rfl (fun ls hl => ?_)
    exact h d hd p e s m args below meth c hcx H locs _ hW hS (lv_sub hl [2, 3, 1, 0] rfl))
/-! rowsOfAll -/
set_option maxHeartbeats 4000000 in
set_option maxRecDepth 100000 in
theorem mb_rowsOfAll_4 {E : mj_E} {σ : mj_S} {x1 : Int32} {x2 : Int32} {P : Int32 → mj_S → Prop} (h : (((mj_F σ 17) ≤ x2 → P x1 σ) ∧ (¬ (mj_F σ 17) ≤ x2 → ms_many E σ x2 (fun r2 σ3 => mg_rowsOfAll_4 E σ3 (x1 + r2) (x2 + (1 : Int32)) P)))) : mg_rowsOfAll_4 E σ x1 x2 P := by
  intro d hd p e s m args below meth c hcx H locs ls hW hS hl
  have hx := hcx.1
  have hb := hcx.2.1
  have hown := hcx.2.2.2.2.2.1
  have hts := hcx.2.2.2.2.2.2.1
  refine lv_iload_n (pc := 4) hx hb dX4_rowsOfAll_4 rfl (lv_at hl 2 rfl) ?_
  refine lv_aload_n (pc := 5) hx hb dX4_rowsOfAll_5 rfl (lv_at hl 0 rfl) ?_
  refine mj_geti (pc := 6) hcx hW 17 (by decide) rfl q1272 dX4_rowsOfAll_6 ?_
  refine lv_icmp_ge (pc := 9) (tgt := 26) hx hb dX4_rowsOfAll_9 (by decide) (fun c1 => ?_) (fun c1 => ?_)
  · have h := h.1 c1
    refine lv_iload_n (pc := 26) hx hb dX4_rowsOfAll_26 rfl (lv_at hl 1 rfl) ?_
    exact mj_reti (pc := 27) hcx hW hS rfl h dX4_rowsOfAll_27
  · have h := h.2 c1
    refine lv_iload_n (pc := 12) hx hb dX4_rowsOfAll_12 rfl (lv_at hl 1 rfl) ?_
    refine lv_aload_n (pc := 13) hx hb dX4_rowsOfAll_13 rfl (lv_at hl 0 rfl) ?_
    refine lv_iload_n (pc := 14) hx hb dX4_rowsOfAll_14 rfl (lv_at hl 2 rfl) ?_
    refine mj_ci (pc := 15) (mj_runV hcx hW [.int x2] h (Nat.le_trans (by decide) hd) (lw_V q1490 q1492 qs63 q125 q1493) yd_many (by decide) rfl rfl (Nat.le_of_ble_eq_true rfl) hl.1 dX4_rowsOfAll_15) hS (fun r2 σ3 h H locs hW hS => ?_)
    refine lv_iadd (pc := 18) hx hb dX4_rowsOfAll_18 ?_
    refine lv_istore_n (pc := 19) (lv' := [(1, .int (x1 + r2)), (0, .ref (mj_o E)), (2, .int x2)]) hx hb dX4_rowsOfAll_19 rfl hl (by decide) rfl (fun ls hl => ?_)
    refine lv_iinc (pc := 20) (v := (x2 + (1 : Int32))) (lv' := [(2, .int (x2 + (1 : Int32))), (1, .int (x1 + r2)), (0, .ref (mj_o E))]) hx hb dX4_rowsOfAll_20 hl (k := 2) rfl rfl (by decide) rfl (fun ls hl => ?_)
    refine lv_goto (pc := 23) (tgt := 4) hx hb dX4_rowsOfAll_23 (by decide) ?_
    exact h d hd p e s m args below meth c hcx H locs _ hW hS (lv_sub hl [2, 1, 0] rfl)
set_option maxHeartbeats 4000000 in
set_option maxRecDepth 100000 in
theorem mb_rowsOfAll {E : mj_E} {σ : mj_S} {P : Int32 → mj_S → Prop} (hE : mj_ok E) (h : mg_rowsOfAll_4 E σ (0 : Int32) (0 : Int32) P) : ms_rowsOfAll E σ P :=
  mj_enter (k := 1) (lv := [(0, .ref (mj_o E))]) hE rfl (Nat.le_of_ble_eq_true rfl) rfl (by
    intro d hd p e s m args below meth c hcx H locs ls hW hS hl
    have hx := hcx.1
    have hb := hcx.2.1
    have hown := hcx.2.2.2.2.2.1
    have hts := hcx.2.2.2.2.2.2.1
    refine lv_iconst (pc := 0) (v := (0 : Int32)) hx hb dX4_rowsOfAll_0 (by decide) ?_
    refine lv_istore_n (pc := 1) (lv' := [(1, .int (0 : Int32)), (0, .ref (mj_o E))]) hx hb dX4_rowsOfAll_1 rfl hl (by decide) rfl (fun ls hl => ?_)
    refine lv_iconst (pc := 2) (v := (0 : Int32)) hx hb dX4_rowsOfAll_2 (by decide) ?_
    refine lv_istore_n (pc := 3) (lv' := [(2, .int (0 : Int32)), (1, .int (0 : Int32)), (0, .ref (mj_o E))]) hx hb dX4_rowsOfAll_3 rfl hl (by decide) rfl (fun ls hl => ?_)
    exact h d hd p e s m args below meth c hcx H locs _ hW hS (lv_sub hl [2, 1, 0] rfl))
/-! status -/
set_option maxHeartbeats 4000000 in
set_option maxRecDepth 100000 in
theorem mb_status {E : mj_E} {σ : mj_S} {x1 : Int32} {P : Int32 → mj_S → Prop} (hE : mj_ok E) (h : ms_in E σ x1 (0 : Int32) (3 : Int32) (fun r1 σ2 => ((r1 = 0 → P (-1 : Int32) σ2) ∧ (¬ r1 = 0 → (vp_in x1 4 ∧ P (mj_A σ2 14 x1.toNatClampNeg) σ2))))) : ms_status E σ x1 P :=
  mj_enter (k := 1) (lv := [(0, .ref (mj_o E)), (1, .int x1)]) hE rfl (Nat.le_of_ble_eq_true rfl) rfl (by
    intro d hd p e s m args below meth c hcx H locs ls hW hS hl
    have hx := hcx.1
    have hb := hcx.2.1
    have hown := hcx.2.2.2.2.2.1
    have hts := hcx.2.2.2.2.2.2.1
    refine lv_iload_n (pc := 0) hx hb dX4_status_0 rfl (lv_at hl 1 rfl) ?_
    refine lv_iconst (pc := 1) (v := (0 : Int32)) hx hb dX4_status_1 (by decide) ?_
    refine lv_iconst (pc := 2) (v := (3 : Int32)) hx hb dX4_status_2 (by decide) ?_
    refine mj_ci (pc := 3) (mj_runS hcx hW [.int x1, .int (0 : Int32), .int (3 : Int32)] h (Nat.le_trans (by decide) hd) (lw_S q1401 q1402 q125 q1403) yd_in.2 (by decide) rfl rfl (Nat.le_of_ble_eq_true rfl) hl.1 dX4_status_3) hS (fun r1 σ2 h H locs hW hS => ?_)
    refine lv_if_eq (pc := 6) (tgt := 18) hx hb dX4_status_6 (by decide) (fun c3 => ?_) (fun c3 => ?_)
    · have h := h.1 c3
      refine lv_iconst (pc := 18) (v := (-1 : Int32)) hx hb dX4_status_18 (by decide) ?_
      exact mj_reti (pc := 19) hcx hW hS rfl h dX4_status_19
    · have h := h.2 c3
      refine lv_aload_n (pc := 9) hx hb dX4_status_9 rfl (lv_at hl 0 rfl) ?_
      refine mj_geta (pc := 10) hcx hW 14 (by decide) rfl q1269 dX4_status_10 ?_
      refine lv_iload_n (pc := 13) hx hb dX4_status_13 rfl (lv_at hl 1 rfl) ?_
      obtain ⟨g4, h⟩ := h
      refine mj_ald (pc := 14) hcx hW 14 rfl rfl g4 dX4_status_14 ?_
      refine lv_goto (pc := 15) (tgt := 19) hx hb dX4_status_15 (by decide) ?_
      exact mj_reti (pc := 19) hcx hW hS rfl h dX4_status_19)
/-! sumOfRows -/
set_option maxHeartbeats 4000000 in
set_option maxRecDepth 100000 in
theorem mb_sumOfRows_4 {E : mj_E} {σ : mj_S} {x1 : Int32} {x2 : Int32} {P : Int32 → mj_S → Prop} (h : (((mj_F σ 17) ≤ x2 → P x1 σ) ∧ (¬ (mj_F σ 17) ≤ x2 → mg_sumOfRows_14 E σ x1 x2 (0 : Int32) P))) : mg_sumOfRows_4 E σ x1 x2 P := by
  intro d hd p e s m args below meth c hcx H locs ls hW hS hl
  have hx := hcx.1
  have hb := hcx.2.1
  have hown := hcx.2.2.2.2.2.1
  have hts := hcx.2.2.2.2.2.2.1
  refine lv_iload_n (pc := 4) hx hb dX4_sumOfRows_4 rfl (lv_at hl 2 rfl) ?_
  refine lv_aload_n (pc := 5) hx hb dX4_sumOfRows_5 rfl (lv_at hl 0 rfl) ?_
  refine mj_geti (pc := 6) hcx hW 17 (by decide) rfl q1272 dX4_sumOfRows_6 ?_
  refine lv_icmp_ge (pc := 9) (tgt := 71) hx hb dX4_sumOfRows_9 (by decide) (fun c1 => ?_) (fun c1 => ?_)
  · have h := h.1 c1
    refine lv_iload_n (pc := 71) hx hb dX4_sumOfRows_71 rfl (lv_at hl 1 rfl) ?_
    exact mj_reti (pc := 72) hcx hW hS rfl h dX4_sumOfRows_72
  · have h := h.2 c1
    refine lv_iconst (pc := 12) (v := (0 : Int32)) hx hb dX4_sumOfRows_12 (by decide) ?_
    refine lv_istore_n (pc := 13) (lv' := [(3, .int (0 : Int32)), (0, .ref (mj_o E)), (1, .int x1), (2, .int x2)]) hx hb dX4_sumOfRows_13 rfl hl (by decide) rfl (fun ls hl => ?_)
    exact h d hd p e s m args below meth c hcx H locs _ hW hS (lv_sub hl [1, 2, 3, 0] rfl)
set_option maxHeartbeats 4000000 in
set_option maxRecDepth 100000 in
theorem mb_sumOfRows_14 {E : mj_E} {σ : mj_S} {x1 : Int32} {x2 : Int32} {x3 : Int32} {P : Int32 → mj_S → Prop} (h : ms_many E σ x2 (fun r1 σ2 => ((r1 ≤ x3 → mg_sumOfRows_4 E σ2 x1 (x2 + (1 : Int32)) P) ∧ (¬ r1 ≤ x3 → mg_sumOfRows_26 E σ2 x1 x2 x3 (0 : Int32) P)))) : mg_sumOfRows_14 E σ x1 x2 x3 P := by
  intro d hd p e s m args below meth c hcx H locs ls hW hS hl
  have hx := hcx.1
  have hb := hcx.2.1
  have hown := hcx.2.2.2.2.2.1
  have hts := hcx.2.2.2.2.2.2.1
  refine lv_iload_n (pc := 14) hx hb dX4_sumOfRows_14 rfl (lv_at hl 3 rfl) ?_
  refine lv_aload_n (pc := 15) hx hb dX4_sumOfRows_15 rfl (lv_at hl 0 rfl) ?_
  refine lv_iload_n (pc := 16) hx hb dX4_sumOfRows_16 rfl (lv_at hl 2 rfl) ?_
  refine mj_ci (pc := 17) (mj_runV hcx hW [.int x2] h (Nat.le_trans (by decide) hd) (lw_V q1490 q1492 qs63 q125 q1493) yd_many (by decide) rfl rfl (Nat.le_of_ble_eq_true rfl) hl.1 dX4_sumOfRows_17) hS (fun r1 σ2 h H locs hW hS => ?_)
  refine lv_icmp_ge (pc := 20) (tgt := 65) hx hb dX4_sumOfRows_20 (by decide) (fun c3 => ?_) (fun c3 => ?_)
  · have h := h.1 c3
    refine lv_iinc (pc := 65) (v := (x2 + (1 : Int32))) (lv' := [(2, .int (x2 + (1 : Int32))), (0, .ref (mj_o E)), (1, .int x1), (3, .int x3)]) hx hb dX4_sumOfRows_65 hl (k := 2) rfl rfl (by decide) rfl (fun ls hl => ?_)
    refine lv_goto (pc := 68) (tgt := 4) hx hb dX4_sumOfRows_68 (by decide) ?_
    exact h d hd p e s m args below meth c hcx H locs _ hW hS (lv_sub hl [1, 2, 0] rfl)
  · have h := h.2 c3
    refine lv_iconst (pc := 23) (v := (0 : Int32)) hx hb dX4_sumOfRows_23 (by decide) ?_
    refine lv_istore (pc := 24) (lv' := [(4, .int (0 : Int32)), (0, .ref (mj_o E)), (1, .int x1), (2, .int x2), (3, .int x3)]) hx hb dX4_sumOfRows_24 hl (by decide) rfl (fun ls hl => ?_)
    exact h d hd p e s m args below meth c hcx H locs _ hW hS (lv_sub hl [1, 2, 3, 4, 0] rfl)
set_option maxHeartbeats 4000000 in
set_option maxRecDepth 100000 in
theorem mb_sumOfRows_26 {E : mj_E} {σ : mj_S} {x1 : Int32} {x2 : Int32} {x3 : Int32} {x4 : Int32} {P : Int32 → mj_S → Prop} (h : (vp_in x2 4 ∧ (((mj_A σ 15 x2.toNatClampNeg) ≤ x4 → mg_sumOfRows_14 E σ x1 x2 (x3 + (1 : Int32)) P) ∧ (¬ (mj_A σ 15 x2.toNatClampNeg) ≤ x4 → ms_rowAt E σ x2 x3 (fun r3 σ4 => (vp_in (r3 + x4) 331 ∧ mg_sumOfRows_26 E σ4 (x1 + (mj_A σ4 13 (r3 + x4).toNatClampNeg)) x2 x3 (x4 + (1 : Int32)) P)))))) : mg_sumOfRows_26 E σ x1 x2 x3 x4 P := by
  intro d hd p e s m args below meth c hcx H locs ls hW hS hl
  have hx := hcx.1
  have hb := hcx.2.1
  have hown := hcx.2.2.2.2.2.1
  have hts := hcx.2.2.2.2.2.2.1
  refine lv_iload (pc := 26) hx hb dX4_sumOfRows_26 (lv_at hl 4 rfl) ?_
  refine lv_aload_n (pc := 28) hx hb dX4_sumOfRows_28 rfl (lv_at hl 0 rfl) ?_
  refine mj_geta (pc := 29) hcx hW 15 (by decide) rfl q1270 dX4_sumOfRows_29 ?_
  refine lv_iload_n (pc := 32) hx hb dX4_sumOfRows_32 rfl (lv_at hl 2 rfl) ?_
  obtain ⟨g1, h⟩ := h
  refine mj_ald (pc := 33) hcx hW 15 rfl rfl g1 dX4_sumOfRows_33 ?_
  refine lv_icmp_ge (pc := 34) (tgt := 59) hx hb dX4_sumOfRows_34 (by decide) (fun c2 => ?_) (fun c2 => ?_)
  · have h := h.1 c2
    refine lv_iinc (pc := 59) (v := (x3 + (1 : Int32))) (lv' := [(3, .int (x3 + (1 : Int32))), (0, .ref (mj_o E)), (1, .int x1), (2, .int x2), (4, .int x4)]) hx hb dX4_sumOfRows_59 hl (k := 3) rfl rfl (by decide) rfl (fun ls hl => ?_)
    refine lv_goto (pc := 62) (tgt := 14) hx hb dX4_sumOfRows_62 (by decide) ?_
    exact h d hd p e s m args below meth c hcx H locs _ hW hS (lv_sub hl [1, 2, 3, 0] rfl)
  · have h := h.2 c2
    refine lv_iload_n (pc := 37) hx hb dX4_sumOfRows_37 rfl (lv_at hl 1 rfl) ?_
    refine lv_aload_n (pc := 38) hx hb dX4_sumOfRows_38 rfl (lv_at hl 0 rfl) ?_
    refine mj_geta (pc := 39) hcx hW 13 (by decide) rfl q1268 dX4_sumOfRows_39 ?_
    refine lv_iload_n (pc := 42) hx hb dX4_sumOfRows_42 rfl (lv_at hl 2 rfl) ?_
    refine lv_iload_n (pc := 43) hx hb dX4_sumOfRows_43 rfl (lv_at hl 3 rfl) ?_
    refine mj_ci (pc := 44) (mj_runS hcx hW [.int x2, .int x3] h (Nat.le_trans (by decide) hd) (lw_S q1498 q1499 q125 q1500) yd_rowAt.2 (by decide) rfl rfl (Nat.le_of_ble_eq_true rfl) hl.1 dX4_sumOfRows_44) hS (fun r3 σ4 h H locs hW hS => ?_)
    refine lv_iload (pc := 47) hx hb dX4_sumOfRows_47 (lv_at hl 4 rfl) ?_
    refine lv_iadd (pc := 49) hx hb dX4_sumOfRows_49 ?_
    obtain ⟨g5, h⟩ := h
    refine mj_ald (pc := 50) hcx hW 13 rfl rfl g5 dX4_sumOfRows_50 ?_
    refine lv_iadd (pc := 51) hx hb dX4_sumOfRows_51 ?_
    refine lv_istore_n (pc := 52) (lv' := [(1, .int (x1 + (mj_A σ4 13 (r3 + x4).toNatClampNeg))), (0, .ref (mj_o E)), (2, .int x2), (3, .int x3), (4, .int x4)]) hx hb dX4_sumOfRows_52 rfl hl (by decide) rfl (fun ls hl => ?_)
    refine lv_iinc (pc := 53) (v := (x4 + (1 : Int32))) (lv' := [(4, .int (x4 + (1 : Int32))), (1, .int (x1 + (mj_A σ4 13 (r3 + x4).toNatClampNeg))), (0, .ref (mj_o E)), (2, .int x2), (3, .int x3)]) hx hb dX4_sumOfRows_53 hl (k := 4) rfl rfl (by decide) rfl (fun ls hl => ?_)
    refine lv_goto (pc := 56) (tgt := 26) hx hb dX4_sumOfRows_56 (by decide) ?_
    exact h d hd p e s m args below meth c hcx H locs _ hW hS (lv_sub hl [2, 1, 3, 4, 0] rfl)
set_option maxHeartbeats 4000000 in
set_option maxRecDepth 100000 in
theorem mb_sumOfRows {E : mj_E} {σ : mj_S} {P : Int32 → mj_S → Prop} (hE : mj_ok E) (h : mg_sumOfRows_4 E σ (0 : Int32) (0 : Int32) P) : ms_sumOfRows E σ P :=
  mj_enter (k := 1) (lv := [(0, .ref (mj_o E))]) hE rfl (Nat.le_of_ble_eq_true rfl) rfl (by
    intro d hd p e s m args below meth c hcx H locs ls hW hS hl
    have hx := hcx.1
    have hb := hcx.2.1
    have hown := hcx.2.2.2.2.2.1
    have hts := hcx.2.2.2.2.2.2.1
    refine lv_iconst (pc := 0) (v := (0 : Int32)) hx hb dX4_sumOfRows_0 (by decide) ?_
    refine lv_istore_n (pc := 1) (lv' := [(1, .int (0 : Int32)), (0, .ref (mj_o E))]) hx hb dX4_sumOfRows_1 rfl hl (by decide) rfl (fun ls hl => ?_)
    refine lv_iconst (pc := 2) (v := (0 : Int32)) hx hb dX4_sumOfRows_2 (by decide) ?_
    refine lv_istore_n (pc := 3) (lv' := [(2, .int (0 : Int32)), (1, .int (0 : Int32)), (0, .ref (mj_o E))]) hx hb dX4_sumOfRows_3 rfl hl (by decide) rfl (fun ls hl => ?_)
    exact h d hd p e s m args below meth c hcx H locs _ hW hS (lv_sub hl [2, 1, 0] rfl))
/-! asked -/
set_option maxHeartbeats 4000000 in
set_option maxRecDepth 100000 in
theorem mb_asked_4 {E : mj_E} {σ : mj_S} {x1 : Int32} {x2 : Int32} {P : Int32 → mj_S → Prop} (h : (((mj_F σ 17) ≤ x2 → P x1 σ) ∧ (¬ (mj_F σ 17) ≤ x2 → ms_isUsed E σ x2 (fun r2 σ3 => ((r2 = 0 → mg_asked_4 E σ3 (x1 ||| (0 : Int32)) (x2 + (1 : Int32)) P) ∧ (¬ r2 = 0 → ms_lettersOf E σ3 x2 (fun r5 σ6 => mg_asked_4 E σ6 (x1 ||| r5) (x2 + (1 : Int32)) P))))))) : mg_asked_4 E σ x1 x2 P := by
  intro d hd p e s m args below meth c hcx H locs ls hW hS hl
  have hx := hcx.1
  have hb := hcx.2.1
  have hown := hcx.2.2.2.2.2.1
  have hts := hcx.2.2.2.2.2.2.1
  refine lv_iload_n (pc := 4) hx hb dX4_asked_4 rfl (lv_at hl 2 rfl) ?_
  refine lv_aload_n (pc := 5) hx hb dX4_asked_5 rfl (lv_at hl 0 rfl) ?_
  refine mj_geti (pc := 6) hcx hW 17 (by decide) rfl q1272 dX4_asked_6 ?_
  refine lv_icmp_ge (pc := 9) (tgt := 38) hx hb dX4_asked_9 (by decide) (fun c1 => ?_) (fun c1 => ?_)
  · have h := h.1 c1
    refine lv_iload_n (pc := 38) hx hb dX4_asked_38 rfl (lv_at hl 1 rfl) ?_
    exact mj_reti (pc := 39) hcx hW hS rfl h dX4_asked_39
  · have h := h.2 c1
    refine lv_iload_n (pc := 12) hx hb dX4_asked_12 rfl (lv_at hl 1 rfl) ?_
    refine lv_aload_n (pc := 13) hx hb dX4_asked_13 rfl (lv_at hl 0 rfl) ?_
    refine lv_iload_n (pc := 14) hx hb dX4_asked_14 rfl (lv_at hl 2 rfl) ?_
    refine mj_ci (pc := 15) (mj_runV hcx hW [.int x2] h (Nat.le_trans (by decide) hd) (lw_V q1553 q1555 qs77 q125 q1556) yd_isUsed (by decide) rfl rfl (Nat.le_of_ble_eq_true rfl) hl.1 dX4_asked_15) hS (fun r2 σ3 h H locs hW hS => ?_)
    refine lv_if_eq (pc := 18) (tgt := 29) hx hb dX4_asked_18 (by decide) (fun c4 => ?_) (fun c4 => ?_)
    · have h := h.1 c4
      refine lv_iconst (pc := 29) (v := (0 : Int32)) hx hb dX4_asked_29 (by decide) ?_
      refine lv_ior (pc := 30) hx hb dX4_asked_30 ?_
      refine lv_istore_n (pc := 31) (lv' := [(1, .int (x1 ||| (0 : Int32))), (0, .ref (mj_o E)), (2, .int x2)]) hx hb dX4_asked_31 rfl hl (by decide) rfl (fun ls hl => ?_)
      refine lv_iinc (pc := 32) (v := (x2 + (1 : Int32))) (lv' := [(2, .int (x2 + (1 : Int32))), (1, .int (x1 ||| (0 : Int32))), (0, .ref (mj_o E))]) hx hb dX4_asked_32 hl (k := 2) rfl rfl (by decide) rfl (fun ls hl => ?_)
      refine lv_goto (pc := 35) (tgt := 4) hx hb dX4_asked_35 (by decide) ?_
      exact h d hd p e s m args below meth c hcx H locs _ hW hS (lv_sub hl [2, 1, 0] rfl)
    · have h := h.2 c4
      refine lv_aload_n (pc := 21) hx hb dX4_asked_21 rfl (lv_at hl 0 rfl) ?_
      refine lv_iload_n (pc := 22) hx hb dX4_asked_22 rfl (lv_at hl 2 rfl) ?_
      refine mj_ci (pc := 23) (mj_runV hcx hW [.int x2] h (Nat.le_trans (by decide) hd) (lw_V q1581 q1583 qs84 q125 q1584) yd_lettersOf (by decide) rfl rfl (Nat.le_of_ble_eq_true rfl) hl.1 dX4_asked_23) hS (fun r5 σ6 h H locs hW hS => ?_)
      refine lv_goto (pc := 26) (tgt := 30) hx hb dX4_asked_26 (by decide) ?_
      refine lv_ior (pc := 30) hx hb dX4_asked_30 ?_
      refine lv_istore_n (pc := 31) (lv' := [(1, .int (x1 ||| r5)), (0, .ref (mj_o E)), (2, .int x2)]) hx hb dX4_asked_31 rfl hl (by decide) rfl (fun ls hl => ?_)
      refine lv_iinc (pc := 32) (v := (x2 + (1 : Int32))) (lv' := [(2, .int (x2 + (1 : Int32))), (1, .int (x1 ||| r5)), (0, .ref (mj_o E))]) hx hb dX4_asked_32 hl (k := 2) rfl rfl (by decide) rfl (fun ls hl => ?_)
      refine lv_goto (pc := 35) (tgt := 4) hx hb dX4_asked_35 (by decide) ?_
      exact h d hd p e s m args below meth c hcx H locs _ hW hS (lv_sub hl [2, 1, 0] rfl)
set_option maxHeartbeats 4000000 in
set_option maxRecDepth 100000 in
theorem mb_asked {E : mj_E} {σ : mj_S} {P : Int32 → mj_S → Prop} (hE : mj_ok E) (h : mg_asked_4 E σ (0 : Int32) (0 : Int32) P) : ms_asked E σ P :=
  mj_enter (k := 2) (lv := [(0, .ref (mj_o E))]) hE rfl (Nat.le_of_ble_eq_true rfl) rfl (by
    intro d hd p e s m args below meth c hcx H locs ls hW hS hl
    have hx := hcx.1
    have hb := hcx.2.1
    have hown := hcx.2.2.2.2.2.1
    have hts := hcx.2.2.2.2.2.2.1
    refine lv_iconst (pc := 0) (v := (0 : Int32)) hx hb dX4_asked_0 (by decide) ?_
    refine lv_istore_n (pc := 1) (lv' := [(1, .int (0 : Int32)), (0, .ref (mj_o E))]) hx hb dX4_asked_1 rfl hl (by decide) rfl (fun ls hl => ?_)
    refine lv_iconst (pc := 2) (v := (0 : Int32)) hx hb dX4_asked_2 (by decide) ?_
    refine lv_istore_n (pc := 3) (lv' := [(2, .int (0 : Int32)), (1, .int (0 : Int32)), (0, .ref (mj_o E))]) hx hb dX4_asked_3 rfl hl (by decide) rfl (fun ls hl => ?_)
    exact h d hd p e s m args below meth c hcx H locs _ hW hS (lv_sub hl [2, 1, 0] rfl))
/-! cell -/
set_option maxHeartbeats 4000000 in
set_option maxRecDepth 100000 in
theorem mb_cell {E : mj_E} {σ : mj_S} {x1 : Int32} {x2 : Int32} {x3 : Int32} {P : Int32 → mj_S → Prop} (hE : mj_ok E) (h : ms_isTable E σ x1 (fun r1 σ2 => ((r1 = 0 → P (-1 : Int32) σ2) ∧ (¬ r1 = 0 → ms_many E σ2 x1 (fun r4 σ5 => ms_in E σ5 x2 (0 : Int32) (r4 - (1 : Int32)) (fun r6 σ7 => ((r6 = 0 → P (-1 : Int32) σ7) ∧ (¬ r6 = 0 → (vp_in x1 4 ∧ ms_in E σ7 x3 (0 : Int32) ((mj_A σ7 15 x1.toNatClampNeg) - (1 : Int32)) (fun r10 σ11 => ((r10 = 0 → P (-1 : Int32) σ11) ∧ (¬ r10 = 0 → ms_rowAt E σ11 x1 x2 (fun r13 σ14 => (vp_in (r13 + x3) 331 ∧ P (mj_A σ14 13 (r13 + x3).toNatClampNeg) σ14)))))))))))))) : ms_cell E σ x1 x2 x3 P :=
  mj_enter (k := 2) (lv := [(0, .ref (mj_o E)), (1, .int x1), (2, .int x2), (3, .int x3)]) hE rfl (Nat.le_of_ble_eq_true rfl) rfl (by
    intro d hd p e s m args below meth c hcx H locs ls hW hS hl
    have hx := hcx.1
    have hb := hcx.2.1
    have hown := hcx.2.2.2.2.2.1
    have hts := hcx.2.2.2.2.2.2.1
    refine lv_aload_n (pc := 0) hx hb dX4_cell_0 rfl (lv_at hl 0 rfl) ?_
    refine lv_iload_n (pc := 1) hx hb dX4_cell_1 rfl (lv_at hl 1 rfl) ?_
    refine mj_ci (pc := 2) (mj_runV hcx hW [.int x1] h (Nat.le_trans (by decide) hd) (lw_V q1521 q1523 qs69 q125 q1524) yd_isTable (by decide) rfl rfl (Nat.le_of_ble_eq_true rfl) hl.1 dX4_cell_2) hS (fun r1 σ2 h H locs hW hS => ?_)
    refine lv_if_eq (pc := 5) (tgt := 54) hx hb dX4_cell_5 (by decide) (fun c3 => ?_) (fun c3 => ?_)
    · have h := h.1 c3
      refine lv_iconst (pc := 54) (v := (-1 : Int32)) hx hb dX4_cell_54 (by decide) ?_
      exact mj_reti (pc := 55) hcx hW hS rfl h dX4_cell_55
    · have h := h.2 c3
      refine lv_iload_n (pc := 8) hx hb dX4_cell_8 rfl (lv_at hl 2 rfl) ?_
      refine lv_iconst (pc := 9) (v := (0 : Int32)) hx hb dX4_cell_9 (by decide) ?_
      refine lv_aload_n (pc := 10) hx hb dX4_cell_10 rfl (lv_at hl 0 rfl) ?_
      refine lv_iload_n (pc := 11) hx hb dX4_cell_11 rfl (lv_at hl 1 rfl) ?_
      refine mj_ci (pc := 12) (mj_runV hcx hW [.int x1] h (Nat.le_trans (by decide) hd) (lw_V q1490 q1492 qs63 q125 q1493) yd_many (by decide) rfl rfl (Nat.le_of_ble_eq_true rfl) hl.1 dX4_cell_12) hS (fun r4 σ5 h H locs hW hS => ?_)
      refine lv_iconst (pc := 15) (v := (1 : Int32)) hx hb dX4_cell_15 (by decide) ?_
      refine lv_isub (pc := 16) hx hb dX4_cell_16 ?_
      refine mj_ci (pc := 17) (mj_runS hcx hW [.int x2, .int (0 : Int32), .int (r4 - (1 : Int32))] h (Nat.le_trans (by decide) hd) (lw_S q1401 q1402 q125 q1403) yd_in.2 (by decide) rfl rfl (Nat.le_of_ble_eq_true rfl) hl.1 dX4_cell_17) hS (fun r6 σ7 h H locs hW hS => ?_)
      refine lv_if_eq (pc := 20) (tgt := 54) hx hb dX4_cell_20 (by decide) (fun c8 => ?_) (fun c8 => ?_)
      · have h := h.1 c8
        refine lv_iconst (pc := 54) (v := (-1 : Int32)) hx hb dX4_cell_54 (by decide) ?_
        exact mj_reti (pc := 55) hcx hW hS rfl h dX4_cell_55
      · have h := h.2 c8
        refine lv_iload_n (pc := 23) hx hb dX4_cell_23 rfl (lv_at hl 3 rfl) ?_
        refine lv_iconst (pc := 24) (v := (0 : Int32)) hx hb dX4_cell_24 (by decide) ?_
        refine lv_aload_n (pc := 25) hx hb dX4_cell_25 rfl (lv_at hl 0 rfl) ?_
        refine mj_geta (pc := 26) hcx hW 15 (by decide) rfl q1270 dX4_cell_26 ?_
        refine lv_iload_n (pc := 29) hx hb dX4_cell_29 rfl (lv_at hl 1 rfl) ?_
        obtain ⟨g9, h⟩ := h
        refine mj_ald (pc := 30) hcx hW 15 rfl rfl g9 dX4_cell_30 ?_
        refine lv_iconst (pc := 31) (v := (1 : Int32)) hx hb dX4_cell_31 (by decide) ?_
        refine lv_isub (pc := 32) hx hb dX4_cell_32 ?_
        refine mj_ci (pc := 33) (mj_runS hcx hW [.int x3, .int (0 : Int32), .int ((mj_A σ7 15 x1.toNatClampNeg) - (1 : Int32))] h (Nat.le_trans (by decide) hd) (lw_S q1401 q1402 q125 q1403) yd_in.2 (by decide) rfl rfl (Nat.le_of_ble_eq_true rfl) hl.1 dX4_cell_33) hS (fun r10 σ11 h H locs hW hS => ?_)
        refine lv_if_eq (pc := 36) (tgt := 54) hx hb dX4_cell_36 (by decide) (fun c12 => ?_) (fun c12 => ?_)
        · have h := h.1 c12
          refine lv_iconst (pc := 54) (v := (-1 : Int32)) hx hb dX4_cell_54 (by decide) ?_
          exact mj_reti (pc := 55) hcx hW hS rfl h dX4_cell_55
        · have h := h.2 c12
          refine lv_aload_n (pc := 39) hx hb dX4_cell_39 rfl (lv_at hl 0 rfl) ?_
          refine mj_geta (pc := 40) hcx hW 13 (by decide) rfl q1268 dX4_cell_40 ?_
          refine lv_iload_n (pc := 43) hx hb dX4_cell_43 rfl (lv_at hl 1 rfl) ?_
          refine lv_iload_n (pc := 44) hx hb dX4_cell_44 rfl (lv_at hl 2 rfl) ?_
          refine mj_ci (pc := 45) (mj_runS hcx hW [.int x1, .int x2] h (Nat.le_trans (by decide) hd) (lw_S q1498 q1499 q125 q1500) yd_rowAt.2 (by decide) rfl rfl (Nat.le_of_ble_eq_true rfl) hl.1 dX4_cell_45) hS (fun r13 σ14 h H locs hW hS => ?_)
          refine lv_iload_n (pc := 48) hx hb dX4_cell_48 rfl (lv_at hl 3 rfl) ?_
          refine lv_iadd (pc := 49) hx hb dX4_cell_49 ?_
          obtain ⟨g15, h⟩ := h
          refine mj_ald (pc := 50) hcx hW 13 rfl rfl g15 dX4_cell_50 ?_
          refine lv_goto (pc := 51) (tgt := 55) hx hb dX4_cell_51 (by decide) ?_
          exact mj_reti (pc := 55) hcx hW hS rfl h dX4_cell_55)
/-! countLess -/
set_option maxHeartbeats 4000000 in
set_option maxRecDepth 100000 in
theorem mb_countLess_3 {E : mj_E} {σ : mj_S} {x1 : Int32} {x2 : Int32} {x3 : Int32} {x4 : Int32} {x5 : Int32} {P : Int32 → mj_S → Prop} (h : ms_many E σ x1 (fun r1 σ2 => ((r1 ≤ x5 → P x5 σ2) ∧ (¬ r1 ≤ x5 → ms_compares E σ2 x1 x5 x2 x3 x4 (fun r4 σ5 => ((0 ≤ r4 → P x5 σ5) ∧ (¬ 0 ≤ r4 → mg_countLess_3 E σ5 x1 x2 x3 x4 (x5 + (1 : Int32)) P))))))) : mg_countLess_3 E σ x1 x2 x3 x4 x5 P := by
  intro d hd p e s m args below meth c hcx H locs ls hW hS hl
  have hx := hcx.1
  have hb := hcx.2.1
  have hown := hcx.2.2.2.2.2.1
  have hts := hcx.2.2.2.2.2.2.1
  refine lv_iload (pc := 3) hx hb dX4_countLess_3 (lv_at hl 5 rfl) ?_
  refine lv_aload_n (pc := 5) hx hb dX4_countLess_5 rfl (lv_at hl 0 rfl) ?_
  refine lv_iload_n (pc := 6) hx hb dX4_countLess_6 rfl (lv_at hl 1 rfl) ?_
  refine mj_ci (pc := 7) (mj_runV hcx hW [.int x1] h (Nat.le_trans (by decide) hd) (lw_V q1490 q1492 qs63 q125 q1493) yd_many (by decide) rfl rfl (Nat.le_of_ble_eq_true rfl) hl.1 dX4_countLess_7) hS (fun r1 σ2 h H locs hW hS => ?_)
  refine lv_icmp_ge (pc := 10) (tgt := 33) hx hb dX4_countLess_10 (by decide) (fun c3 => ?_) (fun c3 => ?_)
  · have h := h.1 c3
    refine lv_iload (pc := 33) hx hb dX4_countLess_33 (lv_at hl 5 rfl) ?_
    exact mj_reti (pc := 35) hcx hW hS rfl h dX4_countLess_35
  · have h := h.2 c3
    refine lv_aload_n (pc := 13) hx hb dX4_countLess_13 rfl (lv_at hl 0 rfl) ?_
    refine lv_iload_n (pc := 14) hx hb dX4_countLess_14 rfl (lv_at hl 1 rfl) ?_
    refine lv_iload (pc := 15) hx hb dX4_countLess_15 (lv_at hl 5 rfl) ?_
    refine lv_iload_n (pc := 17) hx hb dX4_countLess_17 rfl (lv_at hl 2 rfl) ?_
    refine lv_iload_n (pc := 18) hx hb dX4_countLess_18 rfl (lv_at hl 3 rfl) ?_
    refine lv_iload (pc := 19) hx hb dX4_countLess_19 (lv_at hl 4 rfl) ?_
    refine mj_ci (pc := 21) (mj_runV hcx hW [.int x1, .int x5, .int x2, .int x3, .int x4] h (Nat.le_trans (by decide) hd) (lw_V q1494 q1496 qs64 q125 q1497) yd_compares (by decide) rfl rfl (Nat.le_of_ble_eq_true rfl) hl.1 dX4_countLess_21) hS (fun r4 σ5 h H locs hW hS => ?_)
    refine lv_if_ge (pc := 24) (tgt := 33) hx hb dX4_countLess_24 (by decide) (fun c6 => ?_) (fun c6 => ?_)
    · have h := h.1 c6
      refine lv_iload (pc := 33) hx hb dX4_countLess_33 (lv_at hl 5 rfl) ?_
      exact mj_reti (pc := 35) hcx hW hS rfl h dX4_countLess_35
    · have h := h.2 c6
      refine lv_iinc (pc := 27) (v := (x5 + (1 : Int32))) (lv' := [(5, .int (x5 + (1 : Int32))), (0, .ref (mj_o E)), (1, .int x1), (2, .int x2), (3, .int x3), (4, .int x4)]) hx hb dX4_countLess_27 hl (k := 5) rfl rfl (by decide) rfl (fun ls hl => ?_)
      refine lv_goto (pc := 30) (tgt := 3) hx hb dX4_countLess_30 (by decide) ?_
      exact h d hd p e s m args below meth c hcx H locs _ hW hS (lv_sub hl [1, 2, 3, 4, 5, 0] rfl)
set_option maxHeartbeats 4000000 in
set_option maxRecDepth 100000 in
theorem mb_countLess {E : mj_E} {σ : mj_S} {x1 : Int32} {x2 : Int32} {x3 : Int32} {x4 : Int32} {P : Int32 → mj_S → Prop} (hE : mj_ok E) (h : mg_countLess_3 E σ x1 x2 x3 x4 (0 : Int32) P) : ms_countLess E σ x1 x2 x3 x4 P :=
  mj_enter (k := 2) (lv := [(0, .ref (mj_o E)), (1, .int x1), (2, .int x2), (3, .int x3), (4, .int x4)]) hE rfl (Nat.le_of_ble_eq_true rfl) rfl (by
    intro d hd p e s m args below meth c hcx H locs ls hW hS hl
    have hx := hcx.1
    have hb := hcx.2.1
    have hown := hcx.2.2.2.2.2.1
    have hts := hcx.2.2.2.2.2.2.1
    refine lv_iconst (pc := 0) (v := (0 : Int32)) hx hb dX4_countLess_0 (by decide) ?_
    refine lv_istore (pc := 1) (lv' := [(5, .int (0 : Int32)), (0, .ref (mj_o E)), (1, .int x1), (2, .int x2), (3, .int x3), (4, .int x4)]) hx hb dX4_countLess_1 hl (by decide) rfl (fun ls hl => ?_)
    exact h d hd p e s m args below meth c hcx H locs _ hW hS (lv_sub hl [1, 2, 3, 4, 5, 0] rfl))
/-! digit -/
set_option maxHeartbeats 4000000 in
set_option maxRecDepth 100000 in
theorem mb_digit {E : mj_E} {σ : mj_S} {P : Int32 → mj_S → Prop} (hE : mj_ok E) (h : (((mj_F σ 4) = (-1 : Int32) → ms_ahead E σ (fun r4 σ5 => ms_isDigit E σ5 r4 (fun r6 σ7 => ((r6 = 0 → ms_bad E σ7 (fun σ11 => P (0 : Int32) σ11)) ∧ (¬ r6 = 0 → (vp_in ((mj_F (mj_sF σ7 3 ((mj_F σ7 3) + (1 : Int32))) 3) - (1 : Int32)) 400 ∧ P ((mj_A (mj_sF σ7 3 ((mj_F σ7 3) + (1 : Int32))) 1 ((mj_F (mj_sF σ7 3 ((mj_F σ7 3) + (1 : Int32))) 3) - (1 : Int32)).toNatClampNeg) - (48 : Int32)) (mj_sF σ7 3 ((mj_F σ7 3) + (1 : Int32))))))))) ∧ (¬ (mj_F σ 4) = (-1 : Int32) → ms_bad E σ (fun σ3 => P (0 : Int32) σ3)))) : ms_digit E σ P :=
  mj_enter (k := 2) (lv := [(0, .ref (mj_o E))]) hE rfl (Nat.le_of_ble_eq_true rfl) rfl (by
    intro d hd p e s m args below meth c hcx H locs ls hW hS hl
    have hx := hcx.1
    have hb := hcx.2.1
    have hown := hcx.2.2.2.2.2.1
    have hts := hcx.2.2.2.2.2.2.1
    refine lv_aload_n (pc := 0) hx hb dX4_digit_0 rfl (lv_at hl 0 rfl) ?_
    refine mj_geti (pc := 1) hcx hW 4 (by decide) rfl q1259 dX4_digit_1 ?_
    refine lv_iconst (pc := 4) (v := (-1 : Int32)) hx hb dX4_digit_4 (by decide) ?_
    refine lv_icmp_ne (pc := 5) (tgt := 18) hx hb dX4_digit_5 (by decide) (fun c1 => ?_) (fun c1 => ?_)
    · have h := h.2 c1
      refine lv_aload_n (pc := 18) hx hb dX4_digit_18 rfl (lv_at hl 0 rfl) ?_
      refine mj_cv (pc := 19) (mj_runV hcx hW [] h (Nat.le_trans (by decide) hd) (lw_V q1436 q1438 qs52 q125 q1439) yd_bad (by decide) rfl rfl (Nat.le_of_ble_eq_true rfl) hl.1 dX4_digit_19) hS (fun σ3 h H locs hW hS => ?_)
      refine lv_iconst (pc := 22) (v := (0 : Int32)) hx hb dX4_digit_22 (by decide) ?_
      exact mj_reti (pc := 23) hcx hW hS rfl h dX4_digit_23
    · have h := h.1 c1
      refine lv_aload_n (pc := 8) hx hb dX4_digit_8 rfl (lv_at hl 0 rfl) ?_
      refine mj_ci (pc := 9) (mj_runV hcx hW [] h (Nat.le_trans (by decide) hd) (lw_V q1424 q1426 qs49 q125 q1427) yd_ahead (by decide) rfl rfl (Nat.le_of_ble_eq_true rfl) hl.1 dX4_digit_9) hS (fun r4 σ5 h H locs hW hS => ?_)
      refine mj_ci (pc := 12) (mj_runS hcx hW [.int r4] h (Nat.le_trans (by decide) hd) (lw_S q1447 q1448 q125 q1449) yd_isDigit.2 (by decide) rfl rfl (Nat.le_of_ble_eq_true rfl) hl.1 dX4_digit_12) hS (fun r6 σ7 h H locs hW hS => ?_)
      refine lv_if_ne (pc := 15) (tgt := 24) hx hb dX4_digit_15 (by decide) (fun c8 => ?_) (fun c8 => ?_)
      · have h := h.2 c8
        refine lv_aload_n (pc := 24) hx hb dX4_digit_24 rfl (lv_at hl 0 rfl) ?_
        refine lv_dup (pc := 25) hx hb dX4_digit_25 rfl ?_
        refine mj_geti (pc := 26) hcx hW 3 (by decide) rfl q1258 dX4_digit_26 ?_
        refine lv_iconst (pc := 29) (v := (1 : Int32)) hx hb dX4_digit_29 (by decide) ?_
        refine lv_iadd (pc := 30) hx hb dX4_digit_30 ?_
        refine mj_puti (pc := 31) hcx hW hS 3 (by decide) rfl rfl rfl rfl q1258 dX4_digit_31 (fun H locs hW hS => ?_)
        refine lv_aload_n (pc := 34) hx hb dX4_digit_34 rfl (lv_at hl 0 rfl) ?_
        refine mj_geta (pc := 35) hcx hW 1 (by decide) rfl q1256 dX4_digit_35 ?_
        refine lv_aload_n (pc := 38) hx hb dX4_digit_38 rfl (lv_at hl 0 rfl) ?_
        refine mj_geti (pc := 39) hcx hW 3 (by decide) rfl q1258 dX4_digit_39 ?_
        refine lv_iconst (pc := 42) (v := (1 : Int32)) hx hb dX4_digit_42 (by decide) ?_
        refine lv_isub (pc := 43) hx hb dX4_digit_43 ?_
        obtain ⟨g9, h⟩ := h
        refine mj_ald (pc := 44) hcx hW 1 rfl rfl g9 dX4_digit_44 ?_
        refine lv_bipush (pc := 45) (v := (48 : Int32)) hx hb dX4_digit_45 (by decide) ?_
        refine lv_isub (pc := 47) hx hb dX4_digit_47 ?_
        exact mj_reti (pc := 48) hcx hW hS rfl h dX4_digit_48
      · have h := h.1 c8
        refine lv_aload_n (pc := 18) hx hb dX4_digit_18 rfl (lv_at hl 0 rfl) ?_
        refine mj_cv (pc := 19) (mj_runV hcx hW [] h (Nat.le_trans (by decide) hd) (lw_V q1436 q1438 qs52 q125 q1439) yd_bad (by decide) rfl rfl (Nat.le_of_ble_eq_true rfl) hl.1 dX4_digit_19) hS (fun σ11 h H locs hW hS => ?_)
        refine lv_iconst (pc := 22) (v := (0 : Int32)) hx hb dX4_digit_22 (by decide) ?_
        exact mj_reti (pc := 23) hcx hW hS rfl h dX4_digit_23)
/-! ends -/
set_option maxHeartbeats 4000000 in
set_option maxRecDepth 100000 in
theorem mb_ends {E : mj_E} {σ : mj_S} {P : Int32 → mj_S → Prop} (hE : mj_ok E) (h : (((mj_F σ 4) = (-1 : Int32) → ms_ahead E σ (fun r2 σ3 => ((r2 = (-1 : Int32) → P (mj_F σ3 4) σ3) ∧ (¬ r2 = (-1 : Int32) → ms_bad E σ3 (fun σ6 => P (mj_F σ6 4) σ6))))) ∧ (¬ (mj_F σ 4) = (-1 : Int32) → P (mj_F σ 4) σ))) : ms_ends E σ P :=
  mj_enter (k := 2) (lv := [(0, .ref (mj_o E))]) hE rfl (Nat.le_of_ble_eq_true rfl) rfl (by
    intro d hd p e s m args below meth c hcx H locs ls hW hS hl
    have hx := hcx.1
    have hb := hcx.2.1
    have hown := hcx.2.2.2.2.2.1
    have hts := hcx.2.2.2.2.2.2.1
    refine lv_aload_n (pc := 0) hx hb dX4_ends_0 rfl (lv_at hl 0 rfl) ?_
    refine mj_geti (pc := 1) hcx hW 4 (by decide) rfl q1259 dX4_ends_1 ?_
    refine lv_iconst (pc := 4) (v := (-1 : Int32)) hx hb dX4_ends_4 (by decide) ?_
    refine lv_icmp_ne (pc := 5) (tgt := 20) hx hb dX4_ends_5 (by decide) (fun c1 => ?_) (fun c1 => ?_)
    · have h := h.2 c1
      refine lv_aload_n (pc := 20) hx hb dX4_ends_20 rfl (lv_at hl 0 rfl) ?_
      refine mj_geti (pc := 21) hcx hW 4 (by decide) rfl q1259 dX4_ends_21 ?_
      exact mj_reti (pc := 24) hcx hW hS rfl h dX4_ends_24
    · have h := h.1 c1
      refine lv_aload_n (pc := 8) hx hb dX4_ends_8 rfl (lv_at hl 0 rfl) ?_
      refine mj_ci (pc := 9) (mj_runV hcx hW [] h (Nat.le_trans (by decide) hd) (lw_V q1424 q1426 qs49 q125 q1427) yd_ahead (by decide) rfl rfl (Nat.le_of_ble_eq_true rfl) hl.1 dX4_ends_9) hS (fun r2 σ3 h H locs hW hS => ?_)
      refine lv_iconst (pc := 12) (v := (-1 : Int32)) hx hb dX4_ends_12 (by decide) ?_
      refine lv_icmp_eq (pc := 13) (tgt := 20) hx hb dX4_ends_13 (by decide) (fun c4 => ?_) (fun c4 => ?_)
      · have h := h.1 c4
        refine lv_aload_n (pc := 20) hx hb dX4_ends_20 rfl (lv_at hl 0 rfl) ?_
        refine mj_geti (pc := 21) hcx hW 4 (by decide) rfl q1259 dX4_ends_21 ?_
        exact mj_reti (pc := 24) hcx hW hS rfl h dX4_ends_24
      · have h := h.2 c4
        refine lv_aload_n (pc := 16) hx hb dX4_ends_16 rfl (lv_at hl 0 rfl) ?_
        refine mj_cv (pc := 17) (mj_runV hcx hW [] h (Nat.le_trans (by decide) hd) (lw_V q1436 q1438 qs52 q125 q1439) yd_bad (by decide) rfl rfl (Nat.le_of_ble_eq_true rfl) hl.1 dX4_ends_17) hS (fun σ6 h H locs hW hS => ?_)
        refine lv_aload_n (pc := 20) hx hb dX4_ends_20 rfl (lv_at hl 0 rfl) ?_
        refine mj_geti (pc := 21) hcx hW 4 (by decide) rfl q1259 dX4_ends_21 ?_
        exact mj_reti (pc := 24) hcx hW hS rfl h dX4_ends_24)
/-! givenBy -/
set_option maxHeartbeats 4000000 in
set_option maxRecDepth 100000 in
theorem mb_givenBy_4 {E : mj_E} {σ : mj_S} {x1 : Int32} {x2 : Int32} {x3 : Int32} {P : Int32 → mj_S → Prop} (h : ms_many E σ x1 (fun r1 σ2 => ((r1 ≤ x3 → P x2 σ2) ∧ (¬ r1 ≤ x3 → ms_isUsed E σ2 x1 (fun r4 σ5 => ((r4 = 0 → P x2 σ5) ∧ (¬ r4 = 0 → mg_givenBy_24 E σ5 x1 x2 x3 (0 : Int32) P))))))) : mg_givenBy_4 E σ x1 x2 x3 P := by
  intro d hd p e s m args below meth c hcx H locs ls hW hS hl
  have hx := hcx.1
  have hb := hcx.2.1
  have hown := hcx.2.2.2.2.2.1
  have hts := hcx.2.2.2.2.2.2.1
  refine lv_iload_n (pc := 4) hx hb dX4_givenBy_4 rfl (lv_at hl 3 rfl) ?_
  refine lv_aload_n (pc := 5) hx hb dX4_givenBy_5 rfl (lv_at hl 0 rfl) ?_
  refine lv_iload_n (pc := 6) hx hb dX4_givenBy_6 rfl (lv_at hl 1 rfl) ?_
  refine mj_ci (pc := 7) (mj_runV hcx hW [.int x1] h (Nat.le_trans (by decide) hd) (lw_V q1490 q1492 qs63 q125 q1493) yd_many (by decide) rfl rfl (Nat.le_of_ble_eq_true rfl) hl.1 dX4_givenBy_7) hS (fun r1 σ2 h H locs hW hS => ?_)
  refine lv_icmp_ge (pc := 10) (tgt := 74) hx hb dX4_givenBy_10 (by decide) (fun c3 => ?_) (fun c3 => ?_)
  · have h := h.1 c3
    refine lv_iload_n (pc := 74) hx hb dX4_givenBy_74 rfl (lv_at hl 2 rfl) ?_
    exact mj_reti (pc := 75) hcx hW hS rfl h dX4_givenBy_75
  · have h := h.2 c3
    refine lv_aload_n (pc := 13) hx hb dX4_givenBy_13 rfl (lv_at hl 0 rfl) ?_
    refine lv_iload_n (pc := 14) hx hb dX4_givenBy_14 rfl (lv_at hl 1 rfl) ?_
    refine mj_ci (pc := 15) (mj_runV hcx hW [.int x1] h (Nat.le_trans (by decide) hd) (lw_V q1553 q1555 qs77 q125 q1556) yd_isUsed (by decide) rfl rfl (Nat.le_of_ble_eq_true rfl) hl.1 dX4_givenBy_15) hS (fun r4 σ5 h H locs hW hS => ?_)
    refine lv_if_eq (pc := 18) (tgt := 74) hx hb dX4_givenBy_18 (by decide) (fun c6 => ?_) (fun c6 => ?_)
    · have h := h.1 c6
      refine lv_iload_n (pc := 74) hx hb dX4_givenBy_74 rfl (lv_at hl 2 rfl) ?_
      exact mj_reti (pc := 75) hcx hW hS rfl h dX4_givenBy_75
    · have h := h.2 c6
      refine lv_iconst (pc := 21) (v := (0 : Int32)) hx hb dX4_givenBy_21 (by decide) ?_
      refine lv_istore (pc := 22) (lv' := [(4, .int (0 : Int32)), (0, .ref (mj_o E)), (1, .int x1), (2, .int x2), (3, .int x3)]) hx hb dX4_givenBy_22 hl (by decide) rfl (fun ls hl => ?_)
      exact h d hd p e s m args below meth c hcx H locs _ hW hS (lv_sub hl [1, 2, 3, 4, 0] rfl)
set_option maxHeartbeats 4000000 in
set_option maxRecDepth 100000 in
theorem mb_givenBy_24 {E : mj_E} {σ : mj_S} {x1 : Int32} {x2 : Int32} {x3 : Int32} {x4 : Int32} {P : Int32 → mj_S → Prop} (h : (((mj_F σ 26) ≤ x4 → mg_givenBy_4 E σ x1 x2 (x3 + (1 : Int32)) P) ∧ (¬ (mj_F σ 26) ≤ x4 → ms_has E σ x2 x3 (fun r2 σ3 => ((r2 = 0 → ms_isOf E σ3 x4 x1 x3 (fun r5 σ6 => ((r5 = 0 → mg_givenBy_24 E σ6 x1 (x2 ||| (0 : Int32)) x3 (x4 + (1 : Int32)) P) ∧ (¬ r5 = 0 → mg_givenBy_24 E σ6 x1 (x2 ||| ((1 : Int32) <<< (x3 &&& 31))) x3 (x4 + (1 : Int32)) P)))) ∧ (¬ r2 = 0 → mg_givenBy_4 E σ3 x1 x2 (x3 + (1 : Int32)) P)))))) : mg_givenBy_24 E σ x1 x2 x3 x4 P := by
  intro d hd p e s m args below meth c hcx H locs ls hW hS hl
  have hx := hcx.1
  have hb := hcx.2.1
  have hown := hcx.2.2.2.2.2.1
  have hts := hcx.2.2.2.2.2.2.1
  refine lv_iload (pc := 24) hx hb dX4_givenBy_24 (lv_at hl 4 rfl) ?_
  refine lv_aload_n (pc := 26) hx hb dX4_givenBy_26 rfl (lv_at hl 0 rfl) ?_
  refine mj_geti (pc := 27) hcx hW 26 (by decide) rfl q1281 dX4_givenBy_27 ?_
  refine lv_icmp_ge (pc := 30) (tgt := 68) hx hb dX4_givenBy_30 (by decide) (fun c1 => ?_) (fun c1 => ?_)
  · have h := h.1 c1
    refine lv_iinc (pc := 68) (v := (x3 + (1 : Int32))) (lv' := [(3, .int (x3 + (1 : Int32))), (0, .ref (mj_o E)), (1, .int x1), (2, .int x2), (4, .int x4)]) hx hb dX4_givenBy_68 hl (k := 3) rfl rfl (by decide) rfl (fun ls hl => ?_)
    refine lv_goto (pc := 71) (tgt := 4) hx hb dX4_givenBy_71 (by decide) ?_
    exact h d hd p e s m args below meth c hcx H locs _ hW hS (lv_sub hl [1, 2, 3, 0] rfl)
  · have h := h.2 c1
    refine lv_iload_n (pc := 33) hx hb dX4_givenBy_33 rfl (lv_at hl 2 rfl) ?_
    refine lv_iload_n (pc := 34) hx hb dX4_givenBy_34 rfl (lv_at hl 3 rfl) ?_
    refine mj_ci (pc := 35) (mj_runS hcx hW [.int x2, .int x3] h (Nat.le_trans (by decide) hd) (lw_S q1440 q1441 q125 q1442) yd_has.2 (by decide) rfl rfl (Nat.le_of_ble_eq_true rfl) hl.1 dX4_givenBy_35) hS (fun r2 σ3 h H locs hW hS => ?_)
    refine lv_if_ne (pc := 38) (tgt := 68) hx hb dX4_givenBy_38 (by decide) (fun c4 => ?_) (fun c4 => ?_)
    · have h := h.2 c4
      refine lv_iinc (pc := 68) (v := (x3 + (1 : Int32))) (lv' := [(3, .int (x3 + (1 : Int32))), (0, .ref (mj_o E)), (1, .int x1), (2, .int x2), (4, .int x4)]) hx hb dX4_givenBy_68 hl (k := 3) rfl rfl (by decide) rfl (fun ls hl => ?_)
      refine lv_goto (pc := 71) (tgt := 4) hx hb dX4_givenBy_71 (by decide) ?_
      exact h d hd p e s m args below meth c hcx H locs _ hW hS (lv_sub hl [1, 2, 3, 0] rfl)
    · have h := h.1 c4
      refine lv_iload_n (pc := 41) hx hb dX4_givenBy_41 rfl (lv_at hl 2 rfl) ?_
      refine lv_aload_n (pc := 42) hx hb dX4_givenBy_42 rfl (lv_at hl 0 rfl) ?_
      refine lv_iload (pc := 43) hx hb dX4_givenBy_43 (lv_at hl 4 rfl) ?_
      refine lv_iload_n (pc := 45) hx hb dX4_givenBy_45 rfl (lv_at hl 1 rfl) ?_
      refine lv_iload_n (pc := 46) hx hb dX4_givenBy_46 rfl (lv_at hl 3 rfl) ?_
      refine mj_ci (pc := 47) (mj_runV hcx hW [.int x4, .int x1, .int x3] h (Nat.le_trans (by decide) hd) (lw_V q1737 q1739 qs105 q125 q1740) yd_isOf (by decide) rfl rfl (Nat.le_of_ble_eq_true rfl) hl.1 dX4_givenBy_47) hS (fun r5 σ6 h H locs hW hS => ?_)
      refine lv_if_eq (pc := 50) (tgt := 59) hx hb dX4_givenBy_50 (by decide) (fun c7 => ?_) (fun c7 => ?_)
      · have h := h.1 c7
        refine lv_iconst (pc := 59) (v := (0 : Int32)) hx hb dX4_givenBy_59 (by decide) ?_
        refine lv_ior (pc := 60) hx hb dX4_givenBy_60 ?_
        refine lv_istore_n (pc := 61) (lv' := [(2, .int (x2 ||| (0 : Int32))), (0, .ref (mj_o E)), (1, .int x1), (3, .int x3), (4, .int x4)]) hx hb dX4_givenBy_61 rfl hl (by decide) rfl (fun ls hl => ?_)
        refine lv_iinc (pc := 62) (v := (x4 + (1 : Int32))) (lv' := [(4, .int (x4 + (1 : Int32))), (2, .int (x2 ||| (0 : Int32))), (0, .ref (mj_o E)), (1, .int x1), (3, .int x3)]) hx hb dX4_givenBy_62 hl (k := 4) rfl rfl (by decide) rfl (fun ls hl => ?_)
        refine lv_goto (pc := 65) (tgt := 24) hx hb dX4_givenBy_65 (by decide) ?_
        exact h d hd p e s m args below meth c hcx H locs _ hW hS (lv_sub hl [2, 3, 1, 4, 0] rfl)
      · have h := h.2 c7
        refine lv_iconst (pc := 53) (v := (1 : Int32)) hx hb dX4_givenBy_53 (by decide) ?_
        refine lv_iload_n (pc := 54) hx hb dX4_givenBy_54 rfl (lv_at hl 3 rfl) ?_
        refine lv_ishl (pc := 55) hx hb dX4_givenBy_55 ?_
        refine lv_goto (pc := 56) (tgt := 60) hx hb dX4_givenBy_56 (by decide) ?_
        refine lv_ior (pc := 60) hx hb dX4_givenBy_60 ?_
        refine lv_istore_n (pc := 61) (lv' := [(2, .int (x2 ||| ((1 : Int32) <<< (x3 &&& 31)))), (0, .ref (mj_o E)), (1, .int x1), (3, .int x3), (4, .int x4)]) hx hb dX4_givenBy_61 rfl hl (by decide) rfl (fun ls hl => ?_)
        refine lv_iinc (pc := 62) (v := (x4 + (1 : Int32))) (lv' := [(4, .int (x4 + (1 : Int32))), (2, .int (x2 ||| ((1 : Int32) <<< (x3 &&& 31)))), (0, .ref (mj_o E)), (1, .int x1), (3, .int x3)]) hx hb dX4_givenBy_62 hl (k := 4) rfl rfl (by decide) rfl (fun ls hl => ?_)
        refine lv_goto (pc := 65) (tgt := 24) hx hb dX4_givenBy_65 (by decide) ?_
        exact h d hd p e s m args below meth c hcx H locs _ hW hS (lv_sub hl [2, 3, 1, 4, 0] rfl)
set_option maxHeartbeats 4000000 in
set_option maxRecDepth 100000 in
theorem mb_givenBy {E : mj_E} {σ : mj_S} {x1 : Int32} {P : Int32 → mj_S → Prop} (hE : mj_ok E) (h : mg_givenBy_4 E σ x1 (0 : Int32) (0 : Int32) P) : ms_givenBy E σ x1 P :=
  mj_enter (k := 2) (lv := [(0, .ref (mj_o E)), (1, .int x1)]) hE rfl (Nat.le_of_ble_eq_true rfl) rfl (by
    intro d hd p e s m args below meth c hcx H locs ls hW hS hl
    have hx := hcx.1
    have hb := hcx.2.1
    have hown := hcx.2.2.2.2.2.1
    have hts := hcx.2.2.2.2.2.2.1
    refine lv_iconst (pc := 0) (v := (0 : Int32)) hx hb dX4_givenBy_0 (by decide) ?_
    refine lv_istore_n (pc := 1) (lv' := [(2, .int (0 : Int32)), (0, .ref (mj_o E)), (1, .int x1)]) hx hb dX4_givenBy_1 rfl hl (by decide) rfl (fun ls hl => ?_)
    refine lv_iconst (pc := 2) (v := (0 : Int32)) hx hb dX4_givenBy_2 (by decide) ?_
    refine lv_istore_n (pc := 3) (lv' := [(3, .int (0 : Int32)), (2, .int (0 : Int32)), (0, .ref (mj_o E)), (1, .int x1)]) hx hb dX4_givenBy_3 rfl hl (by decide) rfl (fun ls hl => ?_)
    exact h d hd p e s m args below meth c hcx H locs _ hW hS (lv_sub hl [2, 3, 1, 0] rfl))
/-! isIn -/
set_option maxHeartbeats 4000000 in
set_option maxRecDepth 100000 in
theorem mb_isIn {E : mj_E} {σ : mj_S} {x1 : Int32} {x2 : Int32} {P : Int32 → mj_S → Prop} (hE : mj_ok E) (h : ms_isUsed E σ x1 (fun r1 σ2 => ((r1 = 0 → P (0 : Int32) σ2) ∧ (¬ r1 = 0 → (vp_in x2 4 ∧ ms_columnOf E σ2 x1 (mj_A σ2 18 x2.toNatClampNeg) (fun r5 σ6 => ((r5 = (-1 : Int32) → P (0 : Int32) σ6) ∧ (¬ r5 = (-1 : Int32) → P (1 : Int32) σ6)))))))) : ms_isIn E σ x1 x2 P :=
  mj_enter (k := 2) (lv := [(0, .ref (mj_o E)), (1, .int x1), (2, .int x2)]) hE rfl (Nat.le_of_ble_eq_true rfl) rfl (by
    intro d hd p e s m args below meth c hcx H locs ls hW hS hl
    have hx := hcx.1
    have hb := hcx.2.1
    have hown := hcx.2.2.2.2.2.1
    have hts := hcx.2.2.2.2.2.2.1
    refine lv_aload_n (pc := 0) hx hb dX4_isIn_0 rfl (lv_at hl 0 rfl) ?_
    refine lv_iload_n (pc := 1) hx hb dX4_isIn_1 rfl (lv_at hl 1 rfl) ?_
    refine mj_ci (pc := 2) (mj_runV hcx hW [.int x1] h (Nat.le_trans (by decide) hd) (lw_V q1553 q1555 qs77 q125 q1556) yd_isUsed (by decide) rfl rfl (Nat.le_of_ble_eq_true rfl) hl.1 dX4_isIn_2) hS (fun r1 σ2 h H locs hW hS => ?_)
    refine lv_if_eq (pc := 5) (tgt := 27) hx hb dX4_isIn_5 (by decide) (fun c3 => ?_) (fun c3 => ?_)
    · have h := h.1 c3
      refine lv_iconst (pc := 27) (v := (0 : Int32)) hx hb dX4_isIn_27 (by decide) ?_
      exact mj_reti (pc := 28) hcx hW hS rfl h dX4_isIn_28
    · have h := h.2 c3
      refine lv_aload_n (pc := 8) hx hb dX4_isIn_8 rfl (lv_at hl 0 rfl) ?_
      refine lv_iload_n (pc := 9) hx hb dX4_isIn_9 rfl (lv_at hl 1 rfl) ?_
      refine lv_aload_n (pc := 10) hx hb dX4_isIn_10 rfl (lv_at hl 0 rfl) ?_
      refine mj_geta (pc := 11) hcx hW 18 (by decide) rfl q1273 dX4_isIn_11 ?_
      refine lv_iload_n (pc := 14) hx hb dX4_isIn_14 rfl (lv_at hl 2 rfl) ?_
      obtain ⟨g4, h⟩ := h
      refine mj_ald (pc := 15) hcx hW 18 rfl rfl g4 dX4_isIn_15 ?_
      refine mj_ci (pc := 16) (mj_runV hcx hW [.int x1, .int (mj_A σ2 18 x2.toNatClampNeg)] h (Nat.le_trans (by decide) hd) (lw_V q1601 q1603 qs89 q125 q1604) yd_columnOf (by decide) rfl rfl (Nat.le_of_ble_eq_true rfl) hl.1 dX4_isIn_16) hS (fun r5 σ6 h H locs hW hS => ?_)
      refine lv_iconst (pc := 19) (v := (-1 : Int32)) hx hb dX4_isIn_19 (by decide) ?_
      refine lv_icmp_eq (pc := 20) (tgt := 27) hx hb dX4_isIn_20 (by decide) (fun c7 => ?_) (fun c7 => ?_)
      · have h := h.1 c7
        refine lv_iconst (pc := 27) (v := (0 : Int32)) hx hb dX4_isIn_27 (by decide) ?_
        exact mj_reti (pc := 28) hcx hW hS rfl h dX4_isIn_28
      · have h := h.2 c7
        refine lv_iconst (pc := 23) (v := (1 : Int32)) hx hb dX4_isIn_23 (by decide) ?_
        refine lv_goto (pc := 24) (tgt := 28) hx hb dX4_isIn_24 (by decide) ?_
        exact mj_reti (pc := 28) hcx hW hS rfl h dX4_isIn_28)
/-! must -/
set_option maxHeartbeats 4000000 in
set_option maxRecDepth 100000 in
theorem mb_must {E : mj_E} {σ : mj_S} {x1 : Int32} {P : mj_S → Prop} (hE : mj_ok E) (h : (((mj_F σ 4) = (-1 : Int32) → ms_ahead E σ (fun r4 σ5 => ((r4 = x1 → P (mj_sF σ5 3 ((mj_F σ5 3) + (1 : Int32)))) ∧ (¬ r4 = x1 → ms_bad E σ5 (fun σ8 => P σ8))))) ∧ (¬ (mj_F σ 4) = (-1 : Int32) → ms_bad E σ (fun σ3 => P σ3)))) : ms_must E σ x1 P :=
  mj_enter (k := 2) (lv := [(0, .ref (mj_o E)), (1, .int x1)]) hE rfl (Nat.le_of_ble_eq_true rfl) rfl (by
    intro d hd p e s m args below meth c hcx H locs ls hW hS hl
    have hx := hcx.1
    have hb := hcx.2.1
    have hown := hcx.2.2.2.2.2.1
    have hts := hcx.2.2.2.2.2.2.1
    refine lv_aload_n (pc := 0) hx hb dX4_must_0 rfl (lv_at hl 0 rfl) ?_
    refine mj_geti (pc := 1) hcx hW 4 (by decide) rfl q1259 dX4_must_1 ?_
    refine lv_iconst (pc := 4) (v := (-1 : Int32)) hx hb dX4_must_4 (by decide) ?_
    refine lv_icmp_ne (pc := 5) (tgt := 29) hx hb dX4_must_5 (by decide) (fun c1 => ?_) (fun c1 => ?_)
    · have h := h.2 c1
      refine lv_aload_n (pc := 29) hx hb dX4_must_29 rfl (lv_at hl 0 rfl) ?_
      refine mj_cv (pc := 30) (mj_runV hcx hW [] h (Nat.le_trans (by decide) hd) (lw_V q1436 q1438 qs52 q125 q1439) yd_bad (by decide) rfl rfl (Nat.le_of_ble_eq_true rfl) hl.1 dX4_must_30) hS (fun σ3 h H locs hW hS => ?_)
      exact mj_retv (pc := 33) hcx hW hS h dX4_must_33
    · have h := h.1 c1
      refine lv_aload_n (pc := 8) hx hb dX4_must_8 rfl (lv_at hl 0 rfl) ?_
      refine mj_ci (pc := 9) (mj_runV hcx hW [] h (Nat.le_trans (by decide) hd) (lw_V q1424 q1426 qs49 q125 q1427) yd_ahead (by decide) rfl rfl (Nat.le_of_ble_eq_true rfl) hl.1 dX4_must_9) hS (fun r4 σ5 h H locs hW hS => ?_)
      refine lv_iload_n (pc := 12) hx hb dX4_must_12 rfl (lv_at hl 1 rfl) ?_
      refine lv_icmp_ne (pc := 13) (tgt := 29) hx hb dX4_must_13 (by decide) (fun c6 => ?_) (fun c6 => ?_)
      · have h := h.2 c6
        refine lv_aload_n (pc := 29) hx hb dX4_must_29 rfl (lv_at hl 0 rfl) ?_
        refine mj_cv (pc := 30) (mj_runV hcx hW [] h (Nat.le_trans (by decide) hd) (lw_V q1436 q1438 qs52 q125 q1439) yd_bad (by decide) rfl rfl (Nat.le_of_ble_eq_true rfl) hl.1 dX4_must_30) hS (fun σ8 h H locs hW hS => ?_)
        exact mj_retv (pc := 33) hcx hW hS h dX4_must_33
      · have h := h.1 c6
        refine lv_aload_n (pc := 16) hx hb dX4_must_16 rfl (lv_at hl 0 rfl) ?_
        refine lv_dup (pc := 17) hx hb dX4_must_17 rfl ?_
        refine mj_geti (pc := 18) hcx hW 3 (by decide) rfl q1258 dX4_must_18 ?_
        refine lv_iconst (pc := 21) (v := (1 : Int32)) hx hb dX4_must_21 (by decide) ?_
        refine lv_iadd (pc := 22) hx hb dX4_must_22 ?_
        refine mj_puti (pc := 23) hcx hW hS 3 (by decide) rfl rfl rfl rfl q1258 dX4_must_23 (fun H locs hW hS => ?_)
        refine lv_goto (pc := 26) (tgt := 33) hx hb dX4_must_26 (by decide) ?_
        exact mj_retv (pc := 33) hcx hW hS h dX4_must_33)
/-! number -/
set_option maxHeartbeats 4000000 in
set_option maxRecDepth 100000 in
theorem mb_number_28 {E : mj_E} {σ : mj_S} {x1 : Int32} {x2 : Int32} {x3 : Int32} {P : Int32 → mj_S → Prop} (h : (((2 : Int32) ≤ x3 → mg_number_72 E σ x1 x2 P) ∧ (¬ (2 : Int32) ≤ x3 → ms_here E σ (fun r2 σ3 => ms_isDigit E σ3 r2 (fun r4 σ5 => ((r4 = 0 → mg_number_72 E σ5 x1 x2 P) ∧ (¬ r4 = 0 → ms_here E σ5 (fun r7 σ8 => mg_number_28 E (mj_sF σ8 3 ((mj_F σ8 3) + (1 : Int32))) x1 ((((10 : Int32) * x2) + r7) - (48 : Int32)) (x3 + (1 : Int32)) P)))))))) : mg_number_28 E σ x1 x2 x3 P := by
  intro d hd p e s m args below meth c hcx H locs ls hW hS hl
  have hx := hcx.1
  have hb := hcx.2.1
  have hown := hcx.2.2.2.2.2.1
  have hts := hcx.2.2.2.2.2.2.1
  refine lv_iload_n (pc := 28) hx hb dX4_number_28 rfl (lv_at hl 3 rfl) ?_
  refine lv_iconst (pc := 29) (v := (2 : Int32)) hx hb dX4_number_29 (by decide) ?_
  refine lv_icmp_ge (pc := 30) (tgt := 72) hx hb dX4_number_30 (by decide) (fun c1 => ?_) (fun c1 => ?_)
  · have h := h.1 c1
    exact h d hd p e s m args below meth c hcx H locs _ hW hS (lv_sub hl [0, 1, 2] rfl)
  · have h := h.2 c1
    refine lv_aload_n (pc := 33) hx hb dX4_number_33 rfl (lv_at hl 0 rfl) ?_
    refine mj_ci (pc := 34) (mj_runV hcx hW [] h (Nat.le_trans (by decide) hd) (lw_V q1428 q1430 qs50 q125 q1431) yd_here (by decide) rfl rfl (Nat.le_of_ble_eq_true rfl) hl.1 dX4_number_34) hS (fun r2 σ3 h H locs hW hS => ?_)
    refine mj_ci (pc := 37) (mj_runS hcx hW [.int r2] h (Nat.le_trans (by decide) hd) (lw_S q1447 q1448 q125 q1449) yd_isDigit.2 (by decide) rfl rfl (Nat.le_of_ble_eq_true rfl) hl.1 dX4_number_37) hS (fun r4 σ5 h H locs hW hS => ?_)
    refine lv_if_eq (pc := 40) (tgt := 72) hx hb dX4_number_40 (by decide) (fun c6 => ?_) (fun c6 => ?_)
    · have h := h.1 c6
      exact h d hd p e s m args below meth c hcx H locs _ hW hS (lv_sub hl [0, 1, 2] rfl)
    · have h := h.2 c6
      refine lv_bipush (pc := 43) (v := (10 : Int32)) hx hb dX4_number_43 (by decide) ?_
      refine lv_iload_n (pc := 45) hx hb dX4_number_45 rfl (lv_at hl 2 rfl) ?_
      refine lv_imul (pc := 46) hx hb dX4_number_46 ?_
      refine lv_aload_n (pc := 47) hx hb dX4_number_47 rfl (lv_at hl 0 rfl) ?_
      refine mj_ci (pc := 48) (mj_runV hcx hW [] h (Nat.le_trans (by decide) hd) (lw_V q1428 q1430 qs50 q125 q1431) yd_here (by decide) rfl rfl (Nat.le_of_ble_eq_true rfl) hl.1 dX4_number_48) hS (fun r7 σ8 h H locs hW hS => ?_)
      refine lv_iadd (pc := 51) hx hb dX4_number_51 ?_
      refine lv_bipush (pc := 52) (v := (48 : Int32)) hx hb dX4_number_52 (by decide) ?_
      refine lv_isub (pc := 54) hx hb dX4_number_54 ?_
      refine lv_istore_n (pc := 55) (lv' := [(2, .int ((((10 : Int32) * x2) + r7) - (48 : Int32))), (0, .ref (mj_o E)), (1, .int x1), (3, .int x3)]) hx hb dX4_number_55 rfl hl (by decide) rfl (fun ls hl => ?_)
      refine lv_aload_n (pc := 56) hx hb dX4_number_56 rfl (lv_at hl 1 rfl) ?_
      refine lv_dup (pc := 57) hx hb dX4_number_57 rfl ?_
      refine mj_geti (pc := 58) hcx hW 3 (by decide) rfl q1258 dX4_number_58 ?_
      refine lv_iconst (pc := 61) (v := (1 : Int32)) hx hb dX4_number_61 (by decide) ?_
      refine lv_iadd (pc := 62) hx hb dX4_number_62 ?_
      refine mj_puti (pc := 63) hcx hW hS 3 (by decide) rfl rfl rfl rfl q1258 dX4_number_63 (fun H locs hW hS => ?_)
      refine lv_iinc (pc := 66) (v := (x3 + (1 : Int32))) (lv' := [(3, .int (x3 + (1 : Int32))), (2, .int ((((10 : Int32) * x2) + r7) - (48 : Int32))), (0, .ref (mj_o E)), (1, .int x1)]) hx hb dX4_number_66 hl (k := 3) rfl rfl (by decide) rfl (fun ls hl => ?_)
      refine lv_goto (pc := 69) (tgt := 28) hx hb dX4_number_69 (by decide) ?_
      exact h d hd p e s m args below meth c hcx H locs _ hW hS (lv_sub hl [2, 3, 1, 0] rfl)
set_option maxHeartbeats 4000000 in
set_option maxRecDepth 100000 in
theorem mb_number_72 {E : mj_E} {σ : mj_S} {x1 : Int32} {x2 : Int32} {P : Int32 → mj_S → Prop} (h : ms_here E σ (fun r1 σ2 => ms_isDigit E σ2 r1 (fun r3 σ4 => ((r3 = 0 → ((x2 ≤ x1 → P x2 σ4) ∧ (¬ x2 ≤ x1 → ms_bad E (mj_sF σ4 3 ((mj_F σ4 3) - (1 : Int32))) (fun σ8 => P x2 σ8)))) ∧ (¬ r3 = 0 → ms_bad E σ4 (fun σ10 => P x2 σ10)))))) : mg_number_72 E σ x1 x2 P := by
  intro d hd p e s m args below meth c hcx H locs ls hW hS hl
  have hx := hcx.1
  have hb := hcx.2.1
  have hown := hcx.2.2.2.2.2.1
  have hts := hcx.2.2.2.2.2.2.1
  refine lv_aload_n (pc := 72) hx hb dX4_number_72 rfl (lv_at hl 0 rfl) ?_
  refine mj_ci (pc := 73) (mj_runV hcx hW [] h (Nat.le_trans (by decide) hd) (lw_V q1428 q1430 qs50 q125 q1431) yd_here (by decide) rfl rfl (Nat.le_of_ble_eq_true rfl) hl.1 dX4_number_73) hS (fun r1 σ2 h H locs hW hS => ?_)
  refine mj_ci (pc := 76) (mj_runS hcx hW [.int r1] h (Nat.le_trans (by decide) hd) (lw_S q1447 q1448 q125 q1449) yd_isDigit.2 (by decide) rfl rfl (Nat.le_of_ble_eq_true rfl) hl.1 dX4_number_76) hS (fun r3 σ4 h H locs hW hS => ?_)
  refine lv_if_eq (pc := 79) (tgt := 89) hx hb dX4_number_79 (by decide) (fun c5 => ?_) (fun c5 => ?_)
  · have h := h.1 c5
    refine lv_iload_n (pc := 89) hx hb dX4_number_89 rfl (lv_at hl 2 rfl) ?_
    refine lv_iload_n (pc := 90) hx hb dX4_number_90 rfl (lv_at hl 1 rfl) ?_
    refine lv_icmp_le (pc := 91) (tgt := 108) hx hb dX4_number_91 (by decide) (fun c6 => ?_) (fun c6 => ?_)
    · have h := h.1 c6
      refine lv_iload_n (pc := 108) hx hb dX4_number_108 rfl (lv_at hl 2 rfl) ?_
      exact mj_reti (pc := 109) hcx hW hS rfl h dX4_number_109
    · have h := h.2 c6
      refine lv_aload_n (pc := 94) hx hb dX4_number_94 rfl (lv_at hl 0 rfl) ?_
      refine lv_dup (pc := 95) hx hb dX4_number_95 rfl ?_
      refine mj_geti (pc := 96) hcx hW 3 (by decide) rfl q1258 dX4_number_96 ?_
      refine lv_iconst (pc := 99) (v := (1 : Int32)) hx hb dX4_number_99 (by decide) ?_
      refine lv_isub (pc := 100) hx hb dX4_number_100 ?_
      refine mj_puti (pc := 101) hcx hW hS 3 (by decide) rfl rfl rfl rfl q1258 dX4_number_101 (fun H locs hW hS => ?_)
      refine lv_aload_n (pc := 104) hx hb dX4_number_104 rfl (lv_at hl 0 rfl) ?_
      refine mj_cv (pc := 105) (mj_runV hcx hW [] h (Nat.le_trans (by decide) hd) (lw_V q1436 q1438 qs52 q125 q1439) yd_bad (by decide) rfl rfl (Nat.le_of_ble_eq_true rfl) hl.1 dX4_number_105) hS (fun σ8 h H locs hW hS => ?_)
      refine lv_iload_n (pc := 108) hx hb dX4_number_108 rfl (lv_at hl 2 rfl) ?_
      exact mj_reti (pc := 109) hcx hW hS rfl h dX4_number_109
  · have h := h.2 c5
    refine lv_aload_n (pc := 82) hx hb dX4_number_82 rfl (lv_at hl 0 rfl) ?_
    refine mj_cv (pc := 83) (mj_runV hcx hW [] h (Nat.le_trans (by decide) hd) (lw_V q1436 q1438 qs52 q125 q1439) yd_bad (by decide) rfl rfl (Nat.le_of_ble_eq_true rfl) hl.1 dX4_number_83) hS (fun σ10 h H locs hW hS => ?_)
    refine lv_goto (pc := 86) (tgt := 108) hx hb dX4_number_86 (by decide) ?_
    refine lv_iload_n (pc := 108) hx hb dX4_number_108 rfl (lv_at hl 2 rfl) ?_
    exact mj_reti (pc := 109) hcx hW hS rfl h dX4_number_109
set_option maxHeartbeats 4000000 in
set_option maxRecDepth 100000 in
theorem mb_number {E : mj_E} {σ : mj_S} {x1 : Int32} {P : Int32 → mj_S → Prop} (hE : mj_ok E) (h : (((mj_F σ 4) = (-1 : Int32) → ms_ahead E σ (fun r4 σ5 => ms_isDigit E σ5 r4 (fun r6 σ7 => ((r6 = 0 → ms_bad E σ7 (fun σ10 => P (0 : Int32) σ10)) ∧ (¬ r6 = 0 → mg_number_28 E σ7 x1 (0 : Int32) (0 : Int32) P))))) ∧ (¬ (mj_F σ 4) = (-1 : Int32) → ms_bad E σ (fun σ3 => P (0 : Int32) σ3)))) : ms_number E σ x1 P :=
  mj_enter (k := 2) (lv := [(0, .ref (mj_o E)), (1, .int x1)]) hE rfl (Nat.le_of_ble_eq_true rfl) rfl (by
    intro d hd p e s m args below meth c hcx H locs ls hW hS hl
    have hx := hcx.1
    have hb := hcx.2.1
    have hown := hcx.2.2.2.2.2.1
    have hts := hcx.2.2.2.2.2.2.1
    refine lv_aload_n (pc := 0) hx hb dX4_number_0 rfl (lv_at hl 0 rfl) ?_
    refine mj_geti (pc := 1) hcx hW 4 (by decide) rfl q1259 dX4_number_1 ?_
    refine lv_iconst (pc := 4) (v := (-1 : Int32)) hx hb dX4_number_4 (by decide) ?_
    refine lv_icmp_ne (pc := 5) (tgt := 18) hx hb dX4_number_5 (by decide) (fun c1 => ?_) (fun c1 => ?_)
    · have h := h.2 c1
      refine lv_aload_n (pc := 18) hx hb dX4_number_18 rfl (lv_at hl 0 rfl) ?_
      refine mj_cv (pc := 19) (mj_runV hcx hW [] h (Nat.le_trans (by decide) hd) (lw_V q1436 q1438 qs52 q125 q1439) yd_bad (by decide) rfl rfl (Nat.le_of_ble_eq_true rfl) hl.1 dX4_number_19) hS (fun σ3 h H locs hW hS => ?_)
      refine lv_iconst (pc := 22) (v := (0 : Int32)) hx hb dX4_number_22 (by decide) ?_
      exact mj_reti (pc := 23) hcx hW hS rfl h dX4_number_23
    · have h := h.1 c1
      refine lv_aload_n (pc := 8) hx hb dX4_number_8 rfl (lv_at hl 0 rfl) ?_
      refine mj_ci (pc := 9) (mj_runV hcx hW [] h (Nat.le_trans (by decide) hd) (lw_V q1424 q1426 qs49 q125 q1427) yd_ahead (by decide) rfl rfl (Nat.le_of_ble_eq_true rfl) hl.1 dX4_number_9) hS (fun r4 σ5 h H locs hW hS => ?_)
      refine mj_ci (pc := 12) (mj_runS hcx hW [.int r4] h (Nat.le_trans (by decide) hd) (lw_S q1447 q1448 q125 q1449) yd_isDigit.2 (by decide) rfl rfl (Nat.le_of_ble_eq_true rfl) hl.1 dX4_number_12) hS (fun r6 σ7 h H locs hW hS => ?_)
      refine lv_if_ne (pc := 15) (tgt := 24) hx hb dX4_number_15 (by decide) (fun c8 => ?_) (fun c8 => ?_)
      · have h := h.2 c8
        refine lv_iconst (pc := 24) (v := (0 : Int32)) hx hb dX4_number_24 (by decide) ?_
        refine lv_istore_n (pc := 25) (lv' := [(2, .int (0 : Int32)), (0, .ref (mj_o E)), (1, .int x1)]) hx hb dX4_number_25 rfl hl (by decide) rfl (fun ls hl => ?_)
        refine lv_iconst (pc := 26) (v := (0 : Int32)) hx hb dX4_number_26 (by decide) ?_
        refine lv_istore_n (pc := 27) (lv' := [(3, .int (0 : Int32)), (2, .int (0 : Int32)), (0, .ref (mj_o E)), (1, .int x1)]) hx hb dX4_number_27 rfl hl (by decide) rfl (fun ls hl => ?_)
        exact h d hd p e s m args below meth c hcx H locs _ hW hS (lv_sub hl [2, 3, 1, 0] rfl)
      · have h := h.1 c8
        refine lv_aload_n (pc := 18) hx hb dX4_number_18 rfl (lv_at hl 0 rfl) ?_
        refine mj_cv (pc := 19) (mj_runV hcx hW [] h (Nat.le_trans (by decide) hd) (lw_V q1436 q1438 qs52 q125 q1439) yd_bad (by decide) rfl rfl (Nat.le_of_ble_eq_true rfl) hl.1 dX4_number_19) hS (fun σ10 h H locs hW hS => ?_)
        refine lv_iconst (pc := 22) (v := (0 : Int32)) hx hb dX4_number_22 (by decide) ?_
        exact mj_reti (pc := 23) hcx hW hS rfl h dX4_number_23)
/-! plain -/
set_option maxHeartbeats 4000000 in
set_option maxRecDepth 100000 in
theorem mb_plain_13 {E : mj_E} {σ : mj_S} {x1 : Int32} {x2 : Int32} {P : Int32 → mj_S → Prop} (h : (((mj_F σ 17) ≤ x2 → P x1 σ) ∧ (¬ (mj_F σ 17) ≤ x2 → ms_isUsed E σ x2 (fun r2 σ3 => ((r2 = 0 → mg_plain_13 E σ3 (x1 * (1 : Int32)) (x2 + (1 : Int32)) P) ∧ (¬ r2 = 0 → ms_many E σ3 x2 (fun r5 σ6 => mg_plain_13 E σ6 (x1 * r5) (x2 + (1 : Int32)) P))))))) : mg_plain_13 E σ x1 x2 P := by
  intro d hd p e s m args below meth c hcx H locs ls hW hS hl
  have hx := hcx.1
  have hb := hcx.2.1
  have hown := hcx.2.2.2.2.2.1
  have hts := hcx.2.2.2.2.2.2.1
  refine lv_iload_n (pc := 13) hx hb dX4_plain_13 rfl (lv_at hl 2 rfl) ?_
  refine lv_aload_n (pc := 14) hx hb dX4_plain_14 rfl (lv_at hl 0 rfl) ?_
  refine mj_geti (pc := 15) hcx hW 17 (by decide) rfl q1272 dX4_plain_15 ?_
  refine lv_icmp_ge (pc := 18) (tgt := 47) hx hb dX4_plain_18 (by decide) (fun c1 => ?_) (fun c1 => ?_)
  · have h := h.1 c1
    refine lv_iload_n (pc := 47) hx hb dX4_plain_47 rfl (lv_at hl 1 rfl) ?_
    exact mj_reti (pc := 48) hcx hW hS rfl h dX4_plain_48
  · have h := h.2 c1
    refine lv_iload_n (pc := 21) hx hb dX4_plain_21 rfl (lv_at hl 1 rfl) ?_
    refine lv_aload_n (pc := 22) hx hb dX4_plain_22 rfl (lv_at hl 0 rfl) ?_
    refine lv_iload_n (pc := 23) hx hb dX4_plain_23 rfl (lv_at hl 2 rfl) ?_
    refine mj_ci (pc := 24) (mj_runV hcx hW [.int x2] h (Nat.le_trans (by decide) hd) (lw_V q1553 q1555 qs77 q125 q1556) yd_isUsed (by decide) rfl rfl (Nat.le_of_ble_eq_true rfl) hl.1 dX4_plain_24) hS (fun r2 σ3 h H locs hW hS => ?_)
    refine lv_if_eq (pc := 27) (tgt := 38) hx hb dX4_plain_27 (by decide) (fun c4 => ?_) (fun c4 => ?_)
    · have h := h.1 c4
      refine lv_iconst (pc := 38) (v := (1 : Int32)) hx hb dX4_plain_38 (by decide) ?_
      refine lv_imul (pc := 39) hx hb dX4_plain_39 ?_
      refine lv_istore_n (pc := 40) (lv' := [(1, .int (x1 * (1 : Int32))), (0, .ref (mj_o E)), (2, .int x2)]) hx hb dX4_plain_40 rfl hl (by decide) rfl (fun ls hl => ?_)
      refine lv_iinc (pc := 41) (v := (x2 + (1 : Int32))) (lv' := [(2, .int (x2 + (1 : Int32))), (1, .int (x1 * (1 : Int32))), (0, .ref (mj_o E))]) hx hb dX4_plain_41 hl (k := 2) rfl rfl (by decide) rfl (fun ls hl => ?_)
      refine lv_goto (pc := 44) (tgt := 13) hx hb dX4_plain_44 (by decide) ?_
      exact h d hd p e s m args below meth c hcx H locs _ hW hS (lv_sub hl [2, 1, 0] rfl)
    · have h := h.2 c4
      refine lv_aload_n (pc := 30) hx hb dX4_plain_30 rfl (lv_at hl 0 rfl) ?_
      refine lv_iload_n (pc := 31) hx hb dX4_plain_31 rfl (lv_at hl 2 rfl) ?_
      refine mj_ci (pc := 32) (mj_runV hcx hW [.int x2] h (Nat.le_trans (by decide) hd) (lw_V q1490 q1492 qs63 q125 q1493) yd_many (by decide) rfl rfl (Nat.le_of_ble_eq_true rfl) hl.1 dX4_plain_32) hS (fun r5 σ6 h H locs hW hS => ?_)
      refine lv_goto (pc := 35) (tgt := 39) hx hb dX4_plain_35 (by decide) ?_
      refine lv_imul (pc := 39) hx hb dX4_plain_39 ?_
      refine lv_istore_n (pc := 40) (lv' := [(1, .int (x1 * r5)), (0, .ref (mj_o E)), (2, .int x2)]) hx hb dX4_plain_40 rfl hl (by decide) rfl (fun ls hl => ?_)
      refine lv_iinc (pc := 41) (v := (x2 + (1 : Int32))) (lv' := [(2, .int (x2 + (1 : Int32))), (1, .int (x1 * r5)), (0, .ref (mj_o E))]) hx hb dX4_plain_41 hl (k := 2) rfl rfl (by decide) rfl (fun ls hl => ?_)
      refine lv_goto (pc := 44) (tgt := 13) hx hb dX4_plain_44 (by decide) ?_
      exact h d hd p e s m args below meth c hcx H locs _ hW hS (lv_sub hl [2, 1, 0] rfl)
set_option maxHeartbeats 4000000 in
set_option maxRecDepth 100000 in
theorem mb_plain {E : mj_E} {σ : mj_S} {P : Int32 → mj_S → Prop} (hE : mj_ok E) (h : ms_areTables E σ (fun r1 σ2 => ((r1 = 0 → P (-1 : Int32) σ2) ∧ (¬ r1 = 0 → mg_plain_13 E σ2 (1 : Int32) (0 : Int32) P)))) : ms_plain E σ P :=
  mj_enter (k := 2) (lv := [(0, .ref (mj_o E))]) hE rfl (Nat.le_of_ble_eq_true rfl) rfl (by
    intro d hd p e s m args below meth c hcx H locs ls hW hS hl
    have hx := hcx.1
    have hb := hcx.2.1
    have hown := hcx.2.2.2.2.2.1
    have hts := hcx.2.2.2.2.2.2.1
    refine lv_aload_n (pc := 0) hx hb dX4_plain_0 rfl (lv_at hl 0 rfl) ?_
    refine mj_ci (pc := 1) (mj_runV hcx hW [] h (Nat.le_trans (by decide) hd) (lw_V q1533 q1535 qs72 q125 q1536) yd_areTables (by decide) rfl rfl (Nat.le_of_ble_eq_true rfl) hl.1 dX4_plain_1) hS (fun r1 σ2 h H locs hW hS => ?_)
    refine lv_if_ne (pc := 4) (tgt := 9) hx hb dX4_plain_4 (by decide) (fun c3 => ?_) (fun c3 => ?_)
    · have h := h.2 c3
      refine lv_iconst (pc := 9) (v := (1 : Int32)) hx hb dX4_plain_9 (by decide) ?_
      refine lv_istore_n (pc := 10) (lv' := [(1, .int (1 : Int32)), (0, .ref (mj_o E))]) hx hb dX4_plain_10 rfl hl (by decide) rfl (fun ls hl => ?_)
      refine lv_iconst (pc := 11) (v := (0 : Int32)) hx hb dX4_plain_11 (by decide) ?_
      refine lv_istore_n (pc := 12) (lv' := [(2, .int (0 : Int32)), (1, .int (1 : Int32)), (0, .ref (mj_o E))]) hx hb dX4_plain_12 rfl hl (by decide) rfl (fun ls hl => ?_)
      exact h d hd p e s m args below meth c hcx H locs _ hW hS (lv_sub hl [2, 1, 0] rfl)
    · have h := h.1 c3
      refine lv_iconst (pc := 7) (v := (-1 : Int32)) hx hb dX4_plain_7 (by decide) ?_
      exact mj_reti (pc := 8) hcx hW hS rfl h dX4_plain_8)
/-! step -/
set_option maxHeartbeats 4000000 in
set_option maxRecDepth 100000 in
theorem mb_step {E : mj_E} {σ : mj_S} {x1 : Int32} {x2 : Int32} {x3 : Int32} {P : Int32 → mj_S → Prop} (hE : mj_ok E) (h : ms_isScript E σ x1 (fun r1 σ2 => ((r1 = 0 → P (-1000000 : Int32) σ2) ∧ (¬ r1 = 0 → (vp_in x1 5 ∧ ms_in E σ2 x2 (0 : Int32) ((mj_A σ2 11 x1.toNatClampNeg) - (1 : Int32)) (fun r5 σ6 => ((r5 = 0 → P (-1000000 : Int32) σ6) ∧ (¬ r5 = 0 → ms_in E σ6 x3 (0 : Int32) (4 : Int32) (fun r8 σ9 => ((r8 = 0 → P (-1000000 : Int32) σ9) ∧ (¬ r8 = 0 → (vp_in (((5 : Int32) * (((12 : Int32) * x1) + x2)) + x3) 300 ∧ P (mj_A σ9 10 (((5 : Int32) * (((12 : Int32) * x1) + x2)) + x3).toNatClampNeg) σ9)))))))))))) : ms_step E σ x1 x2 x3 P :=
  mj_enter (k := 2) (lv := [(0, .ref (mj_o E)), (1, .int x1), (2, .int x2), (3, .int x3)]) hE rfl (Nat.le_of_ble_eq_true rfl) rfl (by
    intro d hd p e s m args below meth c hcx H locs ls hW hS hl
    have hx := hcx.1
    have hb := hcx.2.1
    have hown := hcx.2.2.2.2.2.1
    have hts := hcx.2.2.2.2.2.2.1
    refine lv_aload_n (pc := 0) hx hb dX4_step_0 rfl (lv_at hl 0 rfl) ?_
    refine lv_iload_n (pc := 1) hx hb dX4_step_1 rfl (lv_at hl 1 rfl) ?_
    refine mj_ci (pc := 2) (mj_runV hcx hW [.int x1] h (Nat.le_trans (by decide) hd) (lw_V q1832 q1834 qs115 q125 q1835) yd_isScript (by decide) rfl rfl (Nat.le_of_ble_eq_true rfl) hl.1 dX4_step_2) hS (fun r1 σ2 h H locs hW hS => ?_)
    refine lv_if_eq (pc := 5) (tgt := 51) hx hb dX4_step_5 (by decide) (fun c3 => ?_) (fun c3 => ?_)
    · have h := h.1 c3
      refine lv_ldcw (pc := 51) (v := (-1000000 : Int32)) hx hb hown (hts _ q1676) dX4_step_51 ?_
      exact mj_reti (pc := 54) hcx hW hS rfl h dX4_step_54
    · have h := h.2 c3
      refine lv_iload_n (pc := 8) hx hb dX4_step_8 rfl (lv_at hl 2 rfl) ?_
      refine lv_iconst (pc := 9) (v := (0 : Int32)) hx hb dX4_step_9 (by decide) ?_
      refine lv_aload_n (pc := 10) hx hb dX4_step_10 rfl (lv_at hl 0 rfl) ?_
      refine mj_geta (pc := 11) hcx hW 11 (by decide) rfl q1266 dX4_step_11 ?_
      refine lv_iload_n (pc := 14) hx hb dX4_step_14 rfl (lv_at hl 1 rfl) ?_
      obtain ⟨g4, h⟩ := h
      refine mj_ald (pc := 15) hcx hW 11 rfl rfl g4 dX4_step_15 ?_
      refine lv_iconst (pc := 16) (v := (1 : Int32)) hx hb dX4_step_16 (by decide) ?_
      refine lv_isub (pc := 17) hx hb dX4_step_17 ?_
      refine mj_ci (pc := 18) (mj_runS hcx hW [.int x2, .int (0 : Int32), .int ((mj_A σ2 11 x1.toNatClampNeg) - (1 : Int32))] h (Nat.le_trans (by decide) hd) (lw_S q1401 q1402 q125 q1403) yd_in.2 (by decide) rfl rfl (Nat.le_of_ble_eq_true rfl) hl.1 dX4_step_18) hS (fun r5 σ6 h H locs hW hS => ?_)
      refine lv_if_eq (pc := 21) (tgt := 51) hx hb dX4_step_21 (by decide) (fun c7 => ?_) (fun c7 => ?_)
      · have h := h.1 c7
        refine lv_ldcw (pc := 51) (v := (-1000000 : Int32)) hx hb hown (hts _ q1676) dX4_step_51 ?_
        exact mj_reti (pc := 54) hcx hW hS rfl h dX4_step_54
      · have h := h.2 c7
        refine lv_iload_n (pc := 24) hx hb dX4_step_24 rfl (lv_at hl 3 rfl) ?_
        refine lv_iconst (pc := 25) (v := (0 : Int32)) hx hb dX4_step_25 (by decide) ?_
        refine lv_iconst (pc := 26) (v := (4 : Int32)) hx hb dX4_step_26 (by decide) ?_
        refine mj_ci (pc := 27) (mj_runS hcx hW [.int x3, .int (0 : Int32), .int (4 : Int32)] h (Nat.le_trans (by decide) hd) (lw_S q1401 q1402 q125 q1403) yd_in.2 (by decide) rfl rfl (Nat.le_of_ble_eq_true rfl) hl.1 dX4_step_27) hS (fun r8 σ9 h H locs hW hS => ?_)
        refine lv_if_eq (pc := 30) (tgt := 51) hx hb dX4_step_30 (by decide) (fun c10 => ?_) (fun c10 => ?_)
        · have h := h.1 c10
          refine lv_ldcw (pc := 51) (v := (-1000000 : Int32)) hx hb hown (hts _ q1676) dX4_step_51 ?_
          exact mj_reti (pc := 54) hcx hW hS rfl h dX4_step_54
        · have h := h.2 c10
          refine lv_aload_n (pc := 33) hx hb dX4_step_33 rfl (lv_at hl 0 rfl) ?_
          refine mj_geta (pc := 34) hcx hW 10 (by decide) rfl q1265 dX4_step_34 ?_
          refine lv_iconst (pc := 37) (v := (5 : Int32)) hx hb dX4_step_37 (by decide) ?_
          refine lv_bipush (pc := 38) (v := (12 : Int32)) hx hb dX4_step_38 (by decide) ?_
          refine lv_iload_n (pc := 40) hx hb dX4_step_40 rfl (lv_at hl 1 rfl) ?_
          refine lv_imul (pc := 41) hx hb dX4_step_41 ?_
          refine lv_iload_n (pc := 42) hx hb dX4_step_42 rfl (lv_at hl 2 rfl) ?_
          refine lv_iadd (pc := 43) hx hb dX4_step_43 ?_
          refine lv_imul (pc := 44) hx hb dX4_step_44 ?_
          refine lv_iload_n (pc := 45) hx hb dX4_step_45 rfl (lv_at hl 3 rfl) ?_
          refine lv_iadd (pc := 46) hx hb dX4_step_46 ?_
          obtain ⟨g11, h⟩ := h
          refine mj_ald (pc := 47) hcx hW 10 rfl rfl g11 dX4_step_47 ?_
          refine lv_goto (pc := 48) (tgt := 54) hx hb dX4_step_48 (by decide) ?_
          exact mj_reti (pc := 54) hcx hW hS rfl h dX4_step_54)
/-! table -/
set_option maxHeartbeats 4000000 in
set_option maxRecDepth 100000 in
theorem mb_table_23 {E : mj_E} {σ : mj_S} {x1 : Int32} {x2 : Int32} {t0 : Int32} {P : Int32 → mj_S → Prop} (h : (((mj_F (mj_sF σ 0 t0) 0) = (1 : Int32) → P (0 : Int32) (mj_sF σ 0 t0)) ∧ (¬ (mj_F (mj_sF σ 0 t0) 0) = (1 : Int32) → ((x2 = 0 → (vp_in x1 4 ∧ P (mj_A (mj_sF σ 0 t0) 15 x1.toNatClampNeg) (mj_sF σ 0 t0))) ∧ (¬ x2 = 0 → ((x2 = (1 : Int32) → ms_lettersOf E (mj_sF σ 0 t0) x1 (fun r10 σ11 => P r10 σ11)) ∧ (¬ x2 = (1 : Int32) → ((x2 = (2 : Int32) → ms_many E (mj_sF σ 0 t0) x1 (fun r8 σ9 => P r8 σ9)) ∧ (¬ x2 = (2 : Int32) → ms_isUsed E (mj_sF σ 0 t0) x1 (fun r5 σ6 => ((r5 = 0 → P (0 : Int32) σ6) ∧ (¬ r5 = 0 → P (1 : Int32) σ6)))))))))))) : mg_table_23 E σ x1 x2 t0 P := by
  intro d hd p e s m args below meth c hcx H locs ls hW hS hl
  have hx := hcx.1
  have hb := hcx.2.1
  have hown := hcx.2.2.2.2.2.1
  have hts := hcx.2.2.2.2.2.2.1
  refine mj_puti (pc := 23) hcx hW hS 0 (by decide) rfl rfl rfl rfl q1255 dX4_table_23 (fun H locs hW hS => ?_)
  refine lv_aload_n (pc := 26) hx hb dX4_table_26 rfl (lv_at hl 0 rfl) ?_
  refine mj_geti (pc := 27) hcx hW 0 (by decide) rfl q1255 dX4_table_27 ?_
  refine lv_iconst (pc := 30) (v := (1 : Int32)) hx hb dX4_table_30 (by decide) ?_
  refine lv_icmp_ne (pc := 31) (tgt := 36) hx hb dX4_table_31 (by decide) (fun c1 => ?_) (fun c1 => ?_)
  · have h := h.2 c1
    refine lv_iload_n (pc := 36) hx hb dX4_table_36 rfl (lv_at hl 2 rfl) ?_
    refine lv_if_ne (pc := 37) (tgt := 49) hx hb dX4_table_37 (by decide) (fun c2 => ?_) (fun c2 => ?_)
    · have h := h.2 c2
      refine lv_iload_n (pc := 49) hx hb dX4_table_49 rfl (lv_at hl 2 rfl) ?_
      refine lv_iconst (pc := 50) (v := (1 : Int32)) hx hb dX4_table_50 (by decide) ?_
      refine lv_icmp_ne (pc := 51) (tgt := 62) hx hb dX4_table_51 (by decide) (fun c3 => ?_) (fun c3 => ?_)
      · have h := h.2 c3
        refine lv_iload_n (pc := 62) hx hb dX4_table_62 rfl (lv_at hl 2 rfl) ?_
        refine lv_iconst (pc := 63) (v := (2 : Int32)) hx hb dX4_table_63 (by decide) ?_
        refine lv_icmp_ne (pc := 64) (tgt := 75) hx hb dX4_table_64 (by decide) (fun c4 => ?_) (fun c4 => ?_)
        · have h := h.2 c4
          refine lv_aload_n (pc := 75) hx hb dX4_table_75 rfl (lv_at hl 0 rfl) ?_
          refine lv_iload_n (pc := 76) hx hb dX4_table_76 rfl (lv_at hl 1 rfl) ?_
          refine mj_ci (pc := 77) (mj_runV hcx hW [.int x1] h (Nat.le_trans (by decide) hd) (lw_V q1553 q1555 qs77 q125 q1556) yd_isUsed (by decide) rfl rfl (Nat.le_of_ble_eq_true rfl) hl.1 dX4_table_77) hS (fun r5 σ6 h H locs hW hS => ?_)
          refine lv_if_eq (pc := 80) (tgt := 87) hx hb dX4_table_80 (by decide) (fun c7 => ?_) (fun c7 => ?_)
          · have h := h.1 c7
            refine lv_iconst (pc := 87) (v := (0 : Int32)) hx hb dX4_table_87 (by decide) ?_
            exact mj_reti (pc := 88) hcx hW hS rfl h dX4_table_88
          · have h := h.2 c7
            refine lv_iconst (pc := 83) (v := (1 : Int32)) hx hb dX4_table_83 (by decide) ?_
            refine lv_goto (pc := 84) (tgt := 88) hx hb dX4_table_84 (by decide) ?_
            exact mj_reti (pc := 88) hcx hW hS rfl h dX4_table_88
        · have h := h.1 c4
          refine lv_aload_n (pc := 67) hx hb dX4_table_67 rfl (lv_at hl 0 rfl) ?_
          refine lv_iload_n (pc := 68) hx hb dX4_table_68 rfl (lv_at hl 1 rfl) ?_
          refine mj_ci (pc := 69) (mj_runV hcx hW [.int x1] h (Nat.le_trans (by decide) hd) (lw_V q1490 q1492 qs63 q125 q1493) yd_many (by decide) rfl rfl (Nat.le_of_ble_eq_true rfl) hl.1 dX4_table_69) hS (fun r8 σ9 h H locs hW hS => ?_)
          refine lv_goto (pc := 72) (tgt := 88) hx hb dX4_table_72 (by decide) ?_
          exact mj_reti (pc := 88) hcx hW hS rfl h dX4_table_88
      · have h := h.1 c3
        refine lv_aload_n (pc := 54) hx hb dX4_table_54 rfl (lv_at hl 0 rfl) ?_
        refine lv_iload_n (pc := 55) hx hb dX4_table_55 rfl (lv_at hl 1 rfl) ?_
        refine mj_ci (pc := 56) (mj_runV hcx hW [.int x1] h (Nat.le_trans (by decide) hd) (lw_V q1581 q1583 qs84 q125 q1584) yd_lettersOf (by decide) rfl rfl (Nat.le_of_ble_eq_true rfl) hl.1 dX4_table_56) hS (fun r10 σ11 h H locs hW hS => ?_)
        refine lv_goto (pc := 59) (tgt := 88) hx hb dX4_table_59 (by decide) ?_
        exact mj_reti (pc := 88) hcx hW hS rfl h dX4_table_88
    · have h := h.1 c2
      refine lv_aload_n (pc := 40) hx hb dX4_table_40 rfl (lv_at hl 0 rfl) ?_
      refine mj_geta (pc := 41) hcx hW 15 (by decide) rfl q1270 dX4_table_41 ?_
      refine lv_iload_n (pc := 44) hx hb dX4_table_44 rfl (lv_at hl 1 rfl) ?_
      obtain ⟨g12, h⟩ := h
      refine mj_ald (pc := 45) hcx hW 15 rfl rfl g12 dX4_table_45 ?_
      refine lv_goto (pc := 46) (tgt := 88) hx hb dX4_table_46 (by decide) ?_
      exact mj_reti (pc := 88) hcx hW hS rfl h dX4_table_88
  · have h := h.1 c1
    refine lv_iconst (pc := 34) (v := (0 : Int32)) hx hb dX4_table_34 (by decide) ?_
    exact mj_reti (pc := 35) hcx hW hS rfl h dX4_table_35
set_option maxHeartbeats 4000000 in
set_option maxRecDepth 100000 in
theorem mb_table {E : mj_E} {σ : mj_S} {x1 : Int32} {x2 : Int32} {P : Int32 → mj_S → Prop} (hE : mj_ok E) (h : ms_isTable E σ x1 (fun r1 σ2 => ((r1 = 0 → mg_table_23 E σ2 x1 x2 (1 : Int32) P) ∧ (¬ r1 = 0 → ms_in E σ2 x2 (0 : Int32) (3 : Int32) (fun r4 σ5 => ((r4 = 0 → mg_table_23 E σ5 x1 x2 (1 : Int32) P) ∧ (¬ r4 = 0 → mg_table_23 E σ5 x1 x2 (0 : Int32) P))))))) : ms_table E σ x1 x2 P :=
  mj_enter (k := 2) (lv := [(0, .ref (mj_o E)), (1, .int x1), (2, .int x2)]) hE rfl (Nat.le_of_ble_eq_true rfl) rfl (by
    intro d hd p e s m args below meth c hcx H locs ls hW hS hl
    have hx := hcx.1
    have hb := hcx.2.1
    have hown := hcx.2.2.2.2.2.1
    have hts := hcx.2.2.2.2.2.2.1
    refine lv_aload_n (pc := 0) hx hb dX4_table_0 rfl (lv_at hl 0 rfl) ?_
    refine lv_aload_n (pc := 1) hx hb dX4_table_1 rfl (lv_at hl 0 rfl) ?_
    refine lv_iload_n (pc := 2) hx hb dX4_table_2 rfl (lv_at hl 1 rfl) ?_
    refine mj_ci (pc := 3) (mj_runV hcx hW [.int x1] h (Nat.le_trans (by decide) hd) (lw_V q1521 q1523 qs69 q125 q1524) yd_isTable (by decide) rfl rfl (Nat.le_of_ble_eq_true rfl) hl.1 dX4_table_3) hS (fun r1 σ2 h H locs hW hS => ?_)
    refine lv_if_eq (pc := 6) (tgt := 22) hx hb dX4_table_6 (by decide) (fun c3 => ?_) (fun c3 => ?_)
    · have h := h.1 c3
      refine lv_iconst (pc := 22) (v := (1 : Int32)) hx hb dX4_table_22 (by decide) ?_
      exact h d hd p e s m args below meth c hcx H locs _ hW hS (lv_sub hl [0, 1, 2] rfl)
    · have h := h.2 c3
      refine lv_iload_n (pc := 9) hx hb dX4_table_9 rfl (lv_at hl 2 rfl) ?_
      refine lv_iconst (pc := 10) (v := (0 : Int32)) hx hb dX4_table_10 (by decide) ?_
      refine lv_iconst (pc := 11) (v := (3 : Int32)) hx hb dX4_table_11 (by decide) ?_
      refine mj_ci (pc := 12) (mj_runS hcx hW [.int x2, .int (0 : Int32), .int (3 : Int32)] h (Nat.le_trans (by decide) hd) (lw_S q1401 q1402 q125 q1403) yd_in.2 (by decide) rfl rfl (Nat.le_of_ble_eq_true rfl) hl.1 dX4_table_12) hS (fun r4 σ5 h H locs hW hS => ?_)
      refine lv_if_eq (pc := 15) (tgt := 22) hx hb dX4_table_15 (by decide) (fun c6 => ?_) (fun c6 => ?_)
      · have h := h.1 c6
        refine lv_iconst (pc := 22) (v := (1 : Int32)) hx hb dX4_table_22 (by decide) ?_
        exact h d hd p e s m args below meth c hcx H locs _ hW hS (lv_sub hl [0, 1, 2] rfl)
      · have h := h.2 c6
        refine lv_iconst (pc := 18) (v := (0 : Int32)) hx hb dX4_table_18 (by decide) ?_
        refine lv_goto (pc := 19) (tgt := 23) hx hb dX4_table_19 (by decide) ?_
        exact h d hd p e s m args below meth c hcx H locs _ hW hS (lv_sub hl [0, 1, 2] rfl))
/-! firstBehind -/
set_option maxHeartbeats 4000000 in
set_option maxRecDepth 100000 in
theorem mb_firstBehind_2 {E : mj_E} {σ : mj_S} {x1 : Int32} {x2 : Int32} {x3 : Int32} {P : Int32 → mj_S → Prop} (h : (((mj_F σ 17) ≤ x3 → P (-1 : Int32) σ) ∧ (¬ (mj_F σ 17) ≤ x3 → ms_isIn E σ x3 x1 (fun r2 σ3 => ((r2 = 0 → mg_firstBehind_2 E σ3 x1 x2 (x3 + (1 : Int32)) P) ∧ (¬ r2 = 0 → ms_keyAt E σ3 x1 x3 (fun r5 σ6 => ((x2 ≤ r5 → mg_firstBehind_2 E σ6 x1 x2 (x3 + (1 : Int32)) P) ∧ (¬ x2 ≤ r5 → P x3 σ6))))))))) : mg_firstBehind_2 E σ x1 x2 x3 P := by
  intro d hd p e s m args below meth c hcx H locs ls hW hS hl
  have hx := hcx.1
  have hb := hcx.2.1
  have hown := hcx.2.2.2.2.2.1
  have hts := hcx.2.2.2.2.2.2.1
  refine lv_iload_n (pc := 2) hx hb dX4_firstBehind_2 rfl (lv_at hl 3 rfl) ?_
  refine lv_aload_n (pc := 3) hx hb dX4_firstBehind_3 rfl (lv_at hl 0 rfl) ?_
  refine mj_geti (pc := 4) hcx hW 17 (by decide) rfl q1272 dX4_firstBehind_4 ?_
  refine lv_icmp_ge (pc := 7) (tgt := 37) hx hb dX4_firstBehind_7 (by decide) (fun c1 => ?_) (fun c1 => ?_)
  · have h := h.1 c1
    refine lv_iconst (pc := 37) (v := (-1 : Int32)) hx hb dX4_firstBehind_37 (by decide) ?_
    exact mj_reti (pc := 38) hcx hW hS rfl h dX4_firstBehind_38
  · have h := h.2 c1
    refine lv_aload_n (pc := 10) hx hb dX4_firstBehind_10 rfl (lv_at hl 0 rfl) ?_
    refine lv_iload_n (pc := 11) hx hb dX4_firstBehind_11 rfl (lv_at hl 3 rfl) ?_
    refine lv_iload_n (pc := 12) hx hb dX4_firstBehind_12 rfl (lv_at hl 1 rfl) ?_
    refine mj_ci (pc := 13) (mj_runV hcx hW [.int x3, .int x1] h (Nat.le_trans (by decide) hd) (lw_V q1597 q1599 qs88 q125 q1600) yd_isIn (by decide) rfl rfl (Nat.le_of_ble_eq_true rfl) hl.1 dX4_firstBehind_13) hS (fun r2 σ3 h H locs hW hS => ?_)
    refine lv_if_eq (pc := 16) (tgt := 31) hx hb dX4_firstBehind_16 (by decide) (fun c4 => ?_) (fun c4 => ?_)
    · have h := h.1 c4
      refine lv_iinc (pc := 31) (v := (x3 + (1 : Int32))) (lv' := [(3, .int (x3 + (1 : Int32))), (0, .ref (mj_o E)), (1, .int x1), (2, .int x2)]) hx hb dX4_firstBehind_31 hl (k := 3) rfl rfl (by decide) rfl (fun ls hl => ?_)
      refine lv_goto (pc := 34) (tgt := 2) hx hb dX4_firstBehind_34 (by decide) ?_
      exact h d hd p e s m args below meth c hcx H locs _ hW hS (lv_sub hl [1, 2, 3, 0] rfl)
    · have h := h.2 c4
      refine lv_aload_n (pc := 19) hx hb dX4_firstBehind_19 rfl (lv_at hl 0 rfl) ?_
      refine lv_iload_n (pc := 20) hx hb dX4_firstBehind_20 rfl (lv_at hl 1 rfl) ?_
      refine lv_iload_n (pc := 21) hx hb dX4_firstBehind_21 rfl (lv_at hl 3 rfl) ?_
      refine mj_ci (pc := 22) (mj_runV hcx hW [.int x1, .int x3] h (Nat.le_trans (by decide) hd) (lw_V q1617 q1619 qs93 q125 q1620) yd_keyAt (by decide) rfl rfl (Nat.le_of_ble_eq_true rfl) hl.1 dX4_firstBehind_22) hS (fun r5 σ6 h H locs hW hS => ?_)
      refine lv_iload_n (pc := 25) hx hb dX4_firstBehind_25 rfl (lv_at hl 2 rfl) ?_
      refine lv_icmp_ge (pc := 26) (tgt := 31) hx hb dX4_firstBehind_26 (by decide) (fun c7 => ?_) (fun c7 => ?_)
      · have h := h.1 c7
        refine lv_iinc (pc := 31) (v := (x3 + (1 : Int32))) (lv' := [(3, .int (x3 + (1 : Int32))), (0, .ref (mj_o E)), (1, .int x1), (2, .int x2)]) hx hb dX4_firstBehind_31 hl (k := 3) rfl rfl (by decide) rfl (fun ls hl => ?_)
        refine lv_goto (pc := 34) (tgt := 2) hx hb dX4_firstBehind_34 (by decide) ?_
        exact h d hd p e s m args below meth c hcx H locs _ hW hS (lv_sub hl [1, 2, 3, 0] rfl)
      · have h := h.2 c7
        refine lv_iload_n (pc := 29) hx hb dX4_firstBehind_29 rfl (lv_at hl 3 rfl) ?_
        exact mj_reti (pc := 30) hcx hW hS rfl h dX4_firstBehind_30
set_option maxHeartbeats 4000000 in
set_option maxRecDepth 100000 in
theorem mb_firstBehind {E : mj_E} {σ : mj_S} {x1 : Int32} {x2 : Int32} {P : Int32 → mj_S → Prop} (hE : mj_ok E) (h : mg_firstBehind_2 E σ x1 x2 (0 : Int32) P) : ms_firstBehind E σ x1 x2 P :=
  mj_enter (k := 3) (lv := [(0, .ref (mj_o E)), (1, .int x1), (2, .int x2)]) hE rfl (Nat.le_of_ble_eq_true rfl) rfl (by
    intro d hd p e s m args below meth c hcx H locs ls hW hS hl
    have hx := hcx.1
    have hb := hcx.2.1
    have hown := hcx.2.2.2.2.2.1
    have hts := hcx.2.2.2.2.2.2.1
    refine lv_iconst (pc := 0) (v := (0 : Int32)) hx hb dX4_firstBehind_0 (by decide) ?_
    refine lv_istore_n (pc := 1) (lv' := [(3, .int (0 : Int32)), (0, .ref (mj_o E)), (1, .int x1), (2, .int x2)]) hx hb dX4_firstBehind_1 rfl hl (by decide) rfl (fun ls hl => ?_)
    exact h d hd p e s m args below meth c hcx H locs _ hW hS (lv_sub hl [1, 2, 3, 0] rfl))
/-! firstIn -/
set_option maxHeartbeats 4000000 in
set_option maxRecDepth 100000 in
theorem mb_firstIn_2 {E : mj_E} {σ : mj_S} {x1 : Int32} {x2 : Int32} {P : Int32 → mj_S → Prop} (h : ms_isIn E σ x2 x1 (fun r1 σ2 => ((r1 = 0 → mg_firstIn_2 E σ2 x1 (x2 + (1 : Int32)) P) ∧ (¬ r1 = 0 → P x2 σ2)))) : mg_firstIn_2 E σ x1 x2 P := by
  intro d hd p e s m args below meth c hcx H locs ls hW hS hl
  have hx := hcx.1
  have hb := hcx.2.1
  have hown := hcx.2.2.2.2.2.1
  have hts := hcx.2.2.2.2.2.2.1
  refine lv_aload_n (pc := 2) hx hb dX4_firstIn_2 rfl (lv_at hl 0 rfl) ?_
  refine lv_iload_n (pc := 3) hx hb dX4_firstIn_3 rfl (lv_at hl 2 rfl) ?_
  refine lv_iload_n (pc := 4) hx hb dX4_firstIn_4 rfl (lv_at hl 1 rfl) ?_
  refine mj_ci (pc := 5) (mj_runV hcx hW [.int x2, .int x1] h (Nat.le_trans (by decide) hd) (lw_V q1597 q1599 qs88 q125 q1600) yd_isIn (by decide) rfl rfl (Nat.le_of_ble_eq_true rfl) hl.1 dX4_firstIn_5) hS (fun r1 σ2 h H locs hW hS => ?_)
  refine lv_if_ne (pc := 8) (tgt := 17) hx hb dX4_firstIn_8 (by decide) (fun c3 => ?_) (fun c3 => ?_)
  · have h := h.2 c3
    refine lv_iload_n (pc := 17) hx hb dX4_firstIn_17 rfl (lv_at hl 2 rfl) ?_
    exact mj_reti (pc := 18) hcx hW hS rfl h dX4_firstIn_18
  · have h := h.1 c3
    refine lv_iinc (pc := 11) (v := (x2 + (1 : Int32))) (lv' := [(2, .int (x2 + (1 : Int32))), (0, .ref (mj_o E)), (1, .int x1)]) hx hb dX4_firstIn_11 hl (k := 2) rfl rfl (by decide) rfl (fun ls hl => ?_)
    refine lv_goto (pc := 14) (tgt := 2) hx hb dX4_firstIn_14 (by decide) ?_
    exact h d hd p e s m args below meth c hcx H locs _ hW hS (lv_sub hl [1, 2, 0] rfl)
set_option maxHeartbeats 4000000 in
set_option maxRecDepth 100000 in
theorem mb_firstIn {E : mj_E} {σ : mj_S} {x1 : Int32} {P : Int32 → mj_S → Prop} (hE : mj_ok E) (h : mg_firstIn_2 E σ x1 (0 : Int32) P) : ms_firstIn E σ x1 P :=
  mj_enter (k := 3) (lv := [(0, .ref (mj_o E)), (1, .int x1)]) hE rfl (Nat.le_of_ble_eq_true rfl) rfl (by
    intro d hd p e s m args below meth c hcx H locs ls hW hS hl
    have hx := hcx.1
    have hb := hcx.2.1
    have hown := hcx.2.2.2.2.2.1
    have hts := hcx.2.2.2.2.2.2.1
    refine lv_iconst (pc := 0) (v := (0 : Int32)) hx hb dX4_firstIn_0 (by decide) ?_
    refine lv_istore_n (pc := 1) (lv' := [(2, .int (0 : Int32)), (0, .ref (mj_o E)), (1, .int x1)]) hx hb dX4_firstIn_1 rfl hl (by decide) rfl (fun ls hl => ?_)
    exact h d hd p e s m args below meth c hcx H locs _ hW hS (lv_sub hl [1, 2, 0] rfl))
/-! greatestKey -/
set_option maxHeartbeats 4000000 in
set_option maxRecDepth 100000 in
theorem mb_greatestKey_4 {E : mj_E} {σ : mj_S} {x1 : Int32} {x2 : Int32} {x3 : Int32} {P : Int32 → mj_S → Prop} (h : (((mj_F σ 17) ≤ x3 → P x2 σ) ∧ (¬ (mj_F σ 17) ≤ x3 → ms_isIn E σ x3 x1 (fun r2 σ3 => ((r2 = 0 → mg_greatestKey_4 E σ3 x1 x2 (x3 + (1 : Int32)) P) ∧ (¬ r2 = 0 → ms_keyAt E σ3 x1 x3 (fun r5 σ6 => mg_greatestKey_4 E σ6 x1 (if x2 < r5 then r5 else x2) (x3 + (1 : Int32)) P))))))) : mg_greatestKey_4 E σ x1 x2 x3 P := by
  intro d hd p e s m args below meth c hcx H locs ls hW hS hl
  have hx := hcx.1
  have hb := hcx.2.1
  have hown := hcx.2.2.2.2.2.1
  have hts := hcx.2.2.2.2.2.2.1
  refine lv_iload_n (pc := 4) hx hb dX4_greatestKey_4 rfl (lv_at hl 3 rfl) ?_
  refine lv_aload_n (pc := 5) hx hb dX4_greatestKey_5 rfl (lv_at hl 0 rfl) ?_
  refine mj_geti (pc := 6) hcx hW 17 (by decide) rfl q1272 dX4_greatestKey_6 ?_
  refine lv_icmp_ge (pc := 9) (tgt := 42) hx hb dX4_greatestKey_9 (by decide) (fun c1 => ?_) (fun c1 => ?_)
  · have h := h.1 c1
    refine lv_iload_n (pc := 42) hx hb dX4_greatestKey_42 rfl (lv_at hl 2 rfl) ?_
    exact mj_reti (pc := 43) hcx hW hS rfl h dX4_greatestKey_43
  · have h := h.2 c1
    refine lv_aload_n (pc := 12) hx hb dX4_greatestKey_12 rfl (lv_at hl 0 rfl) ?_
    refine lv_iload_n (pc := 13) hx hb dX4_greatestKey_13 rfl (lv_at hl 3 rfl) ?_
    refine lv_iload_n (pc := 14) hx hb dX4_greatestKey_14 rfl (lv_at hl 1 rfl) ?_
    refine mj_ci (pc := 15) (mj_runV hcx hW [.int x3, .int x1] h (Nat.le_trans (by decide) hd) (lw_V q1597 q1599 qs88 q125 q1600) yd_isIn (by decide) rfl rfl (Nat.le_of_ble_eq_true rfl) hl.1 dX4_greatestKey_15) hS (fun r2 σ3 h H locs hW hS => ?_)
    refine lv_if_eq (pc := 18) (tgt := 34) hx hb dX4_greatestKey_18 (by decide) (fun c4 => ?_) (fun c4 => ?_)
    · have h := h.1 c4
      refine lv_iload_n (pc := 34) hx hb dX4_greatestKey_34 rfl (lv_at hl 2 rfl) ?_
      refine lv_istore_n (pc := 35) (lv' := [(2, .int x2), (0, .ref (mj_o E)), (1, .int x1), (3, .int x3)]) hx hb dX4_greatestKey_35 rfl hl (by decide) rfl (fun ls hl => ?_)
      refine lv_iinc (pc := 36) (v := (x3 + (1 : Int32))) (lv' := [(3, .int (x3 + (1 : Int32))), (2, .int x2), (0, .ref (mj_o E)), (1, .int x1)]) hx hb dX4_greatestKey_36 hl (k := 3) rfl rfl (by decide) rfl (fun ls hl => ?_)
      refine lv_goto (pc := 39) (tgt := 4) hx hb dX4_greatestKey_39 (by decide) ?_
      exact h d hd p e s m args below meth c hcx H locs _ hW hS (lv_sub hl [2, 3, 1, 0] rfl)
    · have h := h.2 c4
      refine lv_iload_n (pc := 21) hx hb dX4_greatestKey_21 rfl (lv_at hl 2 rfl) ?_
      refine lv_aload_n (pc := 22) hx hb dX4_greatestKey_22 rfl (lv_at hl 0 rfl) ?_
      refine lv_iload_n (pc := 23) hx hb dX4_greatestKey_23 rfl (lv_at hl 1 rfl) ?_
      refine lv_iload_n (pc := 24) hx hb dX4_greatestKey_24 rfl (lv_at hl 3 rfl) ?_
      refine mj_ci (pc := 25) (mj_runV hcx hW [.int x1, .int x3] h (Nat.le_trans (by decide) hd) (lw_V q1617 q1619 qs93 q125 q1620) yd_keyAt (by decide) rfl rfl (Nat.le_of_ble_eq_true rfl) hl.1 dX4_greatestKey_25) hS (fun r5 σ6 h H locs hW hS => ?_)
      refine mj_mmax (pc := 28) hcx hl.1 q1621 (Nat.le_of_ble_eq_true rfl) dX4_greatestKey_28 ?_
      refine lv_goto (pc := 31) (tgt := 35) hx hb dX4_greatestKey_31 (by decide) ?_
      refine lv_istore_n (pc := 35) (lv' := [(2, .int (if x2 < r5 then r5 else x2)), (0, .ref (mj_o E)), (1, .int x1), (3, .int x3)]) hx hb dX4_greatestKey_35 rfl hl (by decide) rfl (fun ls hl => ?_)
      refine lv_iinc (pc := 36) (v := (x3 + (1 : Int32))) (lv' := [(3, .int (x3 + (1 : Int32))), (2, .int (if x2 < r5 then r5 else x2)), (0, .ref (mj_o E)), (1, .int x1)]) hx hb dX4_greatestKey_36 hl (k := 3) rfl rfl (by decide) rfl (fun ls hl => ?_)
      refine lv_goto (pc := 39) (tgt := 4) hx hb dX4_greatestKey_39 (by decide) ?_
      exact h d hd p e s m args below meth c hcx H locs _ hW hS (lv_sub hl [2, 3, 1, 0] rfl)
set_option maxHeartbeats 4000000 in
set_option maxRecDepth 100000 in
theorem mb_greatestKey {E : mj_E} {σ : mj_S} {x1 : Int32} {P : Int32 → mj_S → Prop} (hE : mj_ok E) (h : mg_greatestKey_4 E σ x1 (-1 : Int32) (0 : Int32) P) : ms_greatestKey E σ x1 P :=
  mj_enter (k := 3) (lv := [(0, .ref (mj_o E)), (1, .int x1)]) hE rfl (Nat.le_of_ble_eq_true rfl) rfl (by
    intro d hd p e s m args below meth c hcx H locs ls hW hS hl
    have hx := hcx.1
    have hb := hcx.2.1
    have hown := hcx.2.2.2.2.2.1
    have hts := hcx.2.2.2.2.2.2.1
    refine lv_iconst (pc := 0) (v := (-1 : Int32)) hx hb dX4_greatestKey_0 (by decide) ?_
    refine lv_istore_n (pc := 1) (lv' := [(2, .int (-1 : Int32)), (0, .ref (mj_o E)), (1, .int x1)]) hx hb dX4_greatestKey_1 rfl hl (by decide) rfl (fun ls hl => ?_)
    refine lv_iconst (pc := 2) (v := (0 : Int32)) hx hb dX4_greatestKey_2 (by decide) ?_
    refine lv_istore_n (pc := 3) (lv' := [(3, .int (0 : Int32)), (2, .int (-1 : Int32)), (0, .ref (mj_o E)), (1, .int x1)]) hx hb dX4_greatestKey_3 rfl hl (by decide) rfl (fun ls hl => ?_)
    exact h d hd p e s m args below meth c hcx H locs _ hW hS (lv_sub hl [2, 3, 1, 0] rfl))
/-! greatestTable -/
set_option maxHeartbeats 4000000 in
set_option maxRecDepth 100000 in
theorem mb_greatestTable_4 {E : mj_E} {σ : mj_S} {x1 : Int32} {x2 : Int32} {x3 : Int32} {P : Int32 → mj_S → Prop} (h : (((mj_F σ 17) ≤ x3 → P x2 σ) ∧ (¬ (mj_F σ 17) ≤ x3 → ((x1 = 0 → ms_many E σ x3 (fun r3 σ4 => ms_many E σ4 x2 (fun r5 σ6 => ((r3 ≤ r5 → (((0 : Int32) = 0 → mg_greatestTable_4 E σ6 x1 x2 (x3 + (1 : Int32)) P) ∧ (¬ (0 : Int32) = 0 → mg_greatestTable_4 E σ6 x1 x3 (x3 + (1 : Int32)) P))) ∧ (¬ r3 ≤ r5 → (((1 : Int32) = 0 → mg_greatestTable_4 E σ6 x1 x2 (x3 + (1 : Int32)) P) ∧ (¬ (1 : Int32) = 0 → mg_greatestTable_4 E σ6 x1 x3 (x3 + (1 : Int32)) P))))))) ∧ (¬ x1 = 0 → ms_givenBy E σ x3 (fun r10 σ11 => ms_bits E σ11 r10 (fun r12 σ13 => ms_givenBy E σ13 x2 (fun r14 σ15 => ms_bits E σ15 r14 (fun r16 σ17 => ((r12 ≤ r16 → (((0 : Int32) = 0 → mg_greatestTable_4 E σ17 x1 x2 (x3 + (1 : Int32)) P) ∧ (¬ (0 : Int32) = 0 → mg_greatestTable_4 E σ17 x1 x3 (x3 + (1 : Int32)) P))) ∧ (¬ r12 ≤ r16 → (((1 : Int32) = 0 → mg_greatestTable_4 E σ17 x1 x2 (x3 + (1 : Int32)) P) ∧ (¬ (1 : Int32) = 0 → mg_greatestTable_4 E σ17 x1 x3 (x3 + (1 : Int32)) P))))))))))))) : mg_greatestTable_4 E σ x1 x2 x3 P := by
  intro d hd p e s m args below meth c hcx H locs ls hW hS hl
  have hx := hcx.1
  have hb := hcx.2.1
  have hown := hcx.2.2.2.2.2.1
  have hts := hcx.2.2.2.2.2.2.1
  refine lv_iload_n (pc := 4) hx hb dX4_greatestTable_4 rfl (lv_at hl 3 rfl) ?_
  refine lv_aload_n (pc := 5) hx hb dX4_greatestTable_5 rfl (lv_at hl 0 rfl) ?_
  refine mj_geti (pc := 6) hcx hW 17 (by decide) rfl q1272 dX4_greatestTable_6 ?_
  refine lv_icmp_ge (pc := 9) (tgt := 80) hx hb dX4_greatestTable_9 (by decide) (fun c1 => ?_) (fun c1 => ?_)
  · have h := h.1 c1
    refine lv_iload_n (pc := 80) hx hb dX4_greatestTable_80 rfl (lv_at hl 2 rfl) ?_
    exact mj_reti (pc := 81) hcx hW hS rfl h dX4_greatestTable_81
  · have h := h.2 c1
    refine lv_iload_n (pc := 12) hx hb dX4_greatestTable_12 rfl (lv_at hl 1 rfl) ?_
    refine lv_if_eq (pc := 13) (tgt := 43) hx hb dX4_greatestTable_13 (by decide) (fun c2 => ?_) (fun c2 => ?_)
    · have h := h.1 c2
      refine lv_aload_n (pc := 43) hx hb dX4_greatestTable_43 rfl (lv_at hl 0 rfl) ?_
      refine lv_iload_n (pc := 44) hx hb dX4_greatestTable_44 rfl (lv_at hl 3 rfl) ?_
      refine mj_ci (pc := 45) (mj_runV hcx hW [.int x3] h (Nat.le_trans (by decide) hd) (lw_V q1490 q1492 qs63 q125 q1493) yd_many (by decide) rfl rfl (Nat.le_of_ble_eq_true rfl) hl.1 dX4_greatestTable_45) hS (fun r3 σ4 h H locs hW hS => ?_)
      refine lv_aload_n (pc := 48) hx hb dX4_greatestTable_48 rfl (lv_at hl 0 rfl) ?_
      refine lv_iload_n (pc := 49) hx hb dX4_greatestTable_49 rfl (lv_at hl 2 rfl) ?_
      refine mj_ci (pc := 50) (mj_runV hcx hW [.int x2] h (Nat.le_trans (by decide) hd) (lw_V q1490 q1492 qs63 q125 q1493) yd_many (by decide) rfl rfl (Nat.le_of_ble_eq_true rfl) hl.1 dX4_greatestTable_50) hS (fun r5 σ6 h H locs hW hS => ?_)
      refine lv_icmp_le (pc := 53) (tgt := 60) hx hb dX4_greatestTable_53 (by decide) (fun c7 => ?_) (fun c7 => ?_)
      · have h := h.1 c7
        refine lv_iconst (pc := 60) (v := (0 : Int32)) hx hb dX4_greatestTable_60 (by decide) ?_
        refine lv_istore (pc := 61) (lv' := [(4, .int (0 : Int32)), (0, .ref (mj_o E)), (1, .int x1), (2, .int x2), (3, .int x3)]) hx hb dX4_greatestTable_61 hl (by decide) rfl (fun ls hl => ?_)
        refine lv_iload (pc := 63) hx hb dX4_greatestTable_63 (lv_at hl 0 rfl) ?_
        refine lv_if_eq (pc := 65) (tgt := 72) hx hb dX4_greatestTable_65 (by decide) (fun c8 => ?_) (fun c8 => ?_)
        · have h := h.1 c8
          refine lv_iload_n (pc := 72) hx hb dX4_greatestTable_72 rfl (lv_at hl 3 rfl) ?_
          refine lv_istore_n (pc := 73) (lv' := [(2, .int x2), (4, .int (0 : Int32)), (0, .ref (mj_o E)), (1, .int x1), (3, .int x3)]) hx hb dX4_greatestTable_73 rfl hl (by decide) rfl (fun ls hl => ?_)
          refine lv_iinc (pc := 74) (v := (x3 + (1 : Int32))) (lv' := [(3, .int (x3 + (1 : Int32))), (2, .int x2), (4, .int (0 : Int32)), (0, .ref (mj_o E)), (1, .int x1)]) hx hb dX4_greatestTable_74 hl (k := 4) rfl rfl (by decide) rfl (fun ls hl => ?_)
          refine lv_goto (pc := 77) (tgt := 4) hx hb dX4_greatestTable_77 (by decide) ?_
          exact h d hd p e s m args below meth c hcx H locs _ hW hS (lv_sub hl [3, 4, 1, 0] rfl)
        · have h := h.2 c8
          refine lv_iload_n (pc := 68) hx hb dX4_greatestTable_68 rfl (lv_at hl 4 rfl) ?_
          refine lv_goto (pc := 69) (tgt := 73) hx hb dX4_greatestTable_69 (by decide) ?_
          refine lv_istore_n (pc := 73) (lv' := [(2, .int x3), (4, .int (0 : Int32)), (0, .ref (mj_o E)), (1, .int x1), (3, .int x3)]) hx hb dX4_greatestTable_73 rfl hl (by decide) rfl (fun ls hl => ?_)
          refine lv_iinc (pc := 74) (v := (x3 + (1 : Int32))) (lv' := [(3, .int (x3 + (1 : Int32))), (2, .int x3), (4, .int (0 : Int32)), (0, .ref (mj_o E)), (1, .int x1)]) hx hb dX4_greatestTable_74 hl (k := 4) rfl rfl (by decide) rfl (fun ls hl => ?_)
          refine lv_goto (pc := 77) (tgt := 4) hx hb dX4_greatestTable_77 (by decide) ?_
          exact h d hd p e s m args below meth c hcx H locs _ hW hS (lv_sub hl [3, 4, 1, 0] rfl)
      · have h := h.2 c7
        refine lv_iconst (pc := 56) (v := (1 : Int32)) hx hb dX4_greatestTable_56 (by decide) ?_
        refine lv_goto (pc := 57) (tgt := 61) hx hb dX4_greatestTable_57 (by decide) ?_
        refine lv_istore (pc := 61) (lv' := [(4, .int (1 : Int32)), (0, .ref (mj_o E)), (1, .int x1), (2, .int x2), (3, .int x3)]) hx hb dX4_greatestTable_61 hl (by decide) rfl (fun ls hl => ?_)
        refine lv_iload (pc := 63) hx hb dX4_greatestTable_63 (lv_at hl 0 rfl) ?_
        refine lv_if_eq (pc := 65) (tgt := 72) hx hb dX4_greatestTable_65 (by decide) (fun c9 => ?_) (fun c9 => ?_)
        · have h := h.1 c9
          refine lv_iload_n (pc := 72) hx hb dX4_greatestTable_72 rfl (lv_at hl 3 rfl) ?_
          refine lv_istore_n (pc := 73) (lv' := [(2, .int x2), (4, .int (1 : Int32)), (0, .ref (mj_o E)), (1, .int x1), (3, .int x3)]) hx hb dX4_greatestTable_73 rfl hl (by decide) rfl (fun ls hl => ?_)
          refine lv_iinc (pc := 74) (v := (x3 + (1 : Int32))) (lv' := [(3, .int (x3 + (1 : Int32))), (2, .int x2), (4, .int (1 : Int32)), (0, .ref (mj_o E)), (1, .int x1)]) hx hb dX4_greatestTable_74 hl (k := 4) rfl rfl (by decide) rfl (fun ls hl => ?_)
          refine lv_goto (pc := 77) (tgt := 4) hx hb dX4_greatestTable_77 (by decide) ?_
          exact h d hd p e s m args below meth c hcx H locs _ hW hS (lv_sub hl [3, 4, 1, 0] rfl)
        · have h := h.2 c9
          refine lv_iload_n (pc := 68) hx hb dX4_greatestTable_68 rfl (lv_at hl 4 rfl) ?_
          refine lv_goto (pc := 69) (tgt := 73) hx hb dX4_greatestTable_69 (by decide) ?_
          refine lv_istore_n (pc := 73) (lv' := [(2, .int x3), (4, .int (1 : Int32)), (0, .ref (mj_o E)), (1, .int x1), (3, .int x3)]) hx hb dX4_greatestTable_73 rfl hl (by decide) rfl (fun ls hl => ?_)
          refine lv_iinc (pc := 74) (v := (x3 + (1 : Int32))) (lv' := [(3, .int (x3 + (1 : Int32))), (2, .int x3), (4, .int (1 : Int32)), (0, .ref (mj_o E)), (1, .int x1)]) hx hb dX4_greatestTable_74 hl (k := 4) rfl rfl (by decide) rfl (fun ls hl => ?_)
          refine lv_goto (pc := 77) (tgt := 4) hx hb dX4_greatestTable_77 (by decide) ?_
          exact h d hd p e s m args below meth c hcx H locs _ hW hS (lv_sub hl [3, 4, 1, 0] rfl)
    · have h := h.2 c2
      refine lv_aload_n (pc := 16) hx hb dX4_greatestTable_16 rfl (lv_at hl 0 rfl) ?_
      refine lv_iload_n (pc := 17) hx hb dX4_greatestTable_17 rfl (lv_at hl 3 rfl) ?_
      refine mj_ci (pc := 18) (mj_runV hcx hW [.int x3] h (Nat.le_trans (by decide) hd) (lw_V q1733 q1735 qs104 q125 q1736) yd_givenBy (by decide) rfl rfl (Nat.le_of_ble_eq_true rfl) hl.1 dX4_greatestTable_18) hS (fun r10 σ11 h H locs hW hS => ?_)
      refine mj_ci (pc := 21) (mj_runS hcx hW [.int r10] h (Nat.le_trans (by decide) hd) (lw_S q1860 q1861 q125 q1862) yd_bits.2 (by decide) rfl rfl (Nat.le_of_ble_eq_true rfl) hl.1 dX4_greatestTable_21) hS (fun r12 σ13 h H locs hW hS => ?_)
      refine lv_aload_n (pc := 24) hx hb dX4_greatestTable_24 rfl (lv_at hl 0 rfl) ?_
      refine lv_iload_n (pc := 25) hx hb dX4_greatestTable_25 rfl (lv_at hl 2 rfl) ?_
      refine mj_ci (pc := 26) (mj_runV hcx hW [.int x2] h (Nat.le_trans (by decide) hd) (lw_V q1733 q1735 qs104 q125 q1736) yd_givenBy (by decide) rfl rfl (Nat.le_of_ble_eq_true rfl) hl.1 dX4_greatestTable_26) hS (fun r14 σ15 h H locs hW hS => ?_)
      refine mj_ci (pc := 29) (mj_runS hcx hW [.int r14] h (Nat.le_trans (by decide) hd) (lw_S q1860 q1861 q125 q1862) yd_bits.2 (by decide) rfl rfl (Nat.le_of_ble_eq_true rfl) hl.1 dX4_greatestTable_29) hS (fun r16 σ17 h H locs hW hS => ?_)
      refine lv_icmp_le (pc := 32) (tgt := 39) hx hb dX4_greatestTable_32 (by decide) (fun c18 => ?_) (fun c18 => ?_)
      · have h := h.1 c18
        refine lv_iconst (pc := 39) (v := (0 : Int32)) hx hb dX4_greatestTable_39 (by decide) ?_
        refine lv_goto (pc := 40) (tgt := 61) hx hb dX4_greatestTable_40 (by decide) ?_
        refine lv_istore (pc := 61) (lv' := [(4, .int (0 : Int32)), (0, .ref (mj_o E)), (1, .int x1), (2, .int x2), (3, .int x3)]) hx hb dX4_greatestTable_61 hl (by decide) rfl (fun ls hl => ?_)
        refine lv_iload (pc := 63) hx hb dX4_greatestTable_63 (lv_at hl 0 rfl) ?_
        refine lv_if_eq (pc := 65) (tgt := 72) hx hb dX4_greatestTable_65 (by decide) (fun c19 => ?_) (fun c19 => ?_)
        · have h := h.1 c19
          refine lv_iload_n (pc := 72) hx hb dX4_greatestTable_72 rfl (lv_at hl 3 rfl) ?_
          refine lv_istore_n (pc := 73) (lv' := [(2, .int x2), (4, .int (0 : Int32)), (0, .ref (mj_o E)), (1, .int x1), (3, .int x3)]) hx hb dX4_greatestTable_73 rfl hl (by decide) rfl (fun ls hl => ?_)
          refine lv_iinc (pc := 74) (v := (x3 + (1 : Int32))) (lv' := [(3, .int (x3 + (1 : Int32))), (2, .int x2), (4, .int (0 : Int32)), (0, .ref (mj_o E)), (1, .int x1)]) hx hb dX4_greatestTable_74 hl (k := 4) rfl rfl (by decide) rfl (fun ls hl => ?_)
          refine lv_goto (pc := 77) (tgt := 4) hx hb dX4_greatestTable_77 (by decide) ?_
          exact h d hd p e s m args below meth c hcx H locs _ hW hS (lv_sub hl [3, 4, 1, 0] rfl)
        · have h := h.2 c19
          refine lv_iload_n (pc := 68) hx hb dX4_greatestTable_68 rfl (lv_at hl 4 rfl) ?_
          refine lv_goto (pc := 69) (tgt := 73) hx hb dX4_greatestTable_69 (by decide) ?_
          refine lv_istore_n (pc := 73) (lv' := [(2, .int x3), (4, .int (0 : Int32)), (0, .ref (mj_o E)), (1, .int x1), (3, .int x3)]) hx hb dX4_greatestTable_73 rfl hl (by decide) rfl (fun ls hl => ?_)
          refine lv_iinc (pc := 74) (v := (x3 + (1 : Int32))) (lv' := [(3, .int (x3 + (1 : Int32))), (2, .int x3), (4, .int (0 : Int32)), (0, .ref (mj_o E)), (1, .int x1)]) hx hb dX4_greatestTable_74 hl (k := 4) rfl rfl (by decide) rfl (fun ls hl => ?_)
          refine lv_goto (pc := 77) (tgt := 4) hx hb dX4_greatestTable_77 (by decide) ?_
          exact h d hd p e s m args below meth c hcx H locs _ hW hS (lv_sub hl [3, 4, 1, 0] rfl)
      · have h := h.2 c18
        refine lv_iconst (pc := 35) (v := (1 : Int32)) hx hb dX4_greatestTable_35 (by decide) ?_
        refine lv_goto (pc := 36) (tgt := 61) hx hb dX4_greatestTable_36 (by decide) ?_
        refine lv_istore (pc := 61) (lv' := [(4, .int (1 : Int32)), (0, .ref (mj_o E)), (1, .int x1), (2, .int x2), (3, .int x3)]) hx hb dX4_greatestTable_61 hl (by decide) rfl (fun ls hl => ?_)
        refine lv_iload (pc := 63) hx hb dX4_greatestTable_63 (lv_at hl 0 rfl) ?_
        refine lv_if_eq (pc := 65) (tgt := 72) hx hb dX4_greatestTable_65 (by decide) (fun c20 => ?_) (fun c20 => ?_)
        · have h := h.1 c20
          refine lv_iload_n (pc := 72) hx hb dX4_greatestTable_72 rfl (lv_at hl 3 rfl) ?_
          refine lv_istore_n (pc := 73) (lv' := [(2, .int x2), (4, .int (1 : Int32)), (0, .ref (mj_o E)), (1, .int x1), (3, .int x3)]) hx hb dX4_greatestTable_73 rfl hl (by decide) rfl (fun ls hl => ?_)
          refine lv_iinc (pc := 74) (v := (x3 + (1 : Int32))) (lv' := [(3, .int (x3 + (1 : Int32))), (2, .int x2), (4, .int (1 : Int32)), (0, .ref (mj_o E)), (1, .int x1)]) hx hb dX4_greatestTable_74 hl (k := 4) rfl rfl (by decide) rfl (fun ls hl => ?_)
          refine lv_goto (pc := 77) (tgt := 4) hx hb dX4_greatestTable_77 (by decide) ?_
          exact h d hd p e s m args below meth c hcx H locs _ hW hS (lv_sub hl [3, 4, 1, 0] rfl)
        · have h := h.2 c20
          refine lv_iload_n (pc := 68) hx hb dX4_greatestTable_68 rfl (lv_at hl 4 rfl) ?_
          refine lv_goto (pc := 69) (tgt := 73) hx hb dX4_greatestTable_69 (by decide) ?_
          refine lv_istore_n (pc := 73) (lv' := [(2, .int x3), (4, .int (1 : Int32)), (0, .ref (mj_o E)), (1, .int x1), (3, .int x3)]) hx hb dX4_greatestTable_73 rfl hl (by decide) rfl (fun ls hl => ?_)
          refine lv_iinc (pc := 74) (v := (x3 + (1 : Int32))) (lv' := [(3, .int (x3 + (1 : Int32))), (2, .int x3), (4, .int (1 : Int32)), (0, .ref (mj_o E)), (1, .int x1)]) hx hb dX4_greatestTable_74 hl (k := 4) rfl rfl (by decide) rfl (fun ls hl => ?_)
          refine lv_goto (pc := 77) (tgt := 4) hx hb dX4_greatestTable_77 (by decide) ?_
          exact h d hd p e s m args below meth c hcx H locs _ hW hS (lv_sub hl [3, 4, 1, 0] rfl)
set_option maxHeartbeats 4000000 in
set_option maxRecDepth 100000 in
theorem mb_greatestTable {E : mj_E} {σ : mj_S} {x1 : Int32} {P : Int32 → mj_S → Prop} (hE : mj_ok E) (h : mg_greatestTable_4 E σ x1 (0 : Int32) (1 : Int32) P) : ms_greatestTable E σ x1 P :=
  mj_enter (k := 3) (lv := [(0, .ref (mj_o E)), (1, .int x1)]) hE rfl (Nat.le_of_ble_eq_true rfl) rfl (by
    intro d hd p e s m args below meth c hcx H locs ls hW hS hl
    have hx := hcx.1
    have hb := hcx.2.1
    have hown := hcx.2.2.2.2.2.1
    have hts := hcx.2.2.2.2.2.2.1
    refine lv_iconst (pc := 0) (v := (0 : Int32)) hx hb dX4_greatestTable_0 (by decide) ?_
    refine lv_istore_n (pc := 1) (lv' := [(2, .int (0 : Int32)), (0, .ref (mj_o E)), (1, .int x1)]) hx hb dX4_greatestTable_1 rfl hl (by decide) rfl (fun ls hl => ?_)
    refine lv_iconst (pc := 2) (v := (1 : Int32)) hx hb dX4_greatestTable_2 (by decide) ?_
    refine lv_istore_n (pc := 3) (lv' := [(3, .int (1 : Int32)), (2, .int (0 : Int32)), (0, .ref (mj_o E)), (1, .int x1)]) hx hb dX4_greatestTable_3 rfl hl (by decide) rfl (fun ls hl => ?_)
    exact h d hd p e s m args below meth c hcx H locs _ hW hS (lv_sub hl [2, 3, 1, 0] rfl))
/-! hasRow -/
set_option maxHeartbeats 4000000 in
set_option maxRecDepth 100000 in
theorem mb_hasRow {E : mj_E} {σ : mj_S} {x1 : Int32} {x2 : Int32} {x3 : Int32} {x4 : Int32} {P : Int32 → mj_S → Prop} (hE : mj_ok E) (h : ms_countLess E σ x1 x2 x3 x4 (fun r1 σ2 => ms_many E σ2 x1 (fun r3 σ4 => ((r3 ≤ r1 → P (0 : Int32) σ4) ∧ (¬ r3 ≤ r1 → ms_compares E σ4 x1 r1 x2 x3 x4 (fun r6 σ7 => ((r6 = 0 → P (1 : Int32) σ7) ∧ (¬ r6 = 0 → P (0 : Int32) σ7)))))))) : ms_hasRow E σ x1 x2 x3 x4 P :=
  mj_enter (k := 3) (lv := [(0, .ref (mj_o E)), (1, .int x1), (2, .int x2), (3, .int x3), (4, .int x4)]) hE rfl (Nat.le_of_ble_eq_true rfl) rfl (by
    intro d hd p e s m args below meth c hcx H locs ls hW hS hl
    have hx := hcx.1
    have hb := hcx.2.1
    have hown := hcx.2.2.2.2.2.1
    have hts := hcx.2.2.2.2.2.2.1
    refine lv_aload_n (pc := 0) hx hb dX4_hasRow_0 rfl (lv_at hl 0 rfl) ?_
    refine lv_iload_n (pc := 1) hx hb dX4_hasRow_1 rfl (lv_at hl 1 rfl) ?_
    refine lv_iload_n (pc := 2) hx hb dX4_hasRow_2 rfl (lv_at hl 2 rfl) ?_
    refine lv_iload_n (pc := 3) hx hb dX4_hasRow_3 rfl (lv_at hl 3 rfl) ?_
    refine lv_iload (pc := 4) hx hb dX4_hasRow_4 (lv_at hl 4 rfl) ?_
    refine mj_ci (pc := 6) (mj_runV hcx hW [.int x1, .int x2, .int x3, .int x4] h (Nat.le_trans (by decide) hd) (lw_V q1486 q1488 qs62 q125 q1489) yd_countLess (by decide) rfl rfl (Nat.le_of_ble_eq_true rfl) hl.1 dX4_hasRow_6) hS (fun r1 σ2 h H locs hW hS => ?_)
    refine lv_istore (pc := 9) (lv' := [(5, .int r1), (0, .ref (mj_o E)), (1, .int x1), (2, .int x2), (3, .int x3), (4, .int x4)]) hx hb dX4_hasRow_9 hl (by decide) rfl (fun ls hl => ?_)
    refine lv_iload (pc := 11) hx hb dX4_hasRow_11 (lv_at hl 0 rfl) ?_
    refine lv_aload_n (pc := 13) hx hb dX4_hasRow_13 rfl (lv_at hl 1 rfl) ?_
    refine lv_iload_n (pc := 14) hx hb dX4_hasRow_14 rfl (lv_at hl 2 rfl) ?_
    refine mj_ci (pc := 15) (mj_runV hcx hW [.int x1] h (Nat.le_trans (by decide) hd) (lw_V q1490 q1492 qs63 q125 q1493) yd_many (by decide) rfl rfl (Nat.le_of_ble_eq_true rfl) hl.1 dX4_hasRow_15) hS (fun r3 σ4 h H locs hW hS => ?_)
    refine lv_icmp_ge (pc := 18) (tgt := 39) hx hb dX4_hasRow_18 (by decide) (fun c5 => ?_) (fun c5 => ?_)
    · have h := h.1 c5
      refine lv_iconst (pc := 39) (v := (0 : Int32)) hx hb dX4_hasRow_39 (by decide) ?_
      exact mj_reti (pc := 40) hcx hW hS rfl h dX4_hasRow_40
    · have h := h.2 c5
      refine lv_aload_n (pc := 21) hx hb dX4_hasRow_21 rfl (lv_at hl 1 rfl) ?_
      refine lv_iload_n (pc := 22) hx hb dX4_hasRow_22 rfl (lv_at hl 2 rfl) ?_
      refine lv_iload (pc := 23) hx hb dX4_hasRow_23 (lv_at hl 0 rfl) ?_
      refine lv_iload_n (pc := 25) hx hb dX4_hasRow_25 rfl (lv_at hl 3 rfl) ?_
      refine lv_iload_n (pc := 26) hx hb dX4_hasRow_26 rfl (lv_at hl 4 rfl) ?_
      refine lv_iload (pc := 27) hx hb dX4_hasRow_27 (lv_at hl 5 rfl) ?_
      refine mj_ci (pc := 29) (mj_runV hcx hW [.int x1, .int r1, .int x2, .int x3, .int x4] h (Nat.le_trans (by decide) hd) (lw_V q1494 q1496 qs64 q125 q1497) yd_compares (by decide) rfl rfl (Nat.le_of_ble_eq_true rfl) hl.1 dX4_hasRow_29) hS (fun r6 σ7 h H locs hW hS => ?_)
      refine lv_if_ne (pc := 32) (tgt := 39) hx hb dX4_hasRow_32 (by decide) (fun c8 => ?_) (fun c8 => ?_)
      · have h := h.2 c8
        refine lv_iconst (pc := 39) (v := (0 : Int32)) hx hb dX4_hasRow_39 (by decide) ?_
        exact mj_reti (pc := 40) hcx hW hS rfl h dX4_hasRow_40
      · have h := h.1 c8
        refine lv_iconst (pc := 35) (v := (1 : Int32)) hx hb dX4_hasRow_35 (by decide) ?_
        refine lv_goto (pc := 36) (tgt := 40) hx hb dX4_hasRow_36 (by decide) ?_
        exact mj_reti (pc := 40) hcx hW hS rfl h dX4_hasRow_40)
/-! isAsked -/
set_option maxHeartbeats 4000000 in
set_option maxRecDepth 100000 in
theorem mb_isAsked {E : mj_E} {σ : mj_S} {x1 : Int32} {P : Int32 → mj_S → Prop} (hE : mj_ok E) (h : ms_areTables E σ (fun r1 σ2 => ((r1 = 0 → P (0 : Int32) σ2) ∧ (¬ r1 = 0 → ms_in E σ2 x1 (0 : Int32) (3 : Int32) (fun r4 σ5 => ((r4 = 0 → P (0 : Int32) σ5) ∧ (¬ r4 = 0 → ms_asked E σ5 (fun r7 σ8 => ms_has E σ8 r7 x1 (fun r9 σ10 => ((r9 = 0 → P (0 : Int32) σ10) ∧ (¬ r9 = 0 → P (1 : Int32) σ10))))))))))) : ms_isAsked E σ x1 P :=
  mj_enter (k := 3) (lv := [(0, .ref (mj_o E)), (1, .int x1)]) hE rfl (Nat.le_of_ble_eq_true rfl) rfl (by
    intro d hd p e s m args below meth c hcx H locs ls hW hS hl
    have hx := hcx.1
    have hb := hcx.2.1
    have hown := hcx.2.2.2.2.2.1
    have hts := hcx.2.2.2.2.2.2.1
    refine lv_aload_n (pc := 0) hx hb dX4_isAsked_0 rfl (lv_at hl 0 rfl) ?_
    refine mj_ci (pc := 1) (mj_runV hcx hW [] h (Nat.le_trans (by decide) hd) (lw_V q1533 q1535 qs72 q125 q1536) yd_areTables (by decide) rfl rfl (Nat.le_of_ble_eq_true rfl) hl.1 dX4_isAsked_1) hS (fun r1 σ2 h H locs hW hS => ?_)
    refine lv_if_eq (pc := 4) (tgt := 31) hx hb dX4_isAsked_4 (by decide) (fun c3 => ?_) (fun c3 => ?_)
    · have h := h.1 c3
      refine lv_iconst (pc := 31) (v := (0 : Int32)) hx hb dX4_isAsked_31 (by decide) ?_
      exact mj_reti (pc := 32) hcx hW hS rfl h dX4_isAsked_32
    · have h := h.2 c3
      refine lv_iload_n (pc := 7) hx hb dX4_isAsked_7 rfl (lv_at hl 1 rfl) ?_
      refine lv_iconst (pc := 8) (v := (0 : Int32)) hx hb dX4_isAsked_8 (by decide) ?_
      refine lv_iconst (pc := 9) (v := (3 : Int32)) hx hb dX4_isAsked_9 (by decide) ?_
      refine mj_ci (pc := 10) (mj_runS hcx hW [.int x1, .int (0 : Int32), .int (3 : Int32)] h (Nat.le_trans (by decide) hd) (lw_S q1401 q1402 q125 q1403) yd_in.2 (by decide) rfl rfl (Nat.le_of_ble_eq_true rfl) hl.1 dX4_isAsked_10) hS (fun r4 σ5 h H locs hW hS => ?_)
      refine lv_if_eq (pc := 13) (tgt := 31) hx hb dX4_isAsked_13 (by decide) (fun c6 => ?_) (fun c6 => ?_)
      · have h := h.1 c6
        refine lv_iconst (pc := 31) (v := (0 : Int32)) hx hb dX4_isAsked_31 (by decide) ?_
        exact mj_reti (pc := 32) hcx hW hS rfl h dX4_isAsked_32
      · have h := h.2 c6
        refine lv_aload_n (pc := 16) hx hb dX4_isAsked_16 rfl (lv_at hl 0 rfl) ?_
        refine mj_ci (pc := 17) (mj_runV hcx hW [] h (Nat.le_trans (by decide) hd) (lw_V q1577 q1579 qs83 q125 q1580) yd_asked (by decide) rfl rfl (Nat.le_of_ble_eq_true rfl) hl.1 dX4_isAsked_17) hS (fun r7 σ8 h H locs hW hS => ?_)
        refine lv_iload_n (pc := 20) hx hb dX4_isAsked_20 rfl (lv_at hl 1 rfl) ?_
        refine mj_ci (pc := 21) (mj_runS hcx hW [.int r7, .int x1] h (Nat.le_trans (by decide) hd) (lw_S q1440 q1441 q125 q1442) yd_has.2 (by decide) rfl rfl (Nat.le_of_ble_eq_true rfl) hl.1 dX4_isAsked_21) hS (fun r9 σ10 h H locs hW hS => ?_)
        refine lv_if_eq (pc := 24) (tgt := 31) hx hb dX4_isAsked_24 (by decide) (fun c11 => ?_) (fun c11 => ?_)
        · have h := h.1 c11
          refine lv_iconst (pc := 31) (v := (0 : Int32)) hx hb dX4_isAsked_31 (by decide) ?_
          exact mj_reti (pc := 32) hcx hW hS rfl h dX4_isAsked_32
        · have h := h.2 c11
          refine lv_iconst (pc := 27) (v := (1 : Int32)) hx hb dX4_isAsked_27 (by decide) ?_
          refine lv_goto (pc := 28) (tgt := 32) hx hb dX4_isAsked_28 (by decide) ?_
          exact mj_reti (pc := 32) hcx hW hS rfl h dX4_isAsked_32)
/-! laysKeys -/
set_option maxHeartbeats 4000000 in
set_option maxRecDepth 100000 in
theorem mb_laysKeys_4 {E : mj_E} {σ : mj_S} {x1 : Int32} {x2 : Int32} {x3 : Int32} {P : Int32 → mj_S → Prop} (h : (((mj_F σ 17) ≤ x3 → (narrow .boolean (.int x2) = .int x2 ∧ P x2 σ)) ∧ (¬ (mj_F σ 17) ≤ x3 → (vp_in (((4 : Int32) * x1) + x3) 16 ∧ (vp_in (((4 : Int32) * x1) + x3) 16 ∧ ms_isIn E (mj_sA (mj_sA σ 22 (((4 : Int32) * x1) + x3).toNatClampNeg (0 : Int32)) 23 (((4 : Int32) * x1) + x3).toNatClampNeg (0 : Int32)) x3 x1 (fun r5 σ6 => ((r5 = 0 → mg_laysKeys_4 E σ6 x1 x2 (x3 + (1 : Int32)) P) ∧ (¬ r5 = 0 → (vp_in x1 4 ∧ ms_columnOf E σ6 x3 (mj_A σ6 18 x1.toNatClampNeg) (fun r9 σ10 => mg_laysKeys_60 E σ10 x1 x2 x3 (((4 : Int32) * x1) + x3) r9 (0 : Int32) P)))))))))) : mg_laysKeys_4 E σ x1 x2 x3 P := by
  intro d hd p e s m args below meth c hcx H locs ls hW hS hl
  have hx := hcx.1
  have hb := hcx.2.1
  have hown := hcx.2.2.2.2.2.1
  have hts := hcx.2.2.2.2.2.2.1
  refine lv_iload_n (pc := 4) hx hb dX4_laysKeys_4 rfl (lv_at hl 3 rfl) ?_
  refine lv_aload_n (pc := 5) hx hb dX4_laysKeys_5 rfl (lv_at hl 0 rfl) ?_
  refine mj_geti (pc := 6) hcx hW 17 (by decide) rfl q1272 dX4_laysKeys_6 ?_
  refine lv_icmp_ge (pc := 9) (tgt := 133) hx hb dX4_laysKeys_9 (by decide) (fun c1 => ?_) (fun c1 => ?_)
  · have h := h.1 c1
    refine lv_iload_n (pc := 133) hx hb dX4_laysKeys_133 rfl (lv_at hl 2 rfl) ?_
    obtain ⟨g2, h⟩ := h
    exact mj_reti (pc := 134) hcx hW hS g2 h dX4_laysKeys_134
  · have h := h.2 c1
    refine lv_iconst (pc := 12) (v := (4 : Int32)) hx hb dX4_laysKeys_12 (by decide) ?_
    refine lv_iload_n (pc := 13) hx hb dX4_laysKeys_13 rfl (lv_at hl 1 rfl) ?_
    refine lv_imul (pc := 14) hx hb dX4_laysKeys_14 ?_
    refine lv_iload_n (pc := 15) hx hb dX4_laysKeys_15 rfl (lv_at hl 3 rfl) ?_
    refine lv_iadd (pc := 16) hx hb dX4_laysKeys_16 ?_
    refine lv_istore (pc := 17) (lv' := [(4, .int (((4 : Int32) * x1) + x3)), (0, .ref (mj_o E)), (1, .int x1), (2, .int x2), (3, .int x3)]) hx hb dX4_laysKeys_17 hl (by decide) rfl (fun ls hl => ?_)
    refine lv_aload_n (pc := 19) hx hb dX4_laysKeys_19 rfl (lv_at hl 1 rfl) ?_
    refine mj_geta (pc := 20) hcx hW 22 (by decide) rfl q1277 dX4_laysKeys_20 ?_
    refine lv_iload (pc := 23) hx hb dX4_laysKeys_23 (lv_at hl 0 rfl) ?_
    refine lv_iconst (pc := 25) (v := (0 : Int32)) hx hb dX4_laysKeys_25 (by decide) ?_
    obtain ⟨g3, h⟩ := h
    refine mj_ast (pc := 26) hcx hW hS 22 rfl rfl g3 dX4_laysKeys_26 (fun H locs hW hS => ?_)
    refine lv_aload_n (pc := 27) hx hb dX4_laysKeys_27 rfl (lv_at hl 1 rfl) ?_
    refine mj_geta (pc := 28) hcx hW 23 (by decide) rfl q1278 dX4_laysKeys_28 ?_
    refine lv_iload (pc := 31) hx hb dX4_laysKeys_31 (lv_at hl 0 rfl) ?_
    refine lv_iconst (pc := 33) (v := (0 : Int32)) hx hb dX4_laysKeys_33 (by decide) ?_
    obtain ⟨g4, h⟩ := h
    refine mj_ast (pc := 34) hcx hW hS 23 rfl rfl g4 dX4_laysKeys_34 (fun H locs hW hS => ?_)
    refine lv_aload_n (pc := 35) hx hb dX4_laysKeys_35 rfl (lv_at hl 1 rfl) ?_
    refine lv_iload_n (pc := 36) hx hb dX4_laysKeys_36 rfl (lv_at hl 4 rfl) ?_
    refine lv_iload_n (pc := 37) hx hb dX4_laysKeys_37 rfl (lv_at hl 2 rfl) ?_
    refine mj_ci (pc := 38) (mj_runV hcx hW [.int x3, .int x1] h (Nat.le_trans (by decide) hd) (lw_V q1597 q1599 qs88 q125 q1600) yd_isIn (by decide) rfl rfl (Nat.le_of_ble_eq_true rfl) hl.1 dX4_laysKeys_38) hS (fun r5 σ6 h H locs hW hS => ?_)
    refine lv_if_eq (pc := 41) (tgt := 127) hx hb dX4_laysKeys_41 (by decide) (fun c7 => ?_) (fun c7 => ?_)
    · have h := h.1 c7
      refine lv_iinc (pc := 127) (v := (x3 + (1 : Int32))) (lv' := [(3, .int (x3 + (1 : Int32))), (4, .int (((4 : Int32) * x1) + x3)), (0, .ref (mj_o E)), (1, .int x1), (2, .int x2)]) hx hb dX4_laysKeys_127 hl (k := 4) rfl rfl (by decide) rfl (fun ls hl => ?_)
      refine lv_goto (pc := 130) (tgt := 4) hx hb dX4_laysKeys_130 (by decide) ?_
      exact h d hd p e s m args below meth c hcx H locs _ hW hS (lv_sub hl [2, 3, 4, 0] rfl)
    · have h := h.2 c7
      refine lv_aload_n (pc := 44) hx hb dX4_laysKeys_44 rfl (lv_at hl 1 rfl) ?_
      refine lv_iload_n (pc := 45) hx hb dX4_laysKeys_45 rfl (lv_at hl 4 rfl) ?_
      refine lv_aload_n (pc := 46) hx hb dX4_laysKeys_46 rfl (lv_at hl 1 rfl) ?_
      refine mj_geta (pc := 47) hcx hW 18 (by decide) rfl q1273 dX4_laysKeys_47 ?_
      refine lv_iload_n (pc := 50) hx hb dX4_laysKeys_50 rfl (lv_at hl 2 rfl) ?_
      obtain ⟨g8, h⟩ := h
      refine mj_ald (pc := 51) hcx hW 18 rfl rfl g8 dX4_laysKeys_51 ?_
      refine mj_ci (pc := 52) (mj_runV hcx hW [.int x3, .int (mj_A σ6 18 x1.toNatClampNeg)] h (Nat.le_trans (by decide) hd) (lw_V q1601 q1603 qs89 q125 q1604) yd_columnOf (by decide) rfl rfl (Nat.le_of_ble_eq_true rfl) hl.1 dX4_laysKeys_52) hS (fun r9 σ10 h H locs hW hS => ?_)
      refine lv_istore (pc := 55) (lv' := [(5, .int r9), (4, .int (((4 : Int32) * x1) + x3)), (0, .ref (mj_o E)), (1, .int x1), (2, .int x2), (3, .int x3)]) hx hb dX4_laysKeys_55 hl (by decide) rfl (fun ls hl => ?_)
      refine lv_iconst (pc := 57) (v := (0 : Int32)) hx hb dX4_laysKeys_57 (by decide) ?_
      refine lv_istore (pc := 58) (lv' := [(6, .int (0 : Int32)), (5, .int r9), (4, .int (((4 : Int32) * x1) + x3)), (0, .ref (mj_o E)), (1, .int x1), (2, .int x2), (3, .int x3)]) hx hb dX4_laysKeys_58 hl (by decide) rfl (fun ls hl => ?_)
      exact h d hd p e s m args below meth c hcx H locs _ hW hS (lv_sub hl [3, 4, 5, 6, 2, 1, 0] rfl)
set_option maxHeartbeats 4000000 in
set_option maxRecDepth 100000 in
theorem mb_laysKeys_60 {E : mj_E} {σ : mj_S} {x1 : Int32} {x2 : Int32} {x3 : Int32} {x4 : Int32} {x5 : Int32} {x6 : Int32} {P : Int32 → mj_S → Prop} (h : ms_many E σ x3 (fun r1 σ2 => ((r1 ≤ x6 → ((x2 = 0 → mg_laysKeys_4 E σ2 x1 (0 : Int32) (x3 + (1 : Int32)) P) ∧ (¬ x2 = 0 → (vp_in x4 16 ∧ (((mj_A σ2 22 x4.toNatClampNeg) ≤ 0 → mg_laysKeys_4 E σ2 x1 (0 : Int32) (x3 + (1 : Int32)) P) ∧ (¬ (mj_A σ2 22 x4.toNatClampNeg) ≤ 0 → mg_laysKeys_4 E σ2 x1 (1 : Int32) (x3 + (1 : Int32)) P)))))) ∧ (¬ r1 ≤ x6 → ms_fits E σ2 x3 x6 x1 (fun r7 σ8 => ((r7 = 0 → mg_laysKeys_60 E σ8 x1 x2 x3 x4 x5 (x6 + (1 : Int32)) P) ∧ (¬ r7 = 0 → ms_rowAt E σ8 x3 x6 (fun r10 σ11 => (vp_in (r10 + x5) 331 ∧ ms_takesKey E σ11 x4 (mj_A σ11 13 (r10 + x5).toNatClampNeg) (fun σ14 => mg_laysKeys_60 E σ14 x1 x2 x3 x4 x5 (x6 + (1 : Int32)) P)))))))))) : mg_laysKeys_60 E σ x1 x2 x3 x4 x5 x6 P := by
  intro d hd p e s m args below meth c hcx H locs ls hW hS hl
  have hx := hcx.1
  have hb := hcx.2.1
  have hown := hcx.2.2.2.2.2.1
  have hts := hcx.2.2.2.2.2.2.1
  refine lv_iload (pc := 60) hx hb dX4_laysKeys_60 (lv_at hl 6 rfl) ?_
  refine lv_aload_n (pc := 62) hx hb dX4_laysKeys_62 rfl (lv_at hl 0 rfl) ?_
  refine lv_iload_n (pc := 63) hx hb dX4_laysKeys_63 rfl (lv_at hl 3 rfl) ?_
  refine mj_ci (pc := 64) (mj_runV hcx hW [.int x3] h (Nat.le_trans (by decide) hd) (lw_V q1490 q1492 qs63 q125 q1493) yd_many (by decide) rfl rfl (Nat.le_of_ble_eq_true rfl) hl.1 dX4_laysKeys_64) hS (fun r1 σ2 h H locs hW hS => ?_)
  refine lv_icmp_ge (pc := 67) (tgt := 107) hx hb dX4_laysKeys_67 (by decide) (fun c3 => ?_) (fun c3 => ?_)
  · have h := h.1 c3
    refine lv_iload_n (pc := 107) hx hb dX4_laysKeys_107 rfl (lv_at hl 2 rfl) ?_
    refine lv_if_eq (pc := 108) (tgt := 125) hx hb dX4_laysKeys_108 (by decide) (fun c4 => ?_) (fun c4 => ?_)
    · have h := h.1 c4
      refine lv_iconst (pc := 125) (v := (0 : Int32)) hx hb dX4_laysKeys_125 (by decide) ?_
      refine lv_istore_n (pc := 126) (lv' := [(2, .int (0 : Int32)), (0, .ref (mj_o E)), (1, .int x1), (3, .int x3), (4, .int x4), (5, .int x5), (6, .int x6)]) hx hb dX4_laysKeys_126 rfl hl (by decide) rfl (fun ls hl => ?_)
      refine lv_iinc (pc := 127) (v := (x3 + (1 : Int32))) (lv' := [(3, .int (x3 + (1 : Int32))), (2, .int (0 : Int32)), (0, .ref (mj_o E)), (1, .int x1), (4, .int x4), (5, .int x5), (6, .int x6)]) hx hb dX4_laysKeys_127 hl (k := 3) rfl rfl (by decide) rfl (fun ls hl => ?_)
      refine lv_goto (pc := 130) (tgt := 4) hx hb dX4_laysKeys_130 (by decide) ?_
      exact h d hd p e s m args below meth c hcx H locs _ hW hS (lv_sub hl [2, 3, 1, 0] rfl)
    · have h := h.2 c4
      refine lv_aload_n (pc := 111) hx hb dX4_laysKeys_111 rfl (lv_at hl 0 rfl) ?_
      refine mj_geta (pc := 112) hcx hW 22 (by decide) rfl q1277 dX4_laysKeys_112 ?_
      refine lv_iload (pc := 115) hx hb dX4_laysKeys_115 (lv_at hl 4 rfl) ?_
      obtain ⟨g5, h⟩ := h
      refine mj_ald (pc := 117) hcx hW 22 rfl rfl g5 dX4_laysKeys_117 ?_
      refine lv_if_le (pc := 118) (tgt := 125) hx hb dX4_laysKeys_118 (by decide) (fun c6 => ?_) (fun c6 => ?_)
      · have h := h.1 c6
        refine lv_iconst (pc := 125) (v := (0 : Int32)) hx hb dX4_laysKeys_125 (by decide) ?_
        refine lv_istore_n (pc := 126) (lv' := [(2, .int (0 : Int32)), (0, .ref (mj_o E)), (1, .int x1), (3, .int x3), (4, .int x4), (5, .int x5), (6, .int x6)]) hx hb dX4_laysKeys_126 rfl hl (by decide) rfl (fun ls hl => ?_)
        refine lv_iinc (pc := 127) (v := (x3 + (1 : Int32))) (lv' := [(3, .int (x3 + (1 : Int32))), (2, .int (0 : Int32)), (0, .ref (mj_o E)), (1, .int x1), (4, .int x4), (5, .int x5), (6, .int x6)]) hx hb dX4_laysKeys_127 hl (k := 3) rfl rfl (by decide) rfl (fun ls hl => ?_)
        refine lv_goto (pc := 130) (tgt := 4) hx hb dX4_laysKeys_130 (by decide) ?_
        exact h d hd p e s m args below meth c hcx H locs _ hW hS (lv_sub hl [2, 3, 1, 0] rfl)
      · have h := h.2 c6
        refine lv_iconst (pc := 121) (v := (1 : Int32)) hx hb dX4_laysKeys_121 (by decide) ?_
        refine lv_goto (pc := 122) (tgt := 126) hx hb dX4_laysKeys_122 (by decide) ?_
        refine lv_istore_n (pc := 126) (lv' := [(2, .int (1 : Int32)), (0, .ref (mj_o E)), (1, .int x1), (3, .int x3), (4, .int x4), (5, .int x5), (6, .int x6)]) hx hb dX4_laysKeys_126 rfl hl (by decide) rfl (fun ls hl => ?_)
        refine lv_iinc (pc := 127) (v := (x3 + (1 : Int32))) (lv' := [(3, .int (x3 + (1 : Int32))), (2, .int (1 : Int32)), (0, .ref (mj_o E)), (1, .int x1), (4, .int x4), (5, .int x5), (6, .int x6)]) hx hb dX4_laysKeys_127 hl (k := 3) rfl rfl (by decide) rfl (fun ls hl => ?_)
        refine lv_goto (pc := 130) (tgt := 4) hx hb dX4_laysKeys_130 (by decide) ?_
        exact h d hd p e s m args below meth c hcx H locs _ hW hS (lv_sub hl [2, 3, 1, 0] rfl)
  · have h := h.2 c3
    refine lv_aload_n (pc := 70) hx hb dX4_laysKeys_70 rfl (lv_at hl 0 rfl) ?_
    refine lv_iload_n (pc := 71) hx hb dX4_laysKeys_71 rfl (lv_at hl 3 rfl) ?_
    refine lv_iload (pc := 72) hx hb dX4_laysKeys_72 (lv_at hl 6 rfl) ?_
    refine lv_iload_n (pc := 74) hx hb dX4_laysKeys_74 rfl (lv_at hl 1 rfl) ?_
    refine mj_ci (pc := 75) (mj_runV hcx hW [.int x3, .int x6, .int x1] h (Nat.le_trans (by decide) hd) (lw_V q1605 q1607 qs90 q125 q1608) yd_fits (by decide) rfl rfl (Nat.le_of_ble_eq_true rfl) hl.1 dX4_laysKeys_75) hS (fun r7 σ8 h H locs hW hS => ?_)
    refine lv_if_eq (pc := 78) (tgt := 101) hx hb dX4_laysKeys_78 (by decide) (fun c9 => ?_) (fun c9 => ?_)
    · have h := h.1 c9
      refine lv_iinc (pc := 101) (v := (x6 + (1 : Int32))) (lv' := [(6, .int (x6 + (1 : Int32))), (0, .ref (mj_o E)), (1, .int x1), (2, .int x2), (3, .int x3), (4, .int x4), (5, .int x5)]) hx hb dX4_laysKeys_101 hl (k := 6) rfl rfl (by decide) rfl (fun ls hl => ?_)
      refine lv_goto (pc := 104) (tgt := 60) hx hb dX4_laysKeys_104 (by decide) ?_
      exact h d hd p e s m args below meth c hcx H locs _ hW hS (lv_sub hl [1, 2, 3, 4, 5, 6, 0] rfl)
    · have h := h.2 c9
      refine lv_aload_n (pc := 81) hx hb dX4_laysKeys_81 rfl (lv_at hl 0 rfl) ?_
      refine lv_iload (pc := 82) hx hb dX4_laysKeys_82 (lv_at hl 4 rfl) ?_
      refine lv_aload_n (pc := 84) hx hb dX4_laysKeys_84 rfl (lv_at hl 0 rfl) ?_
      refine mj_geta (pc := 85) hcx hW 13 (by decide) rfl q1268 dX4_laysKeys_85 ?_
      refine lv_iload_n (pc := 88) hx hb dX4_laysKeys_88 rfl (lv_at hl 3 rfl) ?_
      refine lv_iload (pc := 89) hx hb dX4_laysKeys_89 (lv_at hl 6 rfl) ?_
      refine mj_ci (pc := 91) (mj_runS hcx hW [.int x3, .int x6] h (Nat.le_trans (by decide) hd) (lw_S q1498 q1499 q125 q1500) yd_rowAt.2 (by decide) rfl rfl (Nat.le_of_ble_eq_true rfl) hl.1 dX4_laysKeys_91) hS (fun r10 σ11 h H locs hW hS => ?_)
      refine lv_iload (pc := 94) hx hb dX4_laysKeys_94 (lv_at hl 5 rfl) ?_
      refine lv_iadd (pc := 96) hx hb dX4_laysKeys_96 ?_
      obtain ⟨g12, h⟩ := h
      refine mj_ald (pc := 97) hcx hW 13 rfl rfl g12 dX4_laysKeys_97 ?_
      refine mj_cv (pc := 98) (mj_runV hcx hW [.int x4, .int (mj_A σ11 13 (r10 + x5).toNatClampNeg)] h (Nat.le_trans (by decide) hd) (lw_V q1609 q1611 qs91 q125 q1612) yd_takesKey (by decide) rfl rfl (Nat.le_of_ble_eq_true rfl) hl.1 dX4_laysKeys_98) hS (fun σ14 h H locs hW hS => ?_)
      refine lv_iinc (pc := 101) (v := (x6 + (1 : Int32))) (lv' := [(6, .int (x6 + (1 : Int32))), (0, .ref (mj_o E)), (1, .int x1), (2, .int x2), (3, .int x3), (4, .int x4), (5, .int x5)]) hx hb dX4_laysKeys_101 hl (k := 6) rfl rfl (by decide) rfl (fun ls hl => ?_)
      refine lv_goto (pc := 104) (tgt := 60) hx hb dX4_laysKeys_104 (by decide) ?_
      exact h d hd p e s m args below meth c hcx H locs _ hW hS (lv_sub hl [1, 2, 3, 4, 5, 6, 0] rfl)
set_option maxHeartbeats 4000000 in
set_option maxRecDepth 100000 in
theorem mb_laysKeys {E : mj_E} {σ : mj_S} {x1 : Int32} {P : Int32 → mj_S → Prop} (hE : mj_ok E) (h : mg_laysKeys_4 E σ x1 (1 : Int32) (0 : Int32) P) : ms_laysKeys E σ x1 P :=
  mj_enter (k := 3) (lv := [(0, .ref (mj_o E)), (1, .int x1)]) hE rfl (Nat.le_of_ble_eq_true rfl) rfl (by
    intro d hd p e s m args below meth c hcx H locs ls hW hS hl
    have hx := hcx.1
    have hb := hcx.2.1
    have hown := hcx.2.2.2.2.2.1
    have hts := hcx.2.2.2.2.2.2.1
    refine lv_iconst (pc := 0) (v := (1 : Int32)) hx hb dX4_laysKeys_0 (by decide) ?_
    refine lv_istore_n (pc := 1) (lv' := [(2, .int (1 : Int32)), (0, .ref (mj_o E)), (1, .int x1)]) hx hb dX4_laysKeys_1 rfl hl (by decide) rfl (fun ls hl => ?_)
    refine lv_iconst (pc := 2) (v := (0 : Int32)) hx hb dX4_laysKeys_2 (by decide) ?_
    refine lv_istore_n (pc := 3) (lv' := [(3, .int (0 : Int32)), (2, .int (1 : Int32)), (0, .ref (mj_o E)), (1, .int x1)]) hx hb dX4_laysKeys_3 rfl hl (by decide) rfl (fun ls hl => ?_)
    exact h d hd p e s m args below meth c hcx H locs _ hW hS (lv_sub hl [2, 3, 1, 0] rfl))
/-! laysOrder -/
set_option maxHeartbeats 4000000 in
set_option maxRecDepth 100000 in
theorem mb_laysOrder_17 {E : mj_E} {σ : mj_S} {x2 : Int32} {x3 : Int32} {x4 : Int32} {x5 : Int32} {P : mj_S → Prop} (h : (((4 : Int32) ≤ x5 → P σ) ∧ (¬ (4 : Int32) ≤ x5 → (¬ x4 = 0 ∧ (¬ x4 = 0 ∧ (((2 : Int32) ≤ x5 → mg_laysOrder_56 E σ x2 (x3 - x3 / x4 * x4) (1 : Int32) x5 (x3 / x4) (0 : Int32) P) ∧ (¬ (2 : Int32) ≤ x5 → (¬ ((3 : Int32) - x5) = 0 ∧ mg_laysOrder_56 E σ x2 (x3 - x3 / x4 * x4) (x4 / ((3 : Int32) - x5)) x5 (x3 / x4) (0 : Int32) P)))))))) : mg_laysOrder_17 E σ x2 x3 x4 x5 P := by
  intro d hd p e s m args below meth c hcx H locs ls hW hS hl
  have hx := hcx.1
  have hb := hcx.2.1
  have hown := hcx.2.2.2.2.2.1
  have hts := hcx.2.2.2.2.2.2.1
  refine lv_iload (pc := 17) hx hb dX4_laysOrder_17 (lv_at hl 4 rfl) ?_
  refine lv_iconst (pc := 19) (v := (4 : Int32)) hx hb dX4_laysOrder_19 (by decide) ?_
  refine lv_icmp_ge (pc := 20) (tgt := 143) hx hb dX4_laysOrder_20 (by decide) (fun c1 => ?_) (fun c1 => ?_)
  · have h := h.1 c1
    exact mj_retv (pc := 143) hcx hW hS h dX4_laysOrder_143
  · have h := h.2 c1
    refine lv_iload_n (pc := 23) hx hb dX4_laysOrder_23 rfl (lv_at hl 2 rfl) ?_
    refine lv_iload (pc := 24) hx hb dX4_laysOrder_24 (lv_at hl 3 rfl) ?_
    obtain ⟨g2, h⟩ := h
    refine lv_idiv (pc := 26) hx hb dX4_laysOrder_26 g2 ?_
    refine lv_istore (pc := 27) (lv' := [(6, .int (x3 / x4)), (0, .ref (mj_o E)), (2, .int x2), (3, .int x3), (4, .int x4), (5, .int x5)]) hx hb dX4_laysOrder_27 hl (by decide) rfl (fun ls hl => ?_)
    refine lv_iload_n (pc := 29) hx hb dX4_laysOrder_29 rfl (lv_at hl 3 rfl) ?_
    refine lv_iload (pc := 30) hx hb dX4_laysOrder_30 (lv_at hl 4 rfl) ?_
    obtain ⟨g3, h⟩ := h
    refine lv_irem (pc := 32) hx hb dX4_laysOrder_32 g3 ?_
    refine lv_istore_n (pc := 33) (lv' := [(3, .int (x3 - x3 / x4 * x4)), (6, .int (x3 / x4)), (0, .ref (mj_o E)), (2, .int x2), (4, .int x4), (5, .int x5)]) hx hb dX4_laysOrder_33 rfl hl (by decide) rfl (fun ls hl => ?_)
    refine lv_iload (pc := 34) hx hb dX4_laysOrder_34 (lv_at hl 5 rfl) ?_
    refine lv_iconst (pc := 36) (v := (2 : Int32)) hx hb dX4_laysOrder_36 (by decide) ?_
    refine lv_icmp_ge (pc := 37) (tgt := 50) hx hb dX4_laysOrder_37 (by decide) (fun c4 => ?_) (fun c4 => ?_)
    · have h := h.1 c4
      refine lv_iconst (pc := 50) (v := (1 : Int32)) hx hb dX4_laysOrder_50 (by decide) ?_
      refine lv_istore (pc := 51) (lv' := [(4, .int (1 : Int32)), (3, .int (x3 - x3 / x4 * x4)), (6, .int (x3 / x4)), (0, .ref (mj_o E)), (2, .int x2), (5, .int x5)]) hx hb dX4_laysOrder_51 hl (by decide) rfl (fun ls hl => ?_)
      refine lv_iconst (pc := 53) (v := (0 : Int32)) hx hb dX4_laysOrder_53 (by decide) ?_
      refine lv_istore (pc := 54) (lv' := [(7, .int (0 : Int32)), (4, .int (1 : Int32)), (3, .int (x3 - x3 / x4 * x4)), (6, .int (x3 / x4)), (0, .ref (mj_o E)), (2, .int x2), (5, .int x5)]) hx hb dX4_laysOrder_54 hl (by decide) rfl (fun ls hl => ?_)
      exact h d hd p e s m args below meth c hcx H locs _ hW hS (lv_sub hl [4, 5, 2, 1, 6, 3, 0] rfl)
    · have h := h.2 c4
      refine lv_iload (pc := 40) hx hb dX4_laysOrder_40 (lv_at hl 4 rfl) ?_
      refine lv_iconst (pc := 42) (v := (3 : Int32)) hx hb dX4_laysOrder_42 (by decide) ?_
      refine lv_iload (pc := 43) hx hb dX4_laysOrder_43 (lv_at hl 5 rfl) ?_
      refine lv_isub (pc := 45) hx hb dX4_laysOrder_45 ?_
      obtain ⟨g5, h⟩ := h
      refine lv_idiv (pc := 46) hx hb dX4_laysOrder_46 g5 ?_
      refine lv_goto (pc := 47) (tgt := 51) hx hb dX4_laysOrder_47 (by decide) ?_
      refine lv_istore (pc := 51) (lv' := [(4, .int (x4 / ((3 : Int32) - x5))), (3, .int (x3 - x3 / x4 * x4)), (6, .int (x3 / x4)), (0, .ref (mj_o E)), (2, .int x2), (5, .int x5)]) hx hb dX4_laysOrder_51 hl (by decide) rfl (fun ls hl => ?_)
      refine lv_iconst (pc := 53) (v := (0 : Int32)) hx hb dX4_laysOrder_53 (by decide) ?_
      refine lv_istore (pc := 54) (lv' := [(7, .int (0 : Int32)), (4, .int (x4 / ((3 : Int32) - x5))), (3, .int (x3 - x3 / x4 * x4)), (6, .int (x3 / x4)), (0, .ref (mj_o E)), (2, .int x2), (5, .int x5)]) hx hb dX4_laysOrder_54 hl (by decide) rfl (fun ls hl => ?_)
      exact h d hd p e s m args below meth c hcx H locs _ hW hS (lv_sub hl [4, 5, 2, 1, 6, 3, 0] rfl)
set_option maxHeartbeats 4000000 in
set_option maxRecDepth 100000 in
theorem mb_laysOrder_56 {E : mj_E} {σ : mj_S} {x2 : Int32} {x3 : Int32} {x4 : Int32} {x5 : Int32} {x6 : Int32} {x7 : Int32} {P : mj_S → Prop} (h : ms_has E σ x2 x7 (fun r1 σ2 => ((r1 = 0 → mg_laysOrder_70 E σ2 x2 x3 x4 x5 x6 x7 P) ∧ (¬ r1 = 0 → ((x6 ≤ 0 → ms_asked E σ2 (fun r5 σ6 => ms_has E σ6 r5 x7 (fun r7 σ8 => ((r7 = 0 → mg_laysOrder_17 E σ8 (x2 &&& (((1 : Int32) <<< (x7 &&& 31)) ^^^ (-1 : Int32))) x3 x4 (x5 + (1 : Int32)) P) ∧ (¬ r7 = 0 → (vp_in (mj_F σ8 19) 4 ∧ mg_laysOrder_17 E (mj_sF (mj_sA σ8 18 (mj_F σ8 19).toNatClampNeg x7) 19 ((mj_F (mj_sA σ8 18 (mj_F σ8 19).toNatClampNeg x7) 19) + (1 : Int32))) (x2 &&& (((1 : Int32) <<< (x7 &&& 31)) ^^^ (-1 : Int32))) x3 x4 (x5 + (1 : Int32)) P)))))) ∧ (¬ x6 ≤ 0 → mg_laysOrder_70 E σ2 x2 x3 x4 x5 x6 x7 P)))))) : mg_laysOrder_56 E σ x2 x3 x4 x5 x6 x7 P := by
  intro d hd p e s m args below meth c hcx H locs ls hW hS hl
  have hx := hcx.1
  have hb := hcx.2.1
  have hown := hcx.2.2.2.2.2.1
  have hts := hcx.2.2.2.2.2.2.1
  refine lv_iload_n (pc := 56) hx hb dX4_laysOrder_56 rfl (lv_at hl 1 rfl) ?_
  refine lv_iload (pc := 57) hx hb dX4_laysOrder_57 (lv_at hl 6 rfl) ?_
  refine mj_ci (pc := 59) (mj_runS hcx hW [.int x2, .int x7] h (Nat.le_trans (by decide) hd) (lw_S q1440 q1441 q125 q1442) yd_has.2 (by decide) rfl rfl (Nat.le_of_ble_eq_true rfl) hl.1 dX4_laysOrder_59) hS (fun r1 σ2 h H locs hW hS => ?_)
  refine lv_if_eq (pc := 62) (tgt := 70) hx hb dX4_laysOrder_62 (by decide) (fun c3 => ?_) (fun c3 => ?_)
  · have h := h.1 c3
    exact h d hd p e s m args below meth c hcx H locs _ hW hS (lv_sub hl [0, 1, 2, 3, 4, 5, 6] rfl)
  · have h := h.2 c3
    refine lv_iload (pc := 65) hx hb dX4_laysOrder_65 (lv_at hl 5 rfl) ?_
    refine lv_if_le (pc := 67) (tgt := 95) hx hb dX4_laysOrder_67 (by decide) (fun c4 => ?_) (fun c4 => ?_)
    · have h := h.1 c4
      refine lv_iload_n (pc := 95) hx hb dX4_laysOrder_95 rfl (lv_at hl 1 rfl) ?_
      refine lv_iconst (pc := 96) (v := (1 : Int32)) hx hb dX4_laysOrder_96 (by decide) ?_
      refine lv_iload (pc := 97) hx hb dX4_laysOrder_97 (lv_at hl 6 rfl) ?_
      refine lv_ishl (pc := 99) hx hb dX4_laysOrder_99 ?_
      refine lv_iconst (pc := 100) (v := (-1 : Int32)) hx hb dX4_laysOrder_100 (by decide) ?_
      refine lv_ixor (pc := 101) hx hb dX4_laysOrder_101 ?_
      refine lv_iand (pc := 102) hx hb dX4_laysOrder_102 ?_
      refine lv_istore_n (pc := 103) (lv' := [(2, .int (x2 &&& (((1 : Int32) <<< (x7 &&& 31)) ^^^ (-1 : Int32)))), (0, .ref (mj_o E)), (3, .int x3), (4, .int x4), (5, .int x5), (6, .int x6), (7, .int x7)]) hx hb dX4_laysOrder_103 rfl hl (by decide) rfl (fun ls hl => ?_)
      refine lv_aload_n (pc := 104) hx hb dX4_laysOrder_104 rfl (lv_at hl 1 rfl) ?_
      refine mj_ci (pc := 105) (mj_runV hcx hW [] h (Nat.le_trans (by decide) hd) (lw_V q1577 q1579 qs83 q125 q1580) yd_asked (by decide) rfl rfl (Nat.le_of_ble_eq_true rfl) hl.1 dX4_laysOrder_105) hS (fun r5 σ6 h H locs hW hS => ?_)
      refine lv_iload (pc := 108) hx hb dX4_laysOrder_108 (lv_at hl 6 rfl) ?_
      refine mj_ci (pc := 110) (mj_runS hcx hW [.int r5, .int x7] h (Nat.le_trans (by decide) hd) (lw_S q1440 q1441 q125 q1442) yd_has.2 (by decide) rfl rfl (Nat.le_of_ble_eq_true rfl) hl.1 dX4_laysOrder_110) hS (fun r7 σ8 h H locs hW hS => ?_)
      refine lv_if_eq (pc := 113) (tgt := 137) hx hb dX4_laysOrder_113 (by decide) (fun c9 => ?_) (fun c9 => ?_)
      · have h := h.1 c9
        refine lv_iinc (pc := 137) (v := (x5 + (1 : Int32))) (lv' := [(5, .int (x5 + (1 : Int32))), (2, .int (x2 &&& (((1 : Int32) <<< (x7 &&& 31)) ^^^ (-1 : Int32)))), (0, .ref (mj_o E)), (3, .int x3), (4, .int x4), (6, .int x6), (7, .int x7)]) hx hb dX4_laysOrder_137 hl (k := 4) rfl rfl (by decide) rfl (fun ls hl => ?_)
        refine lv_goto (pc := 140) (tgt := 17) hx hb dX4_laysOrder_140 (by decide) ?_
        exact h d hd p e s m args below meth c hcx H locs _ hW hS (lv_sub hl [2, 1, 3, 4, 0] rfl)
      · have h := h.2 c9
        refine lv_aload_n (pc := 116) hx hb dX4_laysOrder_116 rfl (lv_at hl 1 rfl) ?_
        refine mj_geta (pc := 117) hcx hW 18 (by decide) rfl q1273 dX4_laysOrder_117 ?_
        refine lv_aload_n (pc := 120) hx hb dX4_laysOrder_120 rfl (lv_at hl 1 rfl) ?_
        refine mj_geti (pc := 121) hcx hW 19 (by decide) rfl q1274 dX4_laysOrder_121 ?_
        refine lv_iload (pc := 124) hx hb dX4_laysOrder_124 (lv_at hl 6 rfl) ?_
        obtain ⟨g10, h⟩ := h
        refine mj_ast (pc := 126) hcx hW hS 18 rfl rfl g10 dX4_laysOrder_126 (fun H locs hW hS => ?_)
        refine lv_aload_n (pc := 127) hx hb dX4_laysOrder_127 rfl (lv_at hl 1 rfl) ?_
        refine lv_dup (pc := 128) hx hb dX4_laysOrder_128 rfl ?_
        refine mj_geti (pc := 129) hcx hW 19 (by decide) rfl q1274 dX4_laysOrder_129 ?_
        refine lv_iconst (pc := 132) (v := (1 : Int32)) hx hb dX4_laysOrder_132 (by decide) ?_
        refine lv_iadd (pc := 133) hx hb dX4_laysOrder_133 ?_
        refine mj_puti (pc := 134) hcx hW hS 19 (by decide) rfl rfl rfl rfl q1274 dX4_laysOrder_134 (fun H locs hW hS => ?_)
        refine lv_iinc (pc := 137) (v := (x5 + (1 : Int32))) (lv' := [(5, .int (x5 + (1 : Int32))), (2, .int (x2 &&& (((1 : Int32) <<< (x7 &&& 31)) ^^^ (-1 : Int32)))), (0, .ref (mj_o E)), (3, .int x3), (4, .int x4), (6, .int x6), (7, .int x7)]) hx hb dX4_laysOrder_137 hl (k := 4) rfl rfl (by decide) rfl (fun ls hl => ?_)
        refine lv_goto (pc := 140) (tgt := 17) hx hb dX4_laysOrder_140 (by decide) ?_
        exact h d hd p e s m args below meth c hcx H locs _ hW hS (lv_sub hl [2, 1, 3, 4, 0] rfl)
    · have h := h.2 c4
      exact h d hd p e s m args below meth c hcx H locs _ hW hS (lv_sub hl [0, 1, 2, 3, 4, 5, 6] rfl)
set_option maxHeartbeats 4000000 in
set_option maxRecDepth 100000 in
theorem mb_laysOrder_70 {E : mj_E} {σ : mj_S} {x2 : Int32} {x3 : Int32} {x4 : Int32} {x5 : Int32} {x6 : Int32} {x7 : Int32} {P : mj_S → Prop} (h : ms_has E σ x2 x7 (fun r1 σ2 => ((r1 = 0 → mg_laysOrder_56 E σ2 x2 x3 x4 x5 (x6 - (0 : Int32)) (x7 + (1 : Int32)) P) ∧ (¬ r1 = 0 → mg_laysOrder_56 E σ2 x2 x3 x4 x5 (x6 - (1 : Int32)) (x7 + (1 : Int32)) P)))) : mg_laysOrder_70 E σ x2 x3 x4 x5 x6 x7 P := by
  intro d hd p e s m args below meth c hcx H locs ls hW hS hl
  have hx := hcx.1
  have hb := hcx.2.1
  have hown := hcx.2.2.2.2.2.1
  have hts := hcx.2.2.2.2.2.2.1
  refine lv_iload (pc := 70) hx hb dX4_laysOrder_70 (lv_at hl 5 rfl) ?_
  refine lv_iload_n (pc := 72) hx hb dX4_laysOrder_72 rfl (lv_at hl 1 rfl) ?_
  refine lv_iload (pc := 73) hx hb dX4_laysOrder_73 (lv_at hl 6 rfl) ?_
  refine mj_ci (pc := 75) (mj_runS hcx hW [.int x2, .int x7] h (Nat.le_trans (by decide) hd) (lw_S q1440 q1441 q125 q1442) yd_has.2 (by decide) rfl rfl (Nat.le_of_ble_eq_true rfl) hl.1 dX4_laysOrder_75) hS (fun r1 σ2 h H locs hW hS => ?_)
  refine lv_if_eq (pc := 78) (tgt := 85) hx hb dX4_laysOrder_78 (by decide) (fun c3 => ?_) (fun c3 => ?_)
  · have h := h.1 c3
    refine lv_iconst (pc := 85) (v := (0 : Int32)) hx hb dX4_laysOrder_85 (by decide) ?_
    refine lv_isub (pc := 86) hx hb dX4_laysOrder_86 ?_
    refine lv_istore (pc := 87) (lv' := [(6, .int (x6 - (0 : Int32))), (0, .ref (mj_o E)), (2, .int x2), (3, .int x3), (4, .int x4), (5, .int x5), (7, .int x7)]) hx hb dX4_laysOrder_87 hl (by decide) rfl (fun ls hl => ?_)
    refine lv_iinc (pc := 89) (v := (x7 + (1 : Int32))) (lv' := [(7, .int (x7 + (1 : Int32))), (6, .int (x6 - (0 : Int32))), (0, .ref (mj_o E)), (2, .int x2), (3, .int x3), (4, .int x4), (5, .int x5)]) hx hb dX4_laysOrder_89 hl (k := 6) rfl rfl (by decide) rfl (fun ls hl => ?_)
    refine lv_goto (pc := 92) (tgt := 56) hx hb dX4_laysOrder_92 (by decide) ?_
    exact h d hd p e s m args below meth c hcx H locs _ hW hS (lv_sub hl [2, 3, 4, 5, 6, 1, 0] rfl)
  · have h := h.2 c3
    refine lv_iconst (pc := 81) (v := (1 : Int32)) hx hb dX4_laysOrder_81 (by decide) ?_
    refine lv_goto (pc := 82) (tgt := 86) hx hb dX4_laysOrder_82 (by decide) ?_
    refine lv_isub (pc := 86) hx hb dX4_laysOrder_86 ?_
    refine lv_istore (pc := 87) (lv' := [(6, .int (x6 - (1 : Int32))), (0, .ref (mj_o E)), (2, .int x2), (3, .int x3), (4, .int x4), (5, .int x5), (7, .int x7)]) hx hb dX4_laysOrder_87 hl (by decide) rfl (fun ls hl => ?_)
    refine lv_iinc (pc := 89) (v := (x7 + (1 : Int32))) (lv' := [(7, .int (x7 + (1 : Int32))), (6, .int (x6 - (1 : Int32))), (0, .ref (mj_o E)), (2, .int x2), (3, .int x3), (4, .int x4), (5, .int x5)]) hx hb dX4_laysOrder_89 hl (k := 6) rfl rfl (by decide) rfl (fun ls hl => ?_)
    refine lv_goto (pc := 92) (tgt := 56) hx hb dX4_laysOrder_92 (by decide) ?_
    exact h d hd p e s m args below meth c hcx H locs _ hW hS (lv_sub hl [2, 3, 4, 5, 6, 1, 0] rfl)
set_option maxHeartbeats 4000000 in
set_option maxRecDepth 100000 in
theorem mb_laysOrder {E : mj_E} {σ : mj_S} {x1 : Int32} {P : mj_S → Prop} (hE : mj_ok E) (h : mg_laysOrder_17 E (mj_sF σ 19 (0 : Int32)) (15 : Int32) x1 (6 : Int32) (0 : Int32) P) : ms_laysOrder E σ x1 P :=
  mj_enter (k := 3) (lv := [(0, .ref (mj_o E)), (1, .int x1)]) hE rfl (Nat.le_of_ble_eq_true rfl) rfl (by
    intro d hd p e s m args below meth c hcx H locs ls hW hS hl
    have hx := hcx.1
    have hb := hcx.2.1
    have hown := hcx.2.2.2.2.2.1
    have hts := hcx.2.2.2.2.2.2.1
    refine lv_bipush (pc := 0) (v := (15 : Int32)) hx hb dX4_laysOrder_0 (by decide) ?_
    refine lv_istore_n (pc := 2) (lv' := [(2, .int (15 : Int32)), (0, .ref (mj_o E)), (1, .int x1)]) hx hb dX4_laysOrder_2 rfl hl (by decide) rfl (fun ls hl => ?_)
    refine lv_iload_n (pc := 3) hx hb dX4_laysOrder_3 rfl (lv_at hl 2 rfl) ?_
    refine lv_istore_n (pc := 4) (lv' := [(3, .int x1), (2, .int (15 : Int32)), (0, .ref (mj_o E)), (1, .int x1)]) hx hb dX4_laysOrder_4 rfl hl (by decide) rfl (fun ls hl => ?_)
    refine lv_aload_n (pc := 5) hx hb dX4_laysOrder_5 rfl (lv_at hl 2 rfl) ?_
    refine lv_iconst (pc := 6) (v := (0 : Int32)) hx hb dX4_laysOrder_6 (by decide) ?_
    refine mj_puti (pc := 7) hcx hW hS 19 (by decide) rfl rfl rfl rfl q1274 dX4_laysOrder_7 (fun H locs hW hS => ?_)
    refine lv_bipush (pc := 10) (v := (6 : Int32)) hx hb dX4_laysOrder_10 (by decide) ?_
    refine lv_istore (pc := 12) (lv' := [(4, .int (6 : Int32)), (3, .int x1), (2, .int (15 : Int32)), (0, .ref (mj_o E)), (1, .int x1)]) hx hb dX4_laysOrder_12 hl (by decide) rfl (fun ls hl => ?_)
    refine lv_iconst (pc := 14) (v := (0 : Int32)) hx hb dX4_laysOrder_14 (by decide) ?_
    refine lv_istore (pc := 15) (lv' := [(5, .int (0 : Int32)), (4, .int (6 : Int32)), (3, .int x1), (2, .int (15 : Int32)), (0, .ref (mj_o E)), (1, .int x1)]) hx hb dX4_laysOrder_15 hl (by decide) rfl (fun ls hl => ?_)
    exact h d hd p e s m args below meth c hcx H locs _ hW hS (lv_sub hl [4, 3, 2, 1, 0] rfl))
/-! notGiven -/
set_option maxHeartbeats 4000000 in
set_option maxRecDepth 100000 in
theorem mb_notGiven_4 {E : mj_E} {σ : mj_S} {x1 : Int32} {x2 : Int32} {P : Int32 → mj_S → Prop} (h : (((mj_F σ 17) ≤ x2 → P x1 σ) ∧ (¬ (mj_F σ 17) ≤ x2 → ms_isUsed E σ x2 (fun r2 σ3 => ((r2 = 0 → mg_notGiven_4 E σ3 (x1 + (0 : Int32)) (x2 + (1 : Int32)) P) ∧ (¬ r2 = 0 → ms_many E σ3 x2 (fun r5 σ6 => ms_givenBy E σ6 x2 (fun r7 σ8 => ms_bits E σ8 r7 (fun r9 σ10 => mg_notGiven_4 E σ10 (x1 + (r5 - r9)) (x2 + (1 : Int32)) P))))))))) : mg_notGiven_4 E σ x1 x2 P := by
  intro d hd p e s m args below meth c hcx H locs ls hW hS hl
  have hx := hcx.1
  have hb := hcx.2.1
  have hown := hcx.2.2.2.2.2.1
  have hts := hcx.2.2.2.2.2.2.1
  refine lv_iload_n (pc := 4) hx hb dX4_notGiven_4 rfl (lv_at hl 2 rfl) ?_
  refine lv_aload_n (pc := 5) hx hb dX4_notGiven_5 rfl (lv_at hl 0 rfl) ?_
  refine mj_geti (pc := 6) hcx hW 17 (by decide) rfl q1272 dX4_notGiven_6 ?_
  refine lv_icmp_ge (pc := 9) (tgt := 47) hx hb dX4_notGiven_9 (by decide) (fun c1 => ?_) (fun c1 => ?_)
  · have h := h.1 c1
    refine lv_iload_n (pc := 47) hx hb dX4_notGiven_47 rfl (lv_at hl 1 rfl) ?_
    exact mj_reti (pc := 48) hcx hW hS rfl h dX4_notGiven_48
  · have h := h.2 c1
    refine lv_iload_n (pc := 12) hx hb dX4_notGiven_12 rfl (lv_at hl 1 rfl) ?_
    refine lv_aload_n (pc := 13) hx hb dX4_notGiven_13 rfl (lv_at hl 0 rfl) ?_
    refine lv_iload_n (pc := 14) hx hb dX4_notGiven_14 rfl (lv_at hl 2 rfl) ?_
    refine mj_ci (pc := 15) (mj_runV hcx hW [.int x2] h (Nat.le_trans (by decide) hd) (lw_V q1553 q1555 qs77 q125 q1556) yd_isUsed (by decide) rfl rfl (Nat.le_of_ble_eq_true rfl) hl.1 dX4_notGiven_15) hS (fun r2 σ3 h H locs hW hS => ?_)
    refine lv_if_eq (pc := 18) (tgt := 38) hx hb dX4_notGiven_18 (by decide) (fun c4 => ?_) (fun c4 => ?_)
    · have h := h.1 c4
      refine lv_iconst (pc := 38) (v := (0 : Int32)) hx hb dX4_notGiven_38 (by decide) ?_
      refine lv_iadd (pc := 39) hx hb dX4_notGiven_39 ?_
      refine lv_istore_n (pc := 40) (lv' := [(1, .int (x1 + (0 : Int32))), (0, .ref (mj_o E)), (2, .int x2)]) hx hb dX4_notGiven_40 rfl hl (by decide) rfl (fun ls hl => ?_)
      refine lv_iinc (pc := 41) (v := (x2 + (1 : Int32))) (lv' := [(2, .int (x2 + (1 : Int32))), (1, .int (x1 + (0 : Int32))), (0, .ref (mj_o E))]) hx hb dX4_notGiven_41 hl (k := 2) rfl rfl (by decide) rfl (fun ls hl => ?_)
      refine lv_goto (pc := 44) (tgt := 4) hx hb dX4_notGiven_44 (by decide) ?_
      exact h d hd p e s m args below meth c hcx H locs _ hW hS (lv_sub hl [2, 1, 0] rfl)
    · have h := h.2 c4
      refine lv_aload_n (pc := 21) hx hb dX4_notGiven_21 rfl (lv_at hl 0 rfl) ?_
      refine lv_iload_n (pc := 22) hx hb dX4_notGiven_22 rfl (lv_at hl 2 rfl) ?_
      refine mj_ci (pc := 23) (mj_runV hcx hW [.int x2] h (Nat.le_trans (by decide) hd) (lw_V q1490 q1492 qs63 q125 q1493) yd_many (by decide) rfl rfl (Nat.le_of_ble_eq_true rfl) hl.1 dX4_notGiven_23) hS (fun r5 σ6 h H locs hW hS => ?_)
      refine lv_aload_n (pc := 26) hx hb dX4_notGiven_26 rfl (lv_at hl 0 rfl) ?_
      refine lv_iload_n (pc := 27) hx hb dX4_notGiven_27 rfl (lv_at hl 2 rfl) ?_
      refine mj_ci (pc := 28) (mj_runV hcx hW [.int x2] h (Nat.le_trans (by decide) hd) (lw_V q1733 q1735 qs104 q125 q1736) yd_givenBy (by decide) rfl rfl (Nat.le_of_ble_eq_true rfl) hl.1 dX4_notGiven_28) hS (fun r7 σ8 h H locs hW hS => ?_)
      refine mj_ci (pc := 31) (mj_runS hcx hW [.int r7] h (Nat.le_trans (by decide) hd) (lw_S q1860 q1861 q125 q1862) yd_bits.2 (by decide) rfl rfl (Nat.le_of_ble_eq_true rfl) hl.1 dX4_notGiven_31) hS (fun r9 σ10 h H locs hW hS => ?_)
      refine lv_isub (pc := 34) hx hb dX4_notGiven_34 ?_
      refine lv_goto (pc := 35) (tgt := 39) hx hb dX4_notGiven_35 (by decide) ?_
      refine lv_iadd (pc := 39) hx hb dX4_notGiven_39 ?_
      refine lv_istore_n (pc := 40) (lv' := [(1, .int (x1 + (r5 - r9))), (0, .ref (mj_o E)), (2, .int x2)]) hx hb dX4_notGiven_40 rfl hl (by decide) rfl (fun ls hl => ?_)
      refine lv_iinc (pc := 41) (v := (x2 + (1 : Int32))) (lv' := [(2, .int (x2 + (1 : Int32))), (1, .int (x1 + (r5 - r9))), (0, .ref (mj_o E))]) hx hb dX4_notGiven_41 hl (k := 2) rfl rfl (by decide) rfl (fun ls hl => ?_)
      refine lv_goto (pc := 44) (tgt := 4) hx hb dX4_notGiven_44 (by decide) ?_
      exact h d hd p e s m args below meth c hcx H locs _ hW hS (lv_sub hl [2, 1, 0] rfl)
set_option maxHeartbeats 4000000 in
set_option maxRecDepth 100000 in
theorem mb_notGiven {E : mj_E} {σ : mj_S} {P : Int32 → mj_S → Prop} (hE : mj_ok E) (h : mg_notGiven_4 E σ (0 : Int32) (0 : Int32) P) : ms_notGiven E σ P :=
  mj_enter (k := 3) (lv := [(0, .ref (mj_o E))]) hE rfl (Nat.le_of_ble_eq_true rfl) rfl (by
    intro d hd p e s m args below meth c hcx H locs ls hW hS hl
    have hx := hcx.1
    have hb := hcx.2.1
    have hown := hcx.2.2.2.2.2.1
    have hts := hcx.2.2.2.2.2.2.1
    refine lv_iconst (pc := 0) (v := (0 : Int32)) hx hb dX4_notGiven_0 (by decide) ?_
    refine lv_istore_n (pc := 1) (lv' := [(1, .int (0 : Int32)), (0, .ref (mj_o E))]) hx hb dX4_notGiven_1 rfl hl (by decide) rfl (fun ls hl => ?_)
    refine lv_iconst (pc := 2) (v := (0 : Int32)) hx hb dX4_notGiven_2 (by decide) ?_
    refine lv_istore_n (pc := 3) (lv' := [(2, .int (0 : Int32)), (1, .int (0 : Int32)), (0, .ref (mj_o E))]) hx hb dX4_notGiven_3 rfl hl (by decide) rfl (fun ls hl => ?_)
    exact h d hd p e s m args below meth c hcx H locs _ hW hS (lv_sub hl [2, 1, 0] rfl))
