/-! Jn_stands -/
set_option maxHeartbeats 4000000 in
set_option maxRecDepth 100000 in
theorem cb_Jn_stands_5 {E : cj_E} {σ : cj_S} {x0 : Nat} {x1 : Int32} {x2 : Int32} {x3 : Int32} {x4 : Int32} {P : Int32 → cj_S → Prop} (h : (cj_T σ x0 = 3 ∧ (∃ a2, (cj_R σ 312 x0) = some a2 ∧ (cj_T σ a2 = 1 ∧ (((cj_F σ 107 a2) ≤ x4 → (narrow .boolean (.int x3) = .int x3 ∧ P x3 σ)) ∧ (¬ (cj_F σ 107 a2) ≤ x4 → cs_Jn_isHere E σ x0 x1 x4 (fun r7 σ8 => ((r7 = 0 → cg_Jn_stands_5 E σ8 x0 x1 x2 x3 (x4 + (1 : Int32)) P) ∧ (¬ r7 = 0 → (cj_T σ8 x0 = 3 ∧ (∃ a11, (cj_R σ8 305 x0) = some a11 ∧ (cj_T σ8 a11 = 23 ∧ (vp_in x1 (cj_N σ8 a11) ∧ (∃ a15, (cj_R σ8 307 x0) = some a15 ∧ (cj_T σ8 a15 = 2 ∧ (∃ a18, (cj_R σ8 200 a15) = some a18 ∧ (cj_T σ8 a18 = 26 ∧ (vp_in x4 (cj_N σ8 a18) ∧ (∃ a22, (cj_R σ8 302 x0) = some a22 ∧ (cj_T σ8 a22 = 21 ∧ (vp_in x1 (cj_N σ8 a22) ∧ (∃ a26, (cj_R σ8 304 x0) = some a26 ∧ (cj_T σ8 a26 = 24 ∧ (vp_in x1 (cj_N σ8 a26) ∧ (∃ a30, (cj_B σ8 a26 x1.toNatClampNeg) = some a30 ∧ (cj_T σ8 a30 = 23 ∧ (vp_in x4 (cj_N σ8 a30) ∧ (∃ a34, (cj_B σ8 a18 x4.toNatClampNeg) = some a34 ∧ (cj_T σ8 a34 = 6 ∧ cs_Tb_keys E σ8 a34 (cj_A σ8 a22 x1.toNatClampNeg) (cj_R σ8 301 x0) x2 (cj_B σ8 a30 x4.toNatClampNeg) (fun r36 σ37 => (∃ a39, (cj_B σ8 a11 x1.toNatClampNeg) = some a39 ∧ (cj_T σ37 a39 = 21 ∧ (vp_in x4 (cj_N σ37 a39) ∧ (cj_T σ37 x0 = 3 ∧ (∃ a44, (cj_R σ37 306 x0) = some a44 ∧ (cj_T σ37 a44 = 23 ∧ (vp_in x1 (cj_N σ37 a44) ∧ (∃ a48, (cj_B σ37 a44 x1.toNatClampNeg) = some a48 ∧ (cj_T σ37 a48 = 21 ∧ (vp_in x4 (cj_N σ37 a48) ∧ ((x3 = 0 → cg_Jn_stands_5 E (cj_sA (cj_sA σ37 a39 x4.toNatClampNeg r36) a48 x4.toNatClampNeg (0 : Int32)) x0 x1 x2 (0 : Int32) (x4 + (1 : Int32)) P) ∧ (¬ x3 = 0 → (∃ a53, (cj_R σ37 305 x0) = some a53 ∧ (cj_T σ37 a53 = 23 ∧ (vp_in x1 (cj_N σ37 a53) ∧ (∃ a57, (cj_B σ37 a53 x1.toNatClampNeg) = some a57 ∧ (cj_T σ37 a57 = 21 ∧ (vp_in x4 (cj_N σ37 a57) ∧ (((cj_A (cj_sA (cj_sA σ37 a39 x4.toNatClampNeg r36) a48 x4.toNatClampNeg (0 : Int32)) a57 x4.toNatClampNeg) ≤ 0 → cg_Jn_stands_5 E (cj_sA (cj_sA σ37 a39 x4.toNatClampNeg r36) a48 x4.toNatClampNeg (0 : Int32)) x0 x1 x2 (0 : Int32) (x4 + (1 : Int32)) P) ∧ (¬ (cj_A (cj_sA (cj_sA σ37 a39 x4.toNatClampNeg r36) a48 x4.toNatClampNeg (0 : Int32)) a57 x4.toNatClampNeg) ≤ 0 → cg_Jn_stands_5 E (cj_sA (cj_sA σ37 a39 x4.toNatClampNeg r36) a48 x4.toNatClampNeg (0 : Int32)) x0 x1 x2 (1 : Int32) (x4 + (1 : Int32)) P)))))))))))))))))))))))))))))))))))))))))))))))))) : cg_Jn_stands_5 E σ x0 x1 x2 x3 x4 P := by
  intro d hd p e s m args below meth c hcx H locs ls hW hS hl
  have hx := hcx.1
  have hb := hcx.2.1
  have hown := hcx.2.2.2.2.2.1
  have hts := hcx.2.2.2.2.2.2.1
  refine lv_iload (pc := 5) hx hb dX3_stands_5 (lv_at hl 4 rfl) ?_
  refine lv_aload_n (pc := 7) hx hb dX3_stands_7 rfl (lv_at hl 0 rfl) ?_
  obtain ⟨g1, h⟩ := h
  refine cj_fld (pc := 8) hcx hW 2 g1 (by decide) rfl in_X3 12 (by decide) (by decide) q243 dX3_stands_8 (v := va_rf (cj_R σ 312 x0)) rfl ?_
  obtain ⟨a2, e3, h⟩ := h
  refine cj_stk (st' := [.ref a2, .int x4]) (by rw [e3]; rfl) ?_
  obtain ⟨g4, h⟩ := h
  refine cj_fldN (pc := 11) hcx hW 0 g4 (by decide) rfl in_X1 7 (by decide) (by decide) (List.mem_of_getElem? (i := 21) rfl) dX3_stands_11 (v := .int (cj_F σ 107 a2)) rfl ?_
  refine lv_icmp_ge (pc := 14) (tgt := 110) hx hb dX3_stands_14 (by decide) (fun c5 => ?_) (fun c5 => ?_)
  · have h := h.1 c5
    refine lv_iload_n (pc := 110) hx hb dX3_stands_110 rfl (lv_at hl 3 rfl) ?_
    obtain ⟨g6, h⟩ := h
    exact cj_reti (pc := 111) hcx hW hS g6 h (Nat.le_refl _) (Nat.le_refl _) dX3_stands_111
  · have h := h.2 c5
    refine lv_aload_n (pc := 17) hx hb dX3_stands_17 rfl (lv_at hl 0 rfl) ?_
    refine lv_iload_n (pc := 18) hx hb dX3_stands_18 rfl (lv_at hl 1 rfl) ?_
    refine lv_iload (pc := 19) hx hb dX3_stands_19 (lv_at hl 4 rfl) ?_
    refine cj_xi (pc := 21) (cj_runV hcx hW hS 2 g1 (by decide) rfl [.int x1, .int x4] h (Nat.le_trans (by decide) hd) (lw_V q872 q874 qs22 q124 q875) rfl yd_Jn_isHere (by decide) rfl rfl (Nat.le_of_ble_eq_true rfl) hl.1 (Nat.le_refl _) (Nat.le_refl _) dX3_stands_21) hS (fun r7 σ8 h H locs hW hS => ?_)
    refine lv_if_ne (pc := 24) (tgt := 30) hx hb dX3_stands_24 (by decide) (fun c9 => ?_) (fun c9 => ?_)
    · have h := h.2 c9
      refine lv_aload_n (pc := 30) hx hb dX3_stands_30 rfl (lv_at hl 0 rfl) ?_
      obtain ⟨g10, h⟩ := h
      refine cj_fld (pc := 31) hcx hW 2 g10 (by decide) rfl in_X3 5 (by decide) (by decide) q233 dX3_stands_31 (v := va_rf (cj_R σ8 305 x0)) rfl ?_
      refine lv_iload_n (pc := 34) hx hb dX3_stands_34 rfl (lv_at hl 1 rfl) ?_
      obtain ⟨a11, e12, h⟩ := h
      refine cj_stk (st' := [.int x1, .ref a11]) (by rw [e12]; rfl) ?_
      obtain ⟨g13, h⟩ := h
      obtain ⟨g14, h⟩ := h
      refine cj_aald (pc := 35) hcx hW g13 (by unfold cj_rt; decide) g14 dX3_stands_35 ?_
      refine lv_iload (pc := 36) hx hb dX3_stands_36 (lv_at hl 4 rfl) ?_
      refine lv_aload_n (pc := 38) hx hb dX3_stands_38 rfl (lv_at hl 0 rfl) ?_
      refine cj_fld (pc := 39) hcx hW 2 g10 (by decide) rfl in_X3 7 (by decide) (by decide) q235 dX3_stands_39 (v := va_rf (cj_R σ8 307 x0)) rfl ?_
      obtain ⟨a15, e16, h⟩ := h
      refine cj_stk (st' := [.ref a15, .int x4, va_rf (cj_B σ8 a11 x1.toNatClampNeg)]) (by rw [e16]; rfl) ?_
      obtain ⟨g17, h⟩ := h
      refine cj_fldN (pc := 42) hcx hW 1 g17 (by decide) rfl in_X2 0 (by decide) (by decide) (List.mem_of_getElem? (i := 19) rfl) dX3_stands_42 (v := va_rf (cj_R σ8 200 a15)) rfl ?_
      refine lv_iload (pc := 45) hx hb dX3_stands_45 (lv_at hl 4 rfl) ?_
      obtain ⟨a18, e19, h⟩ := h
      refine cj_stk (st' := [.int x4, .ref a18, .int x4, va_rf (cj_B σ8 a11 x1.toNatClampNeg)]) (by rw [e19]; rfl) ?_
      obtain ⟨g20, h⟩ := h
      obtain ⟨g21, h⟩ := h
      refine cj_aald (pc := 47) hcx hW g20 (by unfold cj_rt; decide) g21 dX3_stands_47 ?_
      refine lv_aload_n (pc := 48) hx hb dX3_stands_48 rfl (lv_at hl 0 rfl) ?_
      refine cj_fld (pc := 49) hcx hW 2 g10 (by decide) rfl in_X3 2 (by decide) (by decide) q229 dX3_stands_49 (v := va_rf (cj_R σ8 302 x0)) rfl ?_
      refine lv_iload_n (pc := 52) hx hb dX3_stands_52 rfl (lv_at hl 1 rfl) ?_
      obtain ⟨a22, e23, h⟩ := h
      refine cj_stk (st' := [.int x1, .ref a22, va_rf (cj_B σ8 a18 x4.toNatClampNeg), .int x4, va_rf (cj_B σ8 a11 x1.toNatClampNeg)]) (by rw [e23]; rfl) ?_
      obtain ⟨g24, h⟩ := h
      obtain ⟨g25, h⟩ := h
      refine cj_iald (pc := 53) hcx hW g24 g25 dX3_stands_53 ?_
      refine lv_aload_n (pc := 54) hx hb dX3_stands_54 rfl (lv_at hl 0 rfl) ?_
      refine cj_fld (pc := 55) hcx hW 2 g10 (by decide) rfl in_X3 1 (by decide) (by decide) q228 dX3_stands_55 (v := va_rf (cj_R σ8 301 x0)) rfl ?_
      refine lv_iload_n (pc := 58) hx hb dX3_stands_58 rfl (lv_at hl 2 rfl) ?_
      refine lv_aload_n (pc := 59) hx hb dX3_stands_59 rfl (lv_at hl 0 rfl) ?_
      refine cj_fld (pc := 60) hcx hW 2 g10 (by decide) rfl in_X3 4 (by decide) (by decide) q232 dX3_stands_60 (v := va_rf (cj_R σ8 304 x0)) rfl ?_
      refine lv_iload_n (pc := 63) hx hb dX3_stands_63 rfl (lv_at hl 1 rfl) ?_
      obtain ⟨a26, e27, h⟩ := h
      refine cj_stk (st' := [.int x1, .ref a26, .int x2, va_rf (cj_R σ8 301 x0), .int (cj_A σ8 a22 x1.toNatClampNeg), va_rf (cj_B σ8 a18 x4.toNatClampNeg), .int x4, va_rf (cj_B σ8 a11 x1.toNatClampNeg)]) (by rw [e27]; rfl) ?_
      obtain ⟨g28, h⟩ := h
      obtain ⟨g29, h⟩ := h
      refine cj_aald (pc := 64) hcx hW g28 (by unfold cj_rt; decide) g29 dX3_stands_64 ?_
      refine lv_iload (pc := 65) hx hb dX3_stands_65 (lv_at hl 4 rfl) ?_
      obtain ⟨a30, e31, h⟩ := h
      refine cj_stk (st' := [.int x4, .ref a30, .int x2, va_rf (cj_R σ8 301 x0), .int (cj_A σ8 a22 x1.toNatClampNeg), va_rf (cj_B σ8 a18 x4.toNatClampNeg), .int x4, va_rf (cj_B σ8 a11 x1.toNatClampNeg)]) (by rw [e31]; rfl) ?_
      obtain ⟨g32, h⟩ := h
      obtain ⟨g33, h⟩ := h
      refine cj_aald (pc := 67) hcx hW g32 (by unfold cj_rt; decide) g33 dX3_stands_67 ?_
      obtain ⟨a34, e35, h⟩ := h
      refine cj_stk (st' := [va_rf (cj_B σ8 a30 x4.toNatClampNeg), .int x2, va_rf (cj_R σ8 301 x0), .int (cj_A σ8 a22 x1.toNatClampNeg), .ref a34, .int x4, va_rf (cj_B σ8 a11 x1.toNatClampNeg)]) (by rw [e35]; rfl) ?_
      obtain ⟨g38, h⟩ := h
      refine cj_xi (pc := 68) (cj_runV hcx hW hS 5 g38 (by decide) rfl [.int (cj_A σ8 a22 x1.toNatClampNeg), va_rf (cj_R σ8 301 x0), .int x2, va_rf (cj_B σ8 a30 x4.toNatClampNeg)] h (Nat.le_trans (by decide) hd) (lw_V q877 q878 q879 q131 q880) rfl yd_Tb_keys (by decide) rfl rfl (by generalize (cj_B σ8 a11 x1.toNatClampNeg) = z0; cases z0 <;> exact Nat.le_of_ble_eq_true rfl) hl.1 (Nat.le_refl _) (Nat.le_refl _) dX3_stands_68) hS (fun r36 σ37 h H locs hW hS => ?_)
      obtain ⟨a39, e40, h⟩ := h
      refine cj_stk (st' := [.int r36, .int x4, .ref a39]) (by rw [e40]; rfl) ?_
      obtain ⟨g41, h⟩ := h
      obtain ⟨g42, h⟩ := h
      refine cj_iast (pc := 71) hcx hW hS g41 g42 dX3_stands_71 (fun H locs hW hS => ?_)
      refine lv_aload_n (pc := 72) hx hb dX3_stands_72 rfl (lv_at hl 0 rfl) ?_
      obtain ⟨g43, h⟩ := h
      refine cj_fld (pc := 73) hcx hW 2 g43 (by decide) rfl in_X3 6 (by decide) (by decide) q234 dX3_stands_73 (v := va_rf (cj_R σ37 306 x0)) rfl ?_
      refine lv_iload_n (pc := 76) hx hb dX3_stands_76 rfl (lv_at hl 1 rfl) ?_
      obtain ⟨a44, e45, h⟩ := h
      refine cj_stk (st' := [.int x1, .ref a44]) (by rw [e45]; rfl) ?_
      obtain ⟨g46, h⟩ := h
      obtain ⟨g47, h⟩ := h
      refine cj_aald (pc := 77) hcx hW g46 (by unfold cj_rt; decide) g47 dX3_stands_77 ?_
      refine cj_stk (st' := [va_rf (cj_B σ37 a44 x1.toNatClampNeg)]) rfl ?_
      refine lv_iload (pc := 78) hx hb dX3_stands_78 (lv_at hl 4 rfl) ?_
      refine lv_iconst (pc := 80) (v := (0 : Int32)) hx hb dX3_stands_80 (by decide) ?_
      obtain ⟨a48, e49, h⟩ := h
      refine cj_stk (st' := [.int (0 : Int32), .int x4, .ref a48]) (by rw [e49]; rfl) ?_
      obtain ⟨g50, h⟩ := h
      obtain ⟨g51, h⟩ := h
      refine cj_iast (pc := 81) hcx hW hS g50 g51 dX3_stands_81 (fun H locs hW hS => ?_)
      refine lv_iload_n (pc := 82) hx hb dX3_stands_82 rfl (lv_at hl 3 rfl) ?_
      refine lv_if_eq (pc := 83) (tgt := 102) hx hb dX3_stands_83 (by decide) (fun c52 => ?_) (fun c52 => ?_)
      · have h := h.1 c52
        refine lv_iconst (pc := 102) (v := (0 : Int32)) hx hb dX3_stands_102 (by decide) ?_
        refine lv_istore_n (pc := 103) (lv' := [(3, .int (0 : Int32)), (0, .ref x0), (1, .int x1), (2, .int x2), (4, .int x4)]) hx hb dX3_stands_103 rfl hl (by decide) rfl (fun ls hl => ?_)
        refine lv_iinc (pc := 104) (v := (x4 + (1 : Int32))) (lv' := [(4, .int (x4 + (1 : Int32))), (3, .int (0 : Int32)), (0, .ref x0), (1, .int x1), (2, .int x2)]) hx hb dX3_stands_104 hl (k := 4) rfl rfl (by decide) rfl (fun ls hl => ?_)
        refine lv_goto (pc := 107) (tgt := 5) hx hb dX3_stands_107 (by decide) ?_
        exact h d hd p e s m args below meth c hcx H locs _ hW hS (lv_sub hl [2, 3, 4, 1, 0] rfl)
      · have h := h.2 c52
        refine lv_aload_n (pc := 86) hx hb dX3_stands_86 rfl (lv_at hl 0 rfl) ?_
        refine cj_fld (pc := 87) hcx hW 2 g43 (by decide) rfl in_X3 5 (by decide) (by decide) q233 dX3_stands_87 (v := va_rf (cj_R σ37 305 x0)) rfl ?_
        refine lv_iload_n (pc := 90) hx hb dX3_stands_90 rfl (lv_at hl 1 rfl) ?_
        obtain ⟨a53, e54, h⟩ := h
        refine cj_stk (st' := [.int x1, .ref a53]) (by rw [e54]; rfl) ?_
        obtain ⟨g55, h⟩ := h
        obtain ⟨g56, h⟩ := h
        refine cj_aald (pc := 91) hcx hW g55 (by unfold cj_rt; decide) g56 dX3_stands_91 ?_
        refine cj_stk (st' := [va_rf (cj_B σ37 a53 x1.toNatClampNeg)]) rfl ?_
        refine lv_iload (pc := 92) hx hb dX3_stands_92 (lv_at hl 4 rfl) ?_
        obtain ⟨a57, e58, h⟩ := h
        refine cj_stk (st' := [.int x4, .ref a57]) (by rw [e58]; rfl) ?_
        obtain ⟨g59, h⟩ := h
        obtain ⟨g60, h⟩ := h
        refine cj_iald (pc := 94) hcx hW g59 g60 dX3_stands_94 ?_
        refine lv_if_le (pc := 95) (tgt := 102) hx hb dX3_stands_95 (by decide) (fun c61 => ?_) (fun c61 => ?_)
        · have h := h.1 c61
          refine lv_iconst (pc := 102) (v := (0 : Int32)) hx hb dX3_stands_102 (by decide) ?_
          refine lv_istore_n (pc := 103) (lv' := [(3, .int (0 : Int32)), (0, .ref x0), (1, .int x1), (2, .int x2), (4, .int x4)]) hx hb dX3_stands_103 rfl hl (by decide) rfl (fun ls hl => ?_)
          refine lv_iinc (pc := 104) (v := (x4 + (1 : Int32))) (lv' := [(4, .int (x4 + (1 : Int32))), (3, .int (0 : Int32)), (0, .ref x0), (1, .int x1), (2, .int x2)]) hx hb dX3_stands_104 hl (k := 4) rfl rfl (by decide) rfl (fun ls hl => ?_)
          refine lv_goto (pc := 107) (tgt := 5) hx hb dX3_stands_107 (by decide) ?_
          exact h d hd p e s m args below meth c hcx H locs _ hW hS (lv_sub hl [2, 3, 4, 1, 0] rfl)
        · have h := h.2 c61
          refine lv_iconst (pc := 98) (v := (1 : Int32)) hx hb dX3_stands_98 (by decide) ?_
          refine lv_goto (pc := 99) (tgt := 103) hx hb dX3_stands_99 (by decide) ?_
          refine lv_istore_n (pc := 103) (lv' := [(3, .int (1 : Int32)), (0, .ref x0), (1, .int x1), (2, .int x2), (4, .int x4)]) hx hb dX3_stands_103 rfl hl (by decide) rfl (fun ls hl => ?_)
          refine lv_iinc (pc := 104) (v := (x4 + (1 : Int32))) (lv' := [(4, .int (x4 + (1 : Int32))), (3, .int (1 : Int32)), (0, .ref x0), (1, .int x1), (2, .int x2)]) hx hb dX3_stands_104 hl (k := 4) rfl rfl (by decide) rfl (fun ls hl => ?_)
          refine lv_goto (pc := 107) (tgt := 5) hx hb dX3_stands_107 (by decide) ?_
          exact h d hd p e s m args below meth c hcx H locs _ hW hS (lv_sub hl [2, 3, 4, 1, 0] rfl)
    · have h := h.1 c9
      refine lv_goto (pc := 27) (tgt := 104) hx hb dX3_stands_27 (by decide) ?_
      refine lv_iinc (pc := 104) (v := (x4 + (1 : Int32))) (lv' := [(4, .int (x4 + (1 : Int32))), (0, .ref x0), (1, .int x1), (2, .int x2), (3, .int x3)]) hx hb dX3_stands_104 hl (k := 4) rfl rfl (by decide) rfl (fun ls hl => ?_)
      refine lv_goto (pc := 107) (tgt := 5) hx hb dX3_stands_107 (by decide) ?_
      exact h d hd p e s m args below meth c hcx H locs _ hW hS (lv_sub hl [1, 2, 3, 4, 0] rfl)
set_option maxHeartbeats 4000000 in
set_option maxRecDepth 100000 in
theorem cb_Jn_stands {E : cj_E} {σ : cj_S} {x0 : Nat} {x1 : Int32} {x2 : Int32} {P : Int32 → cj_S → Prop} (h : cg_Jn_stands_5 E σ x0 x1 x2 (1 : Int32) (0 : Int32) P) : cs_Jn_stands E σ x0 x1 x2 P :=
  cj_enter (k := 3) (lv := [(0, .ref x0), (1, .int x1), (2, .int x2)]) (by decide) (Nat.le_of_ble_eq_true rfl) rfl (by
    intro d hd p e s m args below meth c hcx H locs ls hW hS hl
    have hx := hcx.1
    have hb := hcx.2.1
    have hown := hcx.2.2.2.2.2.1
    have hts := hcx.2.2.2.2.2.2.1
    refine lv_iconst (pc := 0) (v := (1 : Int32)) hx hb dX3_stands_0 (by decide) ?_
    refine lv_istore_n (pc := 1) (lv' := [(3, .int (1 : Int32)), (0, .ref x0), (1, .int x1), (2, .int x2)]) hx hb dX3_stands_1 rfl hl (by decide) rfl (fun ls hl => ?_)
    refine lv_iconst (pc := 2) (v := (0 : Int32)) hx hb dX3_stands_2 (by decide) ?_
    refine lv_istore (pc := 3) (lv' := [(4, .int (0 : Int32)), (3, .int (1 : Int32)), (0, .ref x0), (1, .int x1), (2, .int x2)]) hx hb dX3_stands_3 hl (by decide) rfl (fun ls hl => ?_)
    exact h d hd p e s m args below meth c hcx H locs _ hW hS (lv_sub hl [2, 3, 4, 1, 0] rfl))
/-! L_cell -/
set_option maxHeartbeats 4000000 in
set_option maxRecDepth 100000 in
theorem cb_L_cell {E : cj_E} {σ : cj_S} {x0 : Nat} {x1 : Int32} {x2 : Int32} {x3 : Int32} {P : Int32 → cj_S → Prop} (h : (cj_T σ x0 = 1 ∧ cs_L_isTable E σ x0 x1 (fun r1 σ2 => ((r1 = 0 → P (-1 : Int32) σ2) ∧ (¬ r1 = 0 → (cj_T σ2 x0 = 1 ∧ (∃ a6, (cj_R σ2 109 x0) = some a6 ∧ (cj_T σ2 a6 = 2 ∧ (∃ a9, (cj_R σ2 200 a6) = some a9 ∧ (cj_T σ2 a9 = 26 ∧ (vp_in x1 (cj_N σ2 a9) ∧ (∃ a13, (cj_B σ2 a9 x1.toNatClampNeg) = some a13 ∧ (cj_T σ2 a13 = 6 ∧ cs_L_isIn E σ2 (x2).toInt64 (0 : Int64) ((cj_F σ2 603 a13) - (1 : Int32)).toInt64 (fun r16 σ17 => ((r16 = 0 → P (-1 : Int32) σ17) ∧ (¬ r16 = 0 → (cj_T σ17 x0 = 1 ∧ (∃ a20, (cj_R σ17 109 x0) = some a20 ∧ (cj_T σ17 a20 = 2 ∧ (∃ a23, (cj_R σ17 200 a20) = some a23 ∧ (cj_T σ17 a23 = 26 ∧ (vp_in x1 (cj_N σ17 a23) ∧ (∃ a27, (cj_B σ17 a23 x1.toNatClampNeg) = some a27 ∧ (cj_T σ17 a27 = 6 ∧ (∃ a30, (cj_R σ17 600 a27) = some a30 ∧ (cj_T σ17 a30 = 21 ∧ cs_L_isIn E σ17 (x3).toInt64 (0 : Int64) ((nI (cj_N σ17 a30)) - (1 : Int32)).toInt64 (fun r33 σ34 => ((r33 = 0 → P (-1 : Int32) σ34) ∧ (¬ r33 = 0 → (cj_T σ34 x0 = 1 ∧ (∃ a37, (cj_R σ34 109 x0) = some a37 ∧ (cj_T σ34 a37 = 2 ∧ (∃ a40, (cj_R σ34 200 a37) = some a40 ∧ (cj_T σ34 a40 = 26 ∧ (vp_in x1 (cj_N σ34 a40) ∧ (∃ a44, (cj_B σ34 a40 x1.toNatClampNeg) = some a44 ∧ (cj_T σ34 a44 = 6 ∧ (∃ a47, (cj_R σ34 601 a44) = some a47 ∧ (cj_rt (cj_T σ34 a47) ∧ (vp_in x2 (cj_N σ34 a47) ∧ (∃ a51, (cj_B σ34 a47 x2.toNatClampNeg) = some a51 ∧ cs_Rw_at E σ34 a51 x3 (fun r53 σ54 => P r53 σ54)))))))))))))))))))))))))))))))))))))))))) : cs_L_cell E σ x0 x1 x2 x3 P :=
  cj_enter (k := 3) (lv := [(0, .ref x0), (1, .int x1), (2, .int x2), (3, .int x3)]) (by decide) (Nat.le_of_ble_eq_true rfl) rfl (by
    intro d hd p e s m args below meth c hcx H locs ls hW hS hl
    have hx := hcx.1
    have hb := hcx.2.1
    have hown := hcx.2.2.2.2.2.1
    have hts := hcx.2.2.2.2.2.2.1
    refine lv_aload_n (pc := 0) hx hb dX1_cell_0 rfl (lv_at hl 0 rfl) ?_
    refine lv_iload_n (pc := 1) hx hb dX1_cell_1 rfl (lv_at hl 1 rfl) ?_
    obtain ⟨g3, h⟩ := h
    refine cj_xi (pc := 2) (cj_runV hcx hW hS 0 g3 (by decide) rfl [.int x1] h (Nat.le_trans (by decide) hd) (lw_V q976 q978 qs32 q122 q979) rfl yd_L_isTable (by decide) rfl rfl (Nat.le_of_ble_eq_true rfl) hl.1 (Nat.le_refl _) (Nat.le_refl _) dX1_cell_2) hS (fun r1 σ2 h H locs hW hS => ?_)
    refine lv_if_eq (pc := 5) (tgt := 57) hx hb dX1_cell_5 (by decide) (fun c4 => ?_) (fun c4 => ?_)
    · have h := h.1 c4
      refine lv_iconst (pc := 57) (v := (-1 : Int32)) hx hb dX1_cell_57 (by decide) ?_
      exact cj_reti (pc := 58) hcx hW hS rfl h (Nat.le_refl _) (Nat.le_refl _) dX1_cell_58
    · have h := h.2 c4
      refine lv_iload_n (pc := 8) hx hb dX1_cell_8 rfl (lv_at hl 2 rfl) ?_
      refine lv_i2l (pc := 9) hx hb dX1_cell_9 rfl ?_
      refine lv_lconst (pc := 10) (v := (0 : Int64)) hx hb dX1_cell_10 (by decide) ?_
      refine lv_aload_n (pc := 11) hx hb dX1_cell_11 rfl (lv_at hl 0 rfl) ?_
      obtain ⟨g5, h⟩ := h
      refine cj_fld (pc := 12) hcx hW 0 g5 (by decide) rfl in_X1 9 (by decide) (by decide) q286 dX1_cell_12 (v := va_rf (cj_R σ2 109 x0)) rfl ?_
      obtain ⟨a6, e7, h⟩ := h
      refine cj_stk (st' := [.ref a6, .long (0 : Int64), .long (x2).toInt64]) (by rw [e7]; rfl) ?_
      obtain ⟨g8, h⟩ := h
      refine cj_fldN (pc := 15) hcx hW 1 g8 (by decide) rfl in_X2 0 (by decide) (by decide) (List.mem_of_getElem? (i := 0) rfl) dX1_cell_15 (v := va_rf (cj_R σ2 200 a6)) rfl ?_
      refine lv_iload_n (pc := 18) hx hb dX1_cell_18 rfl (lv_at hl 1 rfl) ?_
      obtain ⟨a9, e10, h⟩ := h
      refine cj_stk (st' := [.int x1, .ref a9, .long (0 : Int64), .long (x2).toInt64]) (by rw [e10]; rfl) ?_
      obtain ⟨g11, h⟩ := h
      obtain ⟨g12, h⟩ := h
      refine cj_aald (pc := 19) hcx hW g11 (by unfold cj_rt; decide) g12 dX1_cell_19 ?_
      obtain ⟨a13, e14, h⟩ := h
      refine cj_stk (st' := [.ref a13, .long (0 : Int64), .long (x2).toInt64]) (by rw [e14]; rfl) ?_
      obtain ⟨g15, h⟩ := h
      refine cj_fldN (pc := 20) hcx hW 5 g15 (by decide) rfl in_X7 3 (by decide) (by decide) (List.mem_of_getElem? (i := 13) rfl) dX1_cell_20 (v := .int (cj_F σ2 603 a13)) rfl ?_
      refine lv_iconst (pc := 23) (v := (1 : Int32)) hx hb dX1_cell_23 (by decide) ?_
      refine lv_isub (pc := 24) hx hb dX1_cell_24 ?_
      refine lv_i2l (pc := 25) hx hb dX1_cell_25 rfl ?_
      refine cj_xi (pc := 26) (cj_runS hcx hW hS [.long (x2).toInt64, .long (0 : Int64), .long ((cj_F σ2 603 a13) - (1 : Int32)).toInt64] h (Nat.le_trans (by decide) hd) (lw_S q349 q350 q122 q351) yd_L_isIn (by decide) rfl rfl (Nat.le_of_ble_eq_true rfl) hl.1 (Nat.le_refl _) (Nat.le_refl _) dX1_cell_26) hS (fun r16 σ17 h H locs hW hS => ?_)
      refine lv_if_eq (pc := 29) (tgt := 57) hx hb dX1_cell_29 (by decide) (fun c18 => ?_) (fun c18 => ?_)
      · have h := h.1 c18
        refine lv_iconst (pc := 57) (v := (-1 : Int32)) hx hb dX1_cell_57 (by decide) ?_
        exact cj_reti (pc := 58) hcx hW hS rfl h (Nat.le_refl _) (Nat.le_refl _) dX1_cell_58
      · have h := h.2 c18
        refine lv_iload_n (pc := 32) hx hb dX1_cell_32 rfl (lv_at hl 3 rfl) ?_
        refine lv_i2l (pc := 33) hx hb dX1_cell_33 rfl ?_
        refine lv_lconst (pc := 34) (v := (0 : Int64)) hx hb dX1_cell_34 (by decide) ?_
        refine lv_aload_n (pc := 35) hx hb dX1_cell_35 rfl (lv_at hl 0 rfl) ?_
        obtain ⟨g19, h⟩ := h
        refine cj_fld (pc := 36) hcx hW 0 g19 (by decide) rfl in_X1 9 (by decide) (by decide) q286 dX1_cell_36 (v := va_rf (cj_R σ17 109 x0)) rfl ?_
        obtain ⟨a20, e21, h⟩ := h
        refine cj_stk (st' := [.ref a20, .long (0 : Int64), .long (x3).toInt64]) (by rw [e21]; rfl) ?_
        obtain ⟨g22, h⟩ := h
        refine cj_fldN (pc := 39) hcx hW 1 g22 (by decide) rfl in_X2 0 (by decide) (by decide) (List.mem_of_getElem? (i := 0) rfl) dX1_cell_39 (v := va_rf (cj_R σ17 200 a20)) rfl ?_
        refine lv_iload_n (pc := 42) hx hb dX1_cell_42 rfl (lv_at hl 1 rfl) ?_
        obtain ⟨a23, e24, h⟩ := h
        refine cj_stk (st' := [.int x1, .ref a23, .long (0 : Int64), .long (x3).toInt64]) (by rw [e24]; rfl) ?_
        obtain ⟨g25, h⟩ := h
        obtain ⟨g26, h⟩ := h
        refine cj_aald (pc := 43) hcx hW g25 (by unfold cj_rt; decide) g26 dX1_cell_43 ?_
        obtain ⟨a27, e28, h⟩ := h
        refine cj_stk (st' := [.ref a27, .long (0 : Int64), .long (x3).toInt64]) (by rw [e28]; rfl) ?_
        obtain ⟨g29, h⟩ := h
        refine cj_fldN (pc := 44) hcx hW 5 g29 (by decide) rfl in_X7 0 (by decide) (by decide) (List.mem_of_getElem? (i := 11) rfl) dX1_cell_44 (v := va_rf (cj_R σ17 600 a27)) rfl ?_
        obtain ⟨a30, e31, h⟩ := h
        refine cj_stk (st' := [.ref a30, .long (0 : Int64), .long (x3).toInt64]) (by rw [e31]; rfl) ?_
        obtain ⟨g32, h⟩ := h
        refine cj_alen (pc := 47) hcx hW g32 (by unfold cj_at_ cj_rt; decide) dX1_cell_47 ?_
        refine lv_iconst (pc := 48) (v := (1 : Int32)) hx hb dX1_cell_48 (by decide) ?_
        refine lv_isub (pc := 49) hx hb dX1_cell_49 ?_
        refine lv_i2l (pc := 50) hx hb dX1_cell_50 rfl ?_
        refine cj_xi (pc := 51) (cj_runS hcx hW hS [.long (x3).toInt64, .long (0 : Int64), .long ((nI (cj_N σ17 a30)) - (1 : Int32)).toInt64] h (Nat.le_trans (by decide) hd) (lw_S q349 q350 q122 q351) yd_L_isIn (by decide) rfl rfl (Nat.le_of_ble_eq_true rfl) hl.1 (Nat.le_refl _) (Nat.le_refl _) dX1_cell_51) hS (fun r33 σ34 h H locs hW hS => ?_)
        refine lv_if_ne (pc := 54) (tgt := 59) hx hb dX1_cell_54 (by decide) (fun c35 => ?_) (fun c35 => ?_)
        · have h := h.2 c35
          refine lv_aload_n (pc := 59) hx hb dX1_cell_59 rfl (lv_at hl 0 rfl) ?_
          obtain ⟨g36, h⟩ := h
          refine cj_fld (pc := 60) hcx hW 0 g36 (by decide) rfl in_X1 9 (by decide) (by decide) q286 dX1_cell_60 (v := va_rf (cj_R σ34 109 x0)) rfl ?_
          obtain ⟨a37, e38, h⟩ := h
          refine cj_stk (st' := [.ref a37]) (by rw [e38]; rfl) ?_
          obtain ⟨g39, h⟩ := h
          refine cj_fldN (pc := 63) hcx hW 1 g39 (by decide) rfl in_X2 0 (by decide) (by decide) (List.mem_of_getElem? (i := 0) rfl) dX1_cell_63 (v := va_rf (cj_R σ34 200 a37)) rfl ?_
          refine lv_iload_n (pc := 66) hx hb dX1_cell_66 rfl (lv_at hl 1 rfl) ?_
          obtain ⟨a40, e41, h⟩ := h
          refine cj_stk (st' := [.int x1, .ref a40]) (by rw [e41]; rfl) ?_
          obtain ⟨g42, h⟩ := h
          obtain ⟨g43, h⟩ := h
          refine cj_aald (pc := 67) hcx hW g42 (by unfold cj_rt; decide) g43 dX1_cell_67 ?_
          obtain ⟨a44, e45, h⟩ := h
          refine cj_stk (st' := [.ref a44]) (by rw [e45]; rfl) ?_
          obtain ⟨g46, h⟩ := h
          refine cj_fldN (pc := 68) hcx hW 5 g46 (by decide) rfl in_X7 1 (by decide) (by decide) (List.mem_of_getElem? (i := 12) rfl) dX1_cell_68 (v := va_rf (cj_R σ34 601 a44)) rfl ?_
          refine lv_iload_n (pc := 71) hx hb dX1_cell_71 rfl (lv_at hl 2 rfl) ?_
          obtain ⟨a47, e48, h⟩ := h
          refine cj_stk (st' := [.int x2, .ref a47]) (by rw [e48]; rfl) ?_
          obtain ⟨g49, h⟩ := h
          obtain ⟨g50, h⟩ := h
          refine cj_aald (pc := 72) hcx hW rfl g49 g50 dX1_cell_72 ?_
          refine lv_iload_n (pc := 73) hx hb dX1_cell_73 rfl (lv_at hl 3 rfl) ?_
          obtain ⟨a51, e52, h⟩ := h
          refine cj_stk (st' := [.int x3, .ref a51]) (by rw [e52]; rfl) ?_
          refine cj_xi (pc := 74) (cj_runRw_at hcx hW hS h (Nat.le_trans (by decide) hd) q962 rfl (Nat.le_of_ble_eq_true rfl) hl.1 (Nat.le_refl _) (Nat.le_refl _) dX1_cell_74) hS (fun r53 σ54 h H locs hW hS => ?_)
          exact cj_reti (pc := 77) hcx hW hS rfl h (Nat.le_refl _) (Nat.le_refl _) dX1_cell_77
        · have h := h.1 c35
          refine lv_iconst (pc := 57) (v := (-1 : Int32)) hx hb dX1_cell_57 (by decide) ?_
          exact cj_reti (pc := 58) hcx hW hS rfl h (Nat.le_refl _) (Nat.le_refl _) dX1_cell_58)
/-! Rd_ends -/
set_option maxHeartbeats 4000000 in
set_option maxRecDepth 100000 in
theorem cb_Rd_ends {E : cj_E} {σ : cj_S} {x0 : Nat} {P : cj_S → Prop} {X : Nat → cj_S → Prop} (h : (cj_T σ x0 = 4 ∧ cs_Rd_peek E σ x0 (fun r1 σ2 => ((r1 = (-1 : Int32) → P σ2) ∧ (¬ r1 = (-1 : Int32) → (∀ q5, cj_T σ2 q5 = 0 → (cj_T (cj_new σ2 q5 5) x0 = 4 ∧ cs_Wr_init E (cj_new σ2 q5 5) q5 (cj_F (cj_new σ2 q5 5) 401 x0) (fun σ9 => (cj_T σ9 q5 = 5 ∧ (X q5 σ9 ∧ True)))))))))) : cs_Rd_ends E σ x0 P X :=
  cj_enterx (k := 3) (lv := [(0, .ref x0)]) (by decide) (Nat.le_of_ble_eq_true rfl) rfl (by
    intro d hd p e s m args below meth c hcx hex H locs ls hW hS hl
    have hx := hcx.1
    have hb := hcx.2.1
    have hown := hcx.2.2.2.2.2.1
    have hts := hcx.2.2.2.2.2.2.1
    refine lv_aload_n (pc := 0) hx hb dX5_ends_0 rfl (lv_at hl 0 rfl) ?_
    obtain ⟨g3, h⟩ := h
    refine cj_xi (pc := 1) (cj_runV hcx hW hS 3 g3 (by decide) rfl [] h (Nat.le_trans (by decide) hd) (lw_V q380 q382 qs3 q126 q383) rfl yd_Rd_peek (by decide) rfl rfl (Nat.le_of_ble_eq_true rfl) hl.1 (Nat.le_of_ble_eq_true rfl) (Nat.le_of_ble_eq_true rfl) dX5_ends_1) hS (fun r1 σ2 h H locs hW hS => ?_)
    refine lv_iconst (pc := 4) (v := (-1 : Int32)) hx hb dX5_ends_4 (by decide) ?_
    refine lv_icmp_eq (pc := 5) (tgt := 20) hx hb dX5_ends_5 (by decide) (fun c4 => ?_) (fun c4 => ?_)
    · have h := h.1 c4
      exact vx_ret (cj_retv (pc := 20) hcx hW hS h (Nat.le_of_ble_eq_true rfl) (Nat.le_of_ble_eq_true rfl) dX5_ends_20)
    · have h := h.2 c4
      refine cj_newo (pc := 8) hcx hW hS 4 (by decide) rfl in_X6 tyX6_ok rfl rfl q393 q394 q129 (Nat.le_of_ble_eq_true rfl) (Nat.le_of_ble_eq_true rfl) dX5_ends_8 (fun q5 H z6 hW hS => ?_)
      have h := h q5 z6
      refine lv_dup (pc := 11) hx hb dX5_ends_11 rfl ?_
      refine lv_aload_n (pc := 12) hx hb dX5_ends_12 rfl (lv_at hl 0 rfl) ?_
      obtain ⟨g7, h⟩ := h
      refine cj_fld (pc := 13) hcx hW 3 g7 (by decide) rfl in_X5 1 (by decide) (by decide) q359 dX5_ends_13 (v := .int (cj_F (cj_new σ2 q5 5) 401 x0)) rfl ?_
      refine cj_xv (pc := 16) (cj_runI hcx hW hS [.int (cj_F (cj_new σ2 q5 5) 401 x0)] h (Nat.le_trans (by decide) hd) q432 q433 q129 q434 rfl yd_Wr_init (by decide) rfl rfl (Nat.le_of_ble_eq_true rfl) hl.1 (Nat.le_of_ble_eq_true rfl) (Nat.le_of_ble_eq_true rfl) dX5_ends_16) hS (fun σ9 h H locs hW hS => ?_)
      obtain ⟨g10, h⟩ := h
      obtain ⟨g11, h⟩ := h
      exact cj_athrow (pc := 19) hcx hex hW hS g10 g11 (Nat.le_of_ble_eq_true rfl) (Nat.le_of_ble_eq_true rfl) dX5_ends_19)
/-! Rd_take -/
set_option maxHeartbeats 4000000 in
set_option maxRecDepth 100000 in
theorem cb_Rd_take {E : cj_E} {σ : cj_S} {x0 : Nat} {x1 : Int32} {P : Int32 → cj_S → Prop} {X : Nat → cj_S → Prop} (h : ((x1 = 0 → (∀ q2, cj_T σ q2 = 0 → (cj_T (cj_new σ q2 5) x0 = 4 ∧ cs_Wr_init E (cj_new σ q2 5) q2 (cj_F (cj_new σ q2 5) 401 x0) (fun σ6 => (cj_T σ6 q2 = 5 ∧ (X q2 σ6 ∧ True)))))) ∧ (¬ x1 = 0 → (cj_T σ x0 = 4 ∧ (∃ a10, (cj_R σ 402 x0) = some a10 ∧ (cj_T σ a10 = 1 ∧ (((cj_F σ 401 x0) < (cj_F σ 101 a10) → (∃ a14, (cj_R σ 100 a10) = some a14 ∧ (cj_T σ a14 = 20 ∧ (vp_in ((cj_F (cj_sF σ 401 x0 ((cj_F σ 401 x0) + (1 : Int32))) 401 x0) - (1 : Int32)) (cj_N σ a14) ∧ P (cj_A σ a14 ((cj_F (cj_sF σ 401 x0 ((cj_F σ 401 x0) + (1 : Int32))) 401 x0) - (1 : Int32)).toNatClampNeg) (cj_sF σ 401 x0 ((cj_F σ 401 x0) + (1 : Int32))))))) ∧ (¬ (cj_F σ 401 x0) < (cj_F σ 101 a10) → (∀ q18, cj_T σ q18 = 0 → (cj_T (cj_new σ q18 5) x0 = 4 ∧ cs_Wr_init E (cj_new σ q18 5) q18 (cj_F (cj_new σ q18 5) 401 x0) (fun σ22 => (cj_T σ22 q18 = 5 ∧ (X q18 σ22 ∧ True))))))))))))) : cs_Rd_take E σ x0 x1 P X :=
  cj_enterx (k := 3) (lv := [(0, .ref x0), (1, .int x1)]) (by decide) (Nat.le_of_ble_eq_true rfl) rfl (by
    intro d hd p e s m args below meth c hcx hex H locs ls hW hS hl
    have hx := hcx.1
    have hb := hcx.2.1
    have hown := hcx.2.2.2.2.2.1
    have hts := hcx.2.2.2.2.2.2.1
    refine lv_iload_n (pc := 0) hx hb dX5_take_0 rfl (lv_at hl 1 rfl) ?_
    refine lv_if_eq (pc := 1) (tgt := 18) hx hb dX5_take_1 (by decide) (fun c1 => ?_) (fun c1 => ?_)
    · have h := h.1 c1
      refine cj_newo (pc := 18) hcx hW hS 4 (by decide) rfl in_X6 tyX6_ok rfl rfl q393 q394 q129 (Nat.le_of_ble_eq_true rfl) (Nat.le_of_ble_eq_true rfl) dX5_take_18 (fun q2 H z3 hW hS => ?_)
      have h := h q2 z3
      refine lv_dup (pc := 21) hx hb dX5_take_21 rfl ?_
      refine lv_aload_n (pc := 22) hx hb dX5_take_22 rfl (lv_at hl 0 rfl) ?_
      obtain ⟨g4, h⟩ := h
      refine cj_fld (pc := 23) hcx hW 3 g4 (by decide) rfl in_X5 1 (by decide) (by decide) q359 dX5_take_23 (v := .int (cj_F (cj_new σ q2 5) 401 x0)) rfl ?_
      refine cj_xv (pc := 26) (cj_runI hcx hW hS [.int (cj_F (cj_new σ q2 5) 401 x0)] h (Nat.le_trans (by decide) hd) q432 q433 q129 q434 rfl yd_Wr_init (by decide) rfl rfl (Nat.le_of_ble_eq_true rfl) hl.1 (Nat.le_of_ble_eq_true rfl) (Nat.le_of_ble_eq_true rfl) dX5_take_26) hS (fun σ6 h H locs hW hS => ?_)
      obtain ⟨g7, h⟩ := h
      obtain ⟨g8, h⟩ := h
      exact cj_athrow (pc := 29) hcx hex hW hS g7 g8 (Nat.le_of_ble_eq_true rfl) (Nat.le_of_ble_eq_true rfl) dX5_take_29
    · have h := h.2 c1
      refine lv_aload_n (pc := 4) hx hb dX5_take_4 rfl (lv_at hl 0 rfl) ?_
      obtain ⟨g9, h⟩ := h
      refine cj_fld (pc := 5) hcx hW 3 g9 (by decide) rfl in_X5 1 (by decide) (by decide) q359 dX5_take_5 (v := .int (cj_F σ 401 x0)) rfl ?_
      refine lv_aload_n (pc := 8) hx hb dX5_take_8 rfl (lv_at hl 0 rfl) ?_
      refine cj_fld (pc := 9) hcx hW 3 g9 (by decide) rfl in_X5 2 (by decide) (by decide) q360 dX5_take_9 (v := va_rf (cj_R σ 402 x0)) rfl ?_
      obtain ⟨a10, e11, h⟩ := h
      refine cj_stk (st' := [.ref a10, .int (cj_F σ 401 x0)]) (by rw [e11]; rfl) ?_
      obtain ⟨g12, h⟩ := h
      refine cj_fldN (pc := 12) hcx hW 0 g12 (by decide) rfl in_X1 1 (by decide) (by decide) (List.mem_of_getElem? (i := 23) rfl) dX5_take_12 (v := .int (cj_F σ 101 a10)) rfl ?_
      refine lv_icmp_lt (pc := 15) (tgt := 30) hx hb dX5_take_15 (by decide) (fun c13 => ?_) (fun c13 => ?_)
      · have h := h.1 c13
        refine lv_aload_n (pc := 30) hx hb dX5_take_30 rfl (lv_at hl 0 rfl) ?_
        refine lv_dup (pc := 31) hx hb dX5_take_31 rfl ?_
        refine cj_fld (pc := 32) hcx hW 3 g9 (by decide) rfl in_X5 1 (by decide) (by decide) q359 dX5_take_32 (v := .int (cj_F σ 401 x0)) rfl ?_
        refine lv_iconst (pc := 35) (v := (1 : Int32)) hx hb dX5_take_35 (by decide) ?_
        refine lv_iadd (pc := 36) hx hb dX5_take_36 ?_
        refine cj_put (pc := 37) (σ1 := (cj_sF σ 401 x0 ((cj_F σ 401 x0) + (1 : Int32)))) hcx hW hS 3 g9 (by decide) rfl in_X5 tyX5_ok nmX5 1 (by decide) (by decide) rfl rfl rfl (cj_pI rfl) q359 dX5_take_37 (fun H locs hW hS => ?_)
        refine lv_aload_n (pc := 40) hx hb dX5_take_40 rfl (lv_at hl 0 rfl) ?_
        refine cj_fld (pc := 41) hcx hW 3 g9 (by decide) rfl in_X5 2 (by decide) (by decide) q360 dX5_take_41 (v := va_rf (cj_R σ 402 x0)) rfl ?_
        refine cj_stk (st' := [.ref a10]) (by rw [e11]; rfl) ?_
        refine cj_fldN (pc := 44) hcx hW 0 g12 (by decide) rfl in_X1 0 (by decide) (by decide) (List.mem_of_getElem? (i := 22) rfl) dX5_take_44 (v := va_rf (cj_R σ 100 a10)) rfl ?_
        refine lv_aload_n (pc := 47) hx hb dX5_take_47 rfl (lv_at hl 0 rfl) ?_
        refine cj_fld (pc := 48) hcx hW 3 g9 (by decide) rfl in_X5 1 (by decide) (by decide) q359 dX5_take_48 (v := .int (cj_F (cj_sF σ 401 x0 ((cj_F σ 401 x0) + (1 : Int32))) 401 x0)) rfl ?_
        refine lv_iconst (pc := 51) (v := (1 : Int32)) hx hb dX5_take_51 (by decide) ?_
        refine lv_isub (pc := 52) hx hb dX5_take_52 ?_
        obtain ⟨a14, e15, h⟩ := h
        refine cj_stk (st' := [.int ((cj_F (cj_sF σ 401 x0 ((cj_F σ 401 x0) + (1 : Int32))) 401 x0) - (1 : Int32)), .ref a14]) (by rw [e15]; rfl) ?_
        obtain ⟨g16, h⟩ := h
        obtain ⟨g17, h⟩ := h
        refine cj_bald (pc := 53) hcx hW g16 g17 dX5_take_53 ?_
        exact vx_ret (cj_reti (pc := 54) hcx hW hS rfl h (Nat.le_of_ble_eq_true rfl) (Nat.le_of_ble_eq_true rfl) dX5_take_54)
      · have h := h.2 c13
        refine cj_newo (pc := 18) hcx hW hS 4 (by decide) rfl in_X6 tyX6_ok rfl rfl q393 q394 q129 (Nat.le_of_ble_eq_true rfl) (Nat.le_of_ble_eq_true rfl) dX5_take_18 (fun q18 H z19 hW hS => ?_)
        have h := h q18 z19
        refine lv_dup (pc := 21) hx hb dX5_take_21 rfl ?_
        refine lv_aload_n (pc := 22) hx hb dX5_take_22 rfl (lv_at hl 0 rfl) ?_
        obtain ⟨g20, h⟩ := h
        refine cj_fld (pc := 23) hcx hW 3 g20 (by decide) rfl in_X5 1 (by decide) (by decide) q359 dX5_take_23 (v := .int (cj_F (cj_new σ q18 5) 401 x0)) rfl ?_
        refine cj_xv (pc := 26) (cj_runI hcx hW hS [.int (cj_F (cj_new σ q18 5) 401 x0)] h (Nat.le_trans (by decide) hd) q432 q433 q129 q434 rfl yd_Wr_init (by decide) rfl rfl (Nat.le_of_ble_eq_true rfl) hl.1 (Nat.le_of_ble_eq_true rfl) (Nat.le_of_ble_eq_true rfl) dX5_take_26) hS (fun σ22 h H locs hW hS => ?_)
        obtain ⟨g23, h⟩ := h
        obtain ⟨g24, h⟩ := h
        exact cj_athrow (pc := 29) hcx hex hW hS g23 g24 (Nat.le_of_ble_eq_true rfl) (Nat.le_of_ble_eq_true rfl) dX5_take_29)
/-! L_init -/
set_option maxHeartbeats 4000000 in
set_option maxRecDepth 100000 in
theorem cb_L_init {E : cj_E} {σ : cj_S} {x0 : Nat} {P : cj_S → Prop} (h : (∀ q1, cj_T σ q1 = 0 → (cj_T (cj_newA σ q1 20 400) x0 = 1 ∧ (∀ q4, cj_T (cj_newA σ q1 20 400) q4 = 0 → (cj_T (cj_newA (cj_sR (cj_newA σ q1 20 400) 100 x0 (some q1)) q4 30 4) x0 = 1 ∧ (∀ q7, cj_T (cj_newA (cj_sR (cj_newA σ q1 20 400) 100 x0 (some q1)) q4 30 4) q7 = 0 → (cj_T (cj_newA (cj_sR (cj_newA (cj_sR (cj_newA σ q1 20 400) 100 x0 (some q1)) q4 30 4) 102 x0 (some q4)) q7 21 4) x0 = 1 ∧ (∀ q10, cj_T (cj_newA (cj_sR (cj_newA (cj_sR (cj_newA σ q1 20 400) 100 x0 (some q1)) q4 30 4) 102 x0 (some q4)) q7 21 4) q10 = 0 → (cj_T (cj_newA (cj_sR (cj_newA (cj_sR (cj_newA (cj_sR (cj_newA σ q1 20 400) 100 x0 (some q1)) q4 30 4) 102 x0 (some q4)) q7 21 4) 103 x0 (some q7)) q10 26 4) x0 = 1 ∧ (∀ q13, cj_T (cj_newA (cj_sR (cj_newA (cj_sR (cj_newA (cj_sR (cj_newA σ q1 20 400) 100 x0 (some q1)) q4 30 4) 102 x0 (some q4)) q7 21 4) 103 x0 (some q7)) q10 26 4) q13 = 0 → cs_St_init E (cj_new (cj_sR (cj_newA (cj_sR (cj_newA (cj_sR (cj_newA (cj_sR (cj_newA σ q1 20 400) 100 x0 (some q1)) q4 30 4) 102 x0 (some q4)) q7 21 4) 103 x0 (some q7)) q10 26 4) 104 x0 (some q10)) q13 2) q13 (some x0) (fun σ16 => (cj_T σ16 x0 = 1 ∧ (∀ q18, cj_T σ16 q18 = 0 → cs_St_init E (cj_new (cj_sR σ16 109 x0 (some q13)) q18 2) q18 (some x0) (fun σ21 => (cj_T σ21 x0 = 1 ∧ (∀ q23, cj_T σ21 q23 = 0 → cs_St_init E (cj_new (cj_sR σ21 110 x0 (some q18)) q23 2) q23 (some x0) (fun σ26 => (cj_T σ26 x0 = 1 ∧ (∀ q28, cj_T σ26 q28 = 0 → cs_St_init E (cj_new (cj_sR σ26 111 x0 (some q23)) q28 2) q28 (some x0) (fun σ31 => (cj_T σ31 x0 = 1 ∧ (∀ q33, cj_T σ31 q33 = 0 → cs_Jn_init E (cj_new (cj_sR σ31 112 x0 (some q28)) q33 3) q33 (some x0) (fun σ36 => (cj_T σ36 x0 = 1 ∧ (∀ q38, cj_T σ36 q38 = 0 → (cj_T (cj_newA (cj_sR σ36 113 x0 (some q33)) q38 22 40) x0 = 1 ∧ (∀ q41, cj_T (cj_newA (cj_sR σ36 113 x0 (some q33)) q38 22 40) q41 = 0 → (cj_T (cj_newA (cj_sR (cj_newA (cj_sR σ36 113 x0 (some q33)) q38 22 40) 114 x0 (some q38)) q41 21 20736) x0 = 1 ∧ (∀ q44, cj_T (cj_newA (cj_sR (cj_newA (cj_sR σ36 113 x0 (some q33)) q38 22 40) 114 x0 (some q38)) q41 21 20736) q44 = 0 → (cj_T (cj_newA (cj_sR (cj_newA (cj_sR (cj_newA (cj_sR σ36 113 x0 (some q33)) q38 22 40) 114 x0 (some q38)) q41 21 20736) 118 x0 (some q41)) q44 21 100) x0 = 1 ∧ (∀ q47, cj_T (cj_newA (cj_sR (cj_newA (cj_sR (cj_newA (cj_sR σ36 113 x0 (some q33)) q38 22 40) 114 x0 (some q38)) q41 21 20736) 118 x0 (some q41)) q44 21 100) q47 = 0 → (cj_T (cj_newA (cj_sR (cj_newA (cj_sR (cj_newA (cj_sR (cj_newA (cj_sR σ36 113 x0 (some q33)) q38 22 40) 114 x0 (some q38)) q41 21 20736) 118 x0 (some q41)) q44 21 100) 119 x0 (some q44)) q47 21 4) x0 = 1 ∧ P (cj_sF (cj_sR (cj_newA (cj_sR (cj_newA (cj_sR (cj_newA (cj_sR (cj_newA (cj_sR σ36 113 x0 (some q33)) q38 22 40) 114 x0 (some q38)) q41 21 20736) 118 x0 (some q41)) q44 21 100) 119 x0 (some q44)) q47 21 4) 120 x0 (some q47)) 107 x0 (0 : Int32)))))))))))))))))))))))))))))))))) : cs_L_init E σ x0 P :=
  cj_enter (k := 4) (lv := [(0, .ref x0)]) (by decide) (Nat.le_of_ble_eq_true rfl) rfl (by
    intro d hd p e s m args below meth c hcx H locs ls hW hS hl
    have hx := hcx.1
    have hb := hcx.2.1
    have hown := hcx.2.2.2.2.2.1
    have hts := hcx.2.2.2.2.2.2.1
    refine lv_aload_n (pc := 0) hx hb dX1_init_0 rfl (lv_at hl 0 rfl) ?_
    refine cj_objInit (pc := 1) hcx hl.1 q170 q171 q172 dX1_init_1 (Nat.le_add_left 1 _) (cj_lr (Nat.le_of_ble_eq_true rfl)) ?_
    refine lv_aload_n (pc := 4) hx hb dX1_init_4 rfl (lv_at hl 0 rfl) ?_
    refine lv_sipush (pc := 5) (v := (400 : Int32)) hx hb dX1_init_5 (by decide) ?_
    refine cj_newb (pc := 8) hcx hW hS (N := 400) (by decide) (by decide) (by decide) (Nat.le_of_ble_eq_true rfl) (Nat.le_of_ble_eq_true rfl) dX1_init_8 (fun q1 H z2 hW hS => ?_)
    have h := h q1 z2
    obtain ⟨g3, h⟩ := h
    refine cj_putF (pc := 10) (σ1 := (cj_sR (cj_newA σ q1 20 400) 100 x0 (some q1))) hcx hW hS 0 g3 (by decide) rfl in_X1 tyX1_ok nmX1 0 (by decide) (by decide) rfl rfl rfl (cj_nRa _ (some q1)) (cj_fRa _ (some q1)) (cj_pR (x := (some q1)) rfl) q273 dX1_init_10 (fun H locs hW hS => ?_)
    refine lv_aload_n (pc := 13) hx hb dX1_init_13 rfl (lv_at hl 0 rfl) ?_
    refine lv_iconst (pc := 14) (v := (4 : Int32)) hx hb dX1_init_14 (by decide) ?_
    refine cj_newr (pc := 15) hcx hW hS 10 (by unfold cj_ok_; decide) rfl (List.mem_of_getElem? (i := 0) rfl) q173 (N := 4) (by decide) (by decide) (by decide) (Nat.le_of_ble_eq_true rfl) (Nat.le_of_ble_eq_true rfl) dX1_init_15 (fun q4 H z5 hW hS => ?_)
    have h := h q4 z5
    obtain ⟨g6, h⟩ := h
    refine cj_putF (pc := 18) (σ1 := (cj_sR (cj_newA (cj_sR (cj_newA σ q1 20 400) 100 x0 (some q1)) q4 30 4) 102 x0 (some q4))) hcx hW hS 0 g6 (by decide) rfl in_X1 tyX1_ok nmX1 2 (by decide) (by decide) rfl rfl rfl (cj_nRa _ (some q4)) (cj_fRa _ (some q4)) (cj_pR (x := (some q4)) rfl) q276 dX1_init_18 (fun H locs hW hS => ?_)
    refine lv_aload_n (pc := 21) hx hb dX1_init_21 rfl (lv_at hl 0 rfl) ?_
    refine lv_iconst (pc := 22) (v := (4 : Int32)) hx hb dX1_init_22 (by decide) ?_
    refine cj_newi (pc := 23) hcx hW hS (N := 4) (by decide) (by decide) (by decide) (Nat.le_of_ble_eq_true rfl) (Nat.le_of_ble_eq_true rfl) dX1_init_23 (fun q7 H z8 hW hS => ?_)
    have h := h q7 z8
    obtain ⟨g9, h⟩ := h
    refine cj_putF (pc := 25) (σ1 := (cj_sR (cj_newA (cj_sR (cj_newA (cj_sR (cj_newA σ q1 20 400) 100 x0 (some q1)) q4 30 4) 102 x0 (some q4)) q7 21 4) 103 x0 (some q7))) hcx hW hS 0 g9 (by decide) rfl in_X1 tyX1_ok nmX1 3 (by decide) (by decide) rfl rfl rfl (cj_nRa _ (some q7)) (cj_fRa _ (some q7)) (cj_pR (x := (some q7)) rfl) q277 dX1_init_25 (fun H locs hW hS => ?_)
    refine lv_aload_n (pc := 28) hx hb dX1_init_28 rfl (lv_at hl 0 rfl) ?_
    refine lv_iconst (pc := 29) (v := (4 : Int32)) hx hb dX1_init_29 (by decide) ?_
    refine cj_newr (pc := 30) hcx hW hS 6 (by unfold cj_ok_; decide) rfl (List.mem_of_getElem? (i := 1) rfl) q175 (N := 4) (by decide) (by decide) (by decide) (Nat.le_of_ble_eq_true rfl) (Nat.le_of_ble_eq_true rfl) dX1_init_30 (fun q10 H z11 hW hS => ?_)
    have h := h q10 z11
    obtain ⟨g12, h⟩ := h
    refine cj_putF (pc := 33) (σ1 := (cj_sR (cj_newA (cj_sR (cj_newA (cj_sR (cj_newA (cj_sR (cj_newA σ q1 20 400) 100 x0 (some q1)) q4 30 4) 102 x0 (some q4)) q7 21 4) 103 x0 (some q7)) q10 26 4) 104 x0 (some q10))) hcx hW hS 0 g12 (by decide) rfl in_X1 tyX1_ok nmX1 4 (by decide) (by decide) rfl rfl rfl (cj_nRa _ (some q10)) (cj_fRa _ (some q10)) (cj_pR (x := (some q10)) rfl) q279 dX1_init_33 (fun H locs hW hS => ?_)
    refine lv_aload_n (pc := 36) hx hb dX1_init_36 rfl (lv_at hl 0 rfl) ?_
    refine cj_newo (pc := 37) hcx hW hS 1 (by decide) rfl in_X2 tyX2_ok rfl rfl q177 q178 q123 (Nat.le_of_ble_eq_true rfl) (Nat.le_of_ble_eq_true rfl) dX1_init_37 (fun q13 H z14 hW hS => ?_)
    have h := h q13 z14
    refine lv_dup (pc := 40) hx hb dX1_init_40 rfl ?_
    refine lv_aload_n (pc := 41) hx hb dX1_init_41 rfl (lv_at hl 0 rfl) ?_
    refine cj_xv (pc := 42) (cj_runIN hcx hW hS [va_rf (some x0)] h (Nat.le_trans (by decide) hd) (List.mem_of_getElem? (i := 0) rfl) q180 q123 q181 rfl yd_St_init (by decide) rfl rfl (Nat.le_of_ble_eq_true rfl) hl.1 (Nat.le_of_ble_eq_true rfl) (Nat.le_of_ble_eq_true rfl) dX1_init_42) hS (fun σ16 h H locs hW hS => ?_)
    obtain ⟨g17, h⟩ := h
    refine cj_putF (pc := 45) (σ1 := (cj_sR σ16 109 x0 (some q13))) hcx hW hS 0 g17 (by decide) rfl in_X1 tyX1_ok nmX1 9 (by decide) (by decide) rfl rfl rfl (cj_nR _ (some q13)) (cj_fR _ (some q13)) (cj_pR (x := (some q13)) rfl) q286 dX1_init_45 (fun H locs hW hS => ?_)
    refine lv_aload_n (pc := 48) hx hb dX1_init_48 rfl (lv_at hl 0 rfl) ?_
    refine cj_newo (pc := 49) hcx hW hS 1 (by decide) rfl in_X2 tyX2_ok rfl rfl q177 q178 q123 (Nat.le_of_ble_eq_true rfl) (Nat.le_of_ble_eq_true rfl) dX1_init_49 (fun q18 H z19 hW hS => ?_)
    have h := h q18 z19
    refine lv_dup (pc := 52) hx hb dX1_init_52 rfl ?_
    refine lv_aload_n (pc := 53) hx hb dX1_init_53 rfl (lv_at hl 0 rfl) ?_
    refine cj_xv (pc := 54) (cj_runIN hcx hW hS [va_rf (some x0)] h (Nat.le_trans (by decide) hd) (List.mem_of_getElem? (i := 0) rfl) q180 q123 q181 rfl yd_St_init (by decide) rfl rfl (Nat.le_of_ble_eq_true rfl) hl.1 (Nat.le_of_ble_eq_true rfl) (Nat.le_of_ble_eq_true rfl) dX1_init_54) hS (fun σ21 h H locs hW hS => ?_)
    obtain ⟨g22, h⟩ := h
    refine cj_putF (pc := 57) (σ1 := (cj_sR σ21 110 x0 (some q18))) hcx hW hS 0 g22 (by decide) rfl in_X1 tyX1_ok nmX1 10 (by decide) (by decide) rfl rfl rfl (cj_nR _ (some q18)) (cj_fR _ (some q18)) (cj_pR (x := (some q18)) rfl) q287 dX1_init_57 (fun H locs hW hS => ?_)
    refine lv_aload_n (pc := 60) hx hb dX1_init_60 rfl (lv_at hl 0 rfl) ?_
    refine cj_newo (pc := 61) hcx hW hS 1 (by decide) rfl in_X2 tyX2_ok rfl rfl q177 q178 q123 (Nat.le_of_ble_eq_true rfl) (Nat.le_of_ble_eq_true rfl) dX1_init_61 (fun q23 H z24 hW hS => ?_)
    have h := h q23 z24
    refine lv_dup (pc := 64) hx hb dX1_init_64 rfl ?_
    refine lv_aload_n (pc := 65) hx hb dX1_init_65 rfl (lv_at hl 0 rfl) ?_
    refine cj_xv (pc := 66) (cj_runIN hcx hW hS [va_rf (some x0)] h (Nat.le_trans (by decide) hd) (List.mem_of_getElem? (i := 0) rfl) q180 q123 q181 rfl yd_St_init (by decide) rfl rfl (Nat.le_of_ble_eq_true rfl) hl.1 (Nat.le_of_ble_eq_true rfl) (Nat.le_of_ble_eq_true rfl) dX1_init_66) hS (fun σ26 h H locs hW hS => ?_)
    obtain ⟨g27, h⟩ := h
    refine cj_putF (pc := 69) (σ1 := (cj_sR σ26 111 x0 (some q23))) hcx hW hS 0 g27 (by decide) rfl in_X1 tyX1_ok nmX1 11 (by decide) (by decide) rfl rfl rfl (cj_nR _ (some q23)) (cj_fR _ (some q23)) (cj_pR (x := (some q23)) rfl) q288 dX1_init_69 (fun H locs hW hS => ?_)
    refine lv_aload_n (pc := 72) hx hb dX1_init_72 rfl (lv_at hl 0 rfl) ?_
    refine cj_newo (pc := 73) hcx hW hS 1 (by decide) rfl in_X2 tyX2_ok rfl rfl q177 q178 q123 (Nat.le_of_ble_eq_true rfl) (Nat.le_of_ble_eq_true rfl) dX1_init_73 (fun q28 H z29 hW hS => ?_)
    have h := h q28 z29
    refine lv_dup (pc := 76) hx hb dX1_init_76 rfl ?_
    refine lv_aload_n (pc := 77) hx hb dX1_init_77 rfl (lv_at hl 0 rfl) ?_
    refine cj_xv (pc := 78) (cj_runIN hcx hW hS [va_rf (some x0)] h (Nat.le_trans (by decide) hd) (List.mem_of_getElem? (i := 0) rfl) q180 q123 q181 rfl yd_St_init (by decide) rfl rfl (Nat.le_of_ble_eq_true rfl) hl.1 (Nat.le_of_ble_eq_true rfl) (Nat.le_of_ble_eq_true rfl) dX1_init_78) hS (fun σ31 h H locs hW hS => ?_)
    obtain ⟨g32, h⟩ := h
    refine cj_putF (pc := 81) (σ1 := (cj_sR σ31 112 x0 (some q28))) hcx hW hS 0 g32 (by decide) rfl in_X1 tyX1_ok nmX1 12 (by decide) (by decide) rfl rfl rfl (cj_nR _ (some q28)) (cj_fR _ (some q28)) (cj_pR (x := (some q28)) rfl) q289 dX1_init_81 (fun H locs hW hS => ?_)
    refine lv_aload_n (pc := 84) hx hb dX1_init_84 rfl (lv_at hl 0 rfl) ?_
    refine cj_newo (pc := 85) hcx hW hS 2 (by decide) rfl in_X3 tyX3_ok rfl rfl q216 q217 q124 (Nat.le_of_ble_eq_true rfl) (Nat.le_of_ble_eq_true rfl) dX1_init_85 (fun q33 H z34 hW hS => ?_)
    have h := h q33 z34
    refine lv_dup (pc := 88) hx hb dX1_init_88 rfl ?_
    refine lv_aload_n (pc := 89) hx hb dX1_init_89 rfl (lv_at hl 0 rfl) ?_
    refine cj_xv (pc := 90) (cj_runIN hcx hW hS [va_rf (some x0)] h (Nat.le_trans (by decide) hd) (List.mem_of_getElem? (i := 1) rfl) q219 q124 q220 rfl yd_Jn_init (by decide) rfl rfl (Nat.le_of_ble_eq_true rfl) hl.1 (Nat.le_of_ble_eq_true rfl) (Nat.le_of_ble_eq_true rfl) dX1_init_90) hS (fun σ36 h H locs hW hS => ?_)
    obtain ⟨g37, h⟩ := h
    refine cj_putF (pc := 93) (σ1 := (cj_sR σ36 113 x0 (some q33))) hcx hW hS 0 g37 (by decide) rfl in_X1 tyX1_ok nmX1 13 (by decide) (by decide) rfl rfl rfl (cj_nR _ (some q33)) (cj_fR _ (some q33)) (cj_pR (x := (some q33)) rfl) q290 dX1_init_93 (fun H locs hW hS => ?_)
    refine lv_aload_n (pc := 96) hx hb dX1_init_96 rfl (lv_at hl 0 rfl) ?_
    refine lv_bipush (pc := 97) (v := (40 : Int32)) hx hb dX1_init_97 (by decide) ?_
    refine cj_newr (pc := 99) hcx hW hS 2 (by unfold cj_ok_; decide) rfl (List.mem_of_getElem? (i := 2) rfl) q177 (N := 40) (by decide) (by decide) (by decide) (Nat.le_of_ble_eq_true rfl) (Nat.le_of_ble_eq_true rfl) dX1_init_99 (fun q38 H z39 hW hS => ?_)
    have h := h q38 z39
    obtain ⟨g40, h⟩ := h
    refine cj_putF (pc := 102) (σ1 := (cj_sR (cj_newA (cj_sR σ36 113 x0 (some q33)) q38 22 40) 114 x0 (some q38))) hcx hW hS 0 g40 (by decide) rfl in_X1 tyX1_ok nmX1 14 (by decide) (by decide) rfl rfl rfl (cj_nRa _ (some q38)) (cj_fRa _ (some q38)) (cj_pR (x := (some q38)) rfl) q291 dX1_init_102 (fun H locs hW hS => ?_)
    refine lv_aload_n (pc := 105) hx hb dX1_init_105 rfl (lv_at hl 0 rfl) ?_
    refine lv_sipush (pc := 106) (v := (20736 : Int32)) hx hb dX1_init_106 (by decide) ?_
    refine cj_newi (pc := 109) hcx hW hS (N := 20736) (by decide) (by decide) (by decide) (Nat.le_of_ble_eq_true rfl) (Nat.le_of_ble_eq_true rfl) dX1_init_109 (fun q41 H z42 hW hS => ?_)
    have h := h q41 z42
    obtain ⟨g43, h⟩ := h
    refine cj_putF (pc := 111) (σ1 := (cj_sR (cj_newA (cj_sR (cj_newA (cj_sR σ36 113 x0 (some q33)) q38 22 40) 114 x0 (some q38)) q41 21 20736) 118 x0 (some q41))) hcx hW hS 0 g43 (by decide) rfl in_X1 tyX1_ok nmX1 18 (by decide) (by decide) rfl rfl rfl (cj_nRa _ (some q41)) (cj_fRa _ (some q41)) (cj_pR (x := (some q41)) rfl) q295 dX1_init_111 (fun H locs hW hS => ?_)
    refine lv_aload_n (pc := 114) hx hb dX1_init_114 rfl (lv_at hl 0 rfl) ?_
    refine lv_bipush (pc := 115) (v := (100 : Int32)) hx hb dX1_init_115 (by decide) ?_
    refine cj_newi (pc := 117) hcx hW hS (N := 100) (by decide) (by decide) (by decide) (Nat.le_of_ble_eq_true rfl) (Nat.le_of_ble_eq_true rfl) dX1_init_117 (fun q44 H z45 hW hS => ?_)
    have h := h q44 z45
    obtain ⟨g46, h⟩ := h
    refine cj_putF (pc := 119) (σ1 := (cj_sR (cj_newA (cj_sR (cj_newA (cj_sR (cj_newA (cj_sR σ36 113 x0 (some q33)) q38 22 40) 114 x0 (some q38)) q41 21 20736) 118 x0 (some q41)) q44 21 100) 119 x0 (some q44))) hcx hW hS 0 g46 (by decide) rfl in_X1 tyX1_ok nmX1 19 (by decide) (by decide) rfl rfl rfl (cj_nRa _ (some q44)) (cj_fRa _ (some q44)) (cj_pR (x := (some q44)) rfl) q296 dX1_init_119 (fun H locs hW hS => ?_)
    refine lv_aload_n (pc := 122) hx hb dX1_init_122 rfl (lv_at hl 0 rfl) ?_
    refine lv_iconst (pc := 123) (v := (4 : Int32)) hx hb dX1_init_123 (by decide) ?_
    refine cj_newi (pc := 124) hcx hW hS (N := 4) (by decide) (by decide) (by decide) (Nat.le_of_ble_eq_true rfl) (Nat.le_of_ble_eq_true rfl) dX1_init_124 (fun q47 H z48 hW hS => ?_)
    have h := h q47 z48
    obtain ⟨g49, h⟩ := h
    refine cj_putF (pc := 126) (σ1 := (cj_sR (cj_newA (cj_sR (cj_newA (cj_sR (cj_newA (cj_sR (cj_newA (cj_sR σ36 113 x0 (some q33)) q38 22 40) 114 x0 (some q38)) q41 21 20736) 118 x0 (some q41)) q44 21 100) 119 x0 (some q44)) q47 21 4) 120 x0 (some q47))) hcx hW hS 0 g49 (by decide) rfl in_X1 tyX1_ok nmX1 20 (by decide) (by decide) rfl rfl rfl (cj_nRa _ (some q47)) (cj_fRa _ (some q47)) (cj_pR (x := (some q47)) rfl) q297 dX1_init_126 (fun H locs hW hS => ?_)
    refine lv_aload_n (pc := 129) hx hb dX1_init_129 rfl (lv_at hl 0 rfl) ?_
    refine lv_iconst (pc := 130) (v := (0 : Int32)) hx hb dX1_init_130 (by decide) ?_
    refine cj_put (pc := 131) (σ1 := (cj_sF (cj_sR (cj_newA (cj_sR (cj_newA (cj_sR (cj_newA (cj_sR (cj_newA (cj_sR σ36 113 x0 (some q33)) q38 22 40) 114 x0 (some q38)) q41 21 20736) 118 x0 (some q41)) q44 21 100) 119 x0 (some q44)) q47 21 4) 120 x0 (some q47)) 107 x0 (0 : Int32))) hcx hW hS 0 g49 (by decide) rfl in_X1 tyX1_ok nmX1 7 (by decide) (by decide) rfl rfl rfl (cj_pI rfl) q284 dX1_init_131 (fun H locs hW hS => ?_)
    exact cj_retv (pc := 134) hcx hW hS h (Nat.le_of_ble_eq_true rfl) (Nat.le_of_ble_eq_true rfl) dX1_init_134)
/-! Rd_digit -/
set_option maxHeartbeats 4000000 in
set_option maxRecDepth 100000 in
theorem cb_Rd_digit {E : cj_E} {σ : cj_S} {x0 : Nat} {P : Int32 → cj_S → Prop} {X : Nat → cj_S → Prop} (h : (cj_T σ x0 = 4 ∧ cs_Rd_peek E σ x0 (fun r1 σ2 => (cj_T σ2 x0 = 4 ∧ cs_Rd_isDigit E σ2 x0 (fun r4 σ5 => (cj_T σ5 x0 = 4 ∧ cs_Rd_take E σ5 x0 r4 (fun r7 σ8 => P (r7 - (48 : Int32)) σ8) X)))))) : cs_Rd_digit E σ x0 P X :=
  cj_enterx (k := 4) (lv := [(0, .ref x0)]) (by decide) (Nat.le_of_ble_eq_true rfl) rfl (by
    intro d hd p e s m args below meth c hcx hex H locs ls hW hS hl
    have hx := hcx.1
    have hb := hcx.2.1
    have hown := hcx.2.2.2.2.2.1
    have hts := hcx.2.2.2.2.2.2.1
    refine lv_aload_n (pc := 0) hx hb dX5_digit_0 rfl (lv_at hl 0 rfl) ?_
    obtain ⟨g3, h⟩ := h
    refine cj_xi (pc := 1) (cj_runV hcx hW hS 3 g3 (by decide) rfl [] h (Nat.le_trans (by decide) hd) (lw_V q380 q382 qs3 q126 q383) rfl yd_Rd_peek (by decide) rfl rfl (Nat.le_of_ble_eq_true rfl) hl.1 (Nat.le_of_ble_eq_true rfl) (Nat.le_of_ble_eq_true rfl) dX5_digit_1) hS (fun r1 σ2 h H locs hW hS => ?_)
    refine lv_istore_n (pc := 4) (lv' := [(1, .int r1), (0, .ref x0)]) hx hb dX5_digit_4 rfl hl (by decide) rfl (fun ls hl => ?_)
    refine lv_aload_n (pc := 5) hx hb dX5_digit_5 rfl (lv_at hl 1 rfl) ?_
    refine lv_aload_n (pc := 6) hx hb dX5_digit_6 rfl (lv_at hl 1 rfl) ?_
    obtain ⟨g6, h⟩ := h
    refine cj_xi (pc := 7) (cj_runV hcx hW hS 3 g6 (by decide) rfl [] h (Nat.le_trans (by decide) hd) (lw_V q502 q504 qs6 q126 q505) rfl yd_Rd_isDigit (by decide) rfl rfl (Nat.le_of_ble_eq_true rfl) hl.1 (Nat.le_of_ble_eq_true rfl) (Nat.le_of_ble_eq_true rfl) dX5_digit_7) hS (fun r4 σ5 h H locs hW hS => ?_)
    obtain ⟨g9, h⟩ := h
    refine cj_yi (pc := 10) hcx hex (Nat.le_of_ble_eq_true rfl) (Nat.le_of_ble_eq_true rfl) (cj_runVx hcx hW hS 3 g9 (by decide) rfl [.int r4] h (Nat.le_trans (by decide) hd) (lw_V q389 q391 qs4 q126 q392) rfl yd_Rd_take (by decide) rfl rfl (Nat.le_of_ble_eq_true rfl) hl.1 (Nat.le_of_ble_eq_true rfl) (Nat.le_of_ble_eq_true rfl) dX5_digit_10) hS (fun r7 σ8 h H locs hW hS => ?_)
    refine lv_bipush (pc := 13) (v := (48 : Int32)) hx hb dX5_digit_13 (by decide) ?_
    refine lv_isub (pc := 15) hx hb dX5_digit_15 ?_
    exact vx_ret (cj_reti (pc := 16) hcx hW hS rfl h (Nat.le_of_ble_eq_true rfl) (Nat.le_of_ble_eq_true rfl) dX5_digit_16))
/-! Rd_letters -/
set_option maxHeartbeats 4000000 in
set_option maxRecDepth 100000 in
theorem cb_Rd_letters_9 {E : cj_E} {σ : cj_S} {x0 : Nat} {x1 : Int32} {x2 : Int32} {x3 : Int32} {cu : Nat} {su : Nat} {P : Option Nat → cj_S → Prop} {X : Nat → cj_S → Prop} (h : (cu ≤ 12 ∧ (su ≤ 90 ∧ cs_L_isIn E σ (x3 - (97 : Int32)).toInt64 (0 : Int64) (3 : Int64) (fun r3 σ4 => ((r3 = 0 → cg_Rd_letters_48 E σ4 x0 x1 x2 (x3 - (97 : Int32)) (0 : Int32) (some x0) (cu + 0) (su + 0) P X) ∧ (¬ r3 = 0 → ((cu + 0) ≤ 12 ∧ ((su + 0) ≤ 90 ∧ cs_L_has E σ4 x2 (x3 - (97 : Int32)) (fun r8 σ9 => ((r8 = 0 → (((3 : Int32) ≤ x1 → cg_Rd_letters_48 E σ9 x0 x1 x2 (x3 - (97 : Int32)) (0 : Int32) (some x0) ((cu + 0) + 0) ((su + 0) + 0) P X) ∧ (¬ (3 : Int32) ≤ x1 → cg_Rd_letters_48 E σ9 x0 x1 x2 (x3 - (97 : Int32)) (1 : Int32) (some x0) ((cu + 0) + 0) ((su + 0) + 0) P X))) ∧ (¬ r8 = 0 → cg_Rd_letters_48 E σ9 x0 x1 x2 (x3 - (97 : Int32)) (0 : Int32) (some x0) ((cu + 0) + 0) ((su + 0) + 0) P X))))))))))) : cg_Rd_letters_9 E σ x0 x1 x2 x3 cu su P X := by
  intro d hd p e s m args below meth c hcx hex H locs ls hW hS hl
  have hx := hcx.1
  have hb := hcx.2.1
  have hown := hcx.2.2.2.2.2.1
  have hts := hcx.2.2.2.2.2.2.1
  refine lv_iload_n (pc := 9) hx hb dX5_letters_9 rfl (lv_at hl 3 rfl) ?_
  refine lv_bipush (pc := 10) (v := (97 : Int32)) hx hb dX5_letters_10 (by decide) ?_
  refine lv_isub (pc := 12) hx hb dX5_letters_12 ?_
  refine lv_istore (pc := 13) (lv' := [(4, .int (x3 - (97 : Int32))), (0, .ref x0), (1, .int x1), (2, .int x2), (3, .int x3)]) hx hb dX5_letters_13 hl (by decide) rfl (fun ls hl => ?_)
  refine lv_aload_n (pc := 15) hx hb dX5_letters_15 rfl (lv_at hl 1 rfl) ?_
  refine lv_iload (pc := 16) hx hb dX5_letters_16 (lv_at hl 0 rfl) ?_
  refine lv_i2l (pc := 18) hx hb dX5_letters_18 rfl ?_
  refine lv_lconst (pc := 19) (v := (0 : Int64)) hx hb dX5_letters_19 (by decide) ?_
  refine lv_ldc2 (pc := 20) (v := (3 : Int64)) hx hb hown (hts _ q384) dX5_letters_20 ?_
  obtain ⟨g1, h⟩ := h
  obtain ⟨g2, h⟩ := h
  refine cj_xi (pc := 23) (cj_runSN hcx hW hS [.long (x3 - (97 : Int32)).toInt64, .long (0 : Int64), .long (3 : Int64)] h (Nat.le_trans (by decide) hd) (List.mem_of_getElem? (i := 8) rfl) q350 q122 q351 yd_L_isIn (by decide) rfl rfl (Nat.le_of_ble_eq_true rfl) hl.1 g1 g2 dX5_letters_23) hS (fun r3 σ4 h H locs hW hS => ?_)
  refine lv_if_eq (pc := 26) (tgt := 47) hx hb dX5_letters_26 (by decide) (fun c5 => ?_) (fun c5 => ?_)
  · have h := h.1 c5
    refine lv_iconst (pc := 47) (v := (0 : Int32)) hx hb dX5_letters_47 (by decide) ?_
    exact h d hd p e s m args below meth c hcx hex H locs _ hW hS (lv_sub hl [1, 2, 3, 0] rfl)
  · have h := h.2 c5
    refine lv_iload_n (pc := 29) hx hb dX5_letters_29 rfl (lv_at hl 3 rfl) ?_
    refine lv_iload (pc := 30) hx hb dX5_letters_30 (lv_at hl 0 rfl) ?_
    obtain ⟨g6, h⟩ := h
    obtain ⟨g7, h⟩ := h
    refine cj_xi (pc := 32) (cj_runSN hcx hW hS [.int x2, .int (x3 - (97 : Int32))] h (Nat.le_trans (by decide) hd) (List.mem_of_getElem? (i := 9) rfl) q387 q122 q388 yd_L_has (by decide) rfl rfl (Nat.le_of_ble_eq_true rfl) hl.1 g6 g7 dX5_letters_32) hS (fun r8 σ9 h H locs hW hS => ?_)
    refine lv_if_ne (pc := 35) (tgt := 47) hx hb dX5_letters_35 (by decide) (fun c10 => ?_) (fun c10 => ?_)
    · have h := h.2 c10
      refine lv_iconst (pc := 47) (v := (0 : Int32)) hx hb dX5_letters_47 (by decide) ?_
      exact h d hd p e s m args below meth c hcx hex H locs _ hW hS (lv_sub hl [1, 2, 3, 0] rfl)
    · have h := h.1 c10
      refine lv_iload_n (pc := 38) hx hb dX5_letters_38 rfl (lv_at hl 2 rfl) ?_
      refine lv_iconst (pc := 39) (v := (3 : Int32)) hx hb dX5_letters_39 (by decide) ?_
      refine lv_icmp_ge (pc := 40) (tgt := 47) hx hb dX5_letters_40 (by decide) (fun c11 => ?_) (fun c11 => ?_)
      · have h := h.1 c11
        refine lv_iconst (pc := 47) (v := (0 : Int32)) hx hb dX5_letters_47 (by decide) ?_
        exact h d hd p e s m args below meth c hcx hex H locs _ hW hS (lv_sub hl [1, 2, 3, 0] rfl)
      · have h := h.2 c11
        refine lv_iconst (pc := 43) (v := (1 : Int32)) hx hb dX5_letters_43 (by decide) ?_
        refine lv_goto (pc := 44) (tgt := 48) hx hb dX5_letters_44 (by decide) ?_
        exact h d hd p e s m args below meth c hcx hex H locs _ hW hS (lv_sub hl [1, 2, 3, 0] rfl)
set_option maxHeartbeats 4000000 in
set_option maxRecDepth 100000 in
theorem cb_Rd_letters_48 {E : cj_E} {σ : cj_S} {x0 : Nat} {x1 : Int32} {x2 : Int32} {x4 : Int32} {t0 : Int32} {t1 : Option Nat} {cu : Nat} {su : Nat} {P : Option Nat → cj_S → Prop} {X : Nat → cj_S → Prop} (h : (∃ a1, t1 = some a1 ∧ (cu + 1 ≤ 12 ∧ (su + 7 ≤ 90 ∧ (cj_T σ a1 = 4 ∧ cs_Rd_take E σ a1 t0 (fun r5 σ6 => (cj_T σ6 x0 = 4 ∧ (∃ a9, (cj_R σ6 400 x0) = some a9 ∧ (cj_T σ6 a9 = 21 ∧ (vp_in x1 (cj_N σ6 a9) ∧ ((cu + 1) ≤ 12 ∧ ((su + 7) ≤ 90 ∧ cs_Rd_peek E (cj_sA σ6 a9 x1.toNatClampNeg x4) x0 (fun r15 σ16 => ((r15 = (58 : Int32) → (cj_T σ16 x0 = 4 ∧ (¬ (x1 + (1 : Int32)) < 0 ∧ ((x1 + (1 : Int32)).toNatClampNeg ≤ 4 ∧ (((cu + 1) + 0) + 1 ≤ 12 ∧ (((su + 7) + 0) + 4 ≤ 90 ∧ (∀ q23, cj_T σ16 q23 = 0 → (cj_T (cj_newA (cj_sF σ16 401 x0 ((cj_F σ16 401 x0) + (1 : Int32))) q23 21 (x1 + (1 : Int32)).toNatClampNeg) x0 = 4 ∧ (∃ a26, (cj_R (cj_newA (cj_sF σ16 401 x0 ((cj_F σ16 401 x0) + (1 : Int32))) q23 21 (x1 + (1 : Int32)).toNatClampNeg) 400 x0) = some a26 ∧ (¬ (x1 + (1 : Int32)) < 0 ∧ (cj_T (cj_newA (cj_sF σ16 401 x0 ((cj_F σ16 401 x0) + (1 : Int32))) q23 21 (x1 + (1 : Int32)).toNatClampNeg) a26 = 21 ∧ (cj_T (cj_newA (cj_sF σ16 401 x0 ((cj_F σ16 401 x0) + (1 : Int32))) q23 21 (x1 + (1 : Int32)).toNatClampNeg) q23 = 21 ∧ ((0 : Int32).toNatClampNeg + (x1 + (1 : Int32)).toNatClampNeg ≤ cj_N (cj_newA (cj_sF σ16 401 x0 ((cj_F σ16 401 x0) + (1 : Int32))) q23 21 (x1 + (1 : Int32)).toNatClampNeg) a26 ∧ ((0 : Int32).toNatClampNeg + (x1 + (1 : Int32)).toNatClampNeg ≤ cj_N (cj_newA (cj_sF σ16 401 x0 ((cj_F σ16 401 x0) + (1 : Int32))) q23 21 (x1 + (1 : Int32)).toNatClampNeg) q23 ∧ ((((cu + 1) + 0) + 1) + 1 ≤ 12 ∧ ((((su + 7) + 0) + 4) + 4 ≤ 90 ∧ (∀ q35, cj_T (cj_newA (cj_sF σ16 401 x0 ((cj_F σ16 401 x0) + (1 : Int32))) q23 21 (x1 + (1 : Int32)).toNatClampNeg) q35 = 0 → (((((cu + 1) + 0) + 1) + 1) + 2 ≤ 12 ∧ (((((su + 7) + 0) + 4) + 4) + 24 ≤ 90 ∧ cs_Tb_init E (cj_new (cj_mA (cj_newA (cj_sF σ16 401 x0 ((cj_F σ16 401 x0) + (1 : Int32))) q23 21 (x1 + (1 : Int32)).toNatClampNeg) q23 (va_cpy (cj_A (cj_newA (cj_sF σ16 401 x0 ((cj_F σ16 401 x0) + (1 : Int32))) q23 21 (x1 + (1 : Int32)).toNatClampNeg) a26) (cj_A (cj_newA (cj_sF σ16 401 x0 ((cj_F σ16 401 x0) + (1 : Int32))) q23 21 (x1 + (1 : Int32)).toNatClampNeg) q23) (0 : Int32).toNatClampNeg (0 : Int32).toNatClampNeg (x1 + (1 : Int32)).toNatClampNeg)) q35 6) q35 (some q23) (fun σ40 => ((((((cu + 1) + 0) + 1) + 1) + 2) ≤ 12 ∧ ((((((su + 7) + 0) + 4) + 4) + 24) ≤ 90 ∧ P (some q35) σ40)))))))))))))))))))))) ∧ (¬ r15 = (58 : Int32) → cg_Rd_letters_9 E σ16 x0 (x1 + (1 : Int32)) (x2 ||| ((1 : Int32) <<< (x4 &&& 31))) r15 ((cu + 1) + 0) ((su + 7) + 0) P X)))))))))) X))))) : cg_Rd_letters_48 E σ x0 x1 x2 x4 t0 t1 cu su P X := by
  intro d hd p e s m args below meth c hcx hex H locs ls hW hS hl
  have hx := hcx.1
  have hb := hcx.2.1
  have hown := hcx.2.2.2.2.2.1
  have hts := hcx.2.2.2.2.2.2.1
  obtain ⟨a1, e2, h⟩ := h
  refine cj_stk (st' := [.int t0, .ref a1]) (by rw [e2]; rfl) ?_
  obtain ⟨g3, h⟩ := h
  obtain ⟨g4, h⟩ := h
  obtain ⟨g7, h⟩ := h
  refine cj_yi (pc := 48) hcx hex g3 g4 (cj_runVx hcx hW hS 3 g7 (by decide) rfl [.int t0] h (Nat.le_trans (by decide) hd) (lw_V q389 q391 qs4 q126 q392) rfl yd_Rd_take (by decide) rfl rfl (Nat.le_of_ble_eq_true rfl) hl.1 g3 g4 dX5_letters_48) hS (fun r5 σ6 h H locs hW hS => ?_)
  refine lv_istore_n (pc := 51) (lv' := [(3, .int r5), (0, .ref x0), (1, .int x1), (2, .int x2), (4, .int x4)]) hx hb dX5_letters_51 rfl hl (by decide) rfl (fun ls hl => ?_)
  refine lv_iload_n (pc := 52) hx hb dX5_letters_52 rfl (lv_at hl 3 rfl) ?_
  refine lv_iconst (pc := 53) (v := (1 : Int32)) hx hb dX5_letters_53 (by decide) ?_
  refine lv_iload (pc := 54) hx hb dX5_letters_54 (lv_at hl 4 rfl) ?_
  refine lv_ishl (pc := 56) hx hb dX5_letters_56 ?_
  refine lv_ior (pc := 57) hx hb dX5_letters_57 ?_
  refine lv_istore_n (pc := 58) (lv' := [(2, .int (x2 ||| ((1 : Int32) <<< (x4 &&& 31)))), (3, .int r5), (0, .ref x0), (1, .int x1), (4, .int x4)]) hx hb dX5_letters_58 rfl hl (by decide) rfl (fun ls hl => ?_)
  refine lv_aload_n (pc := 59) hx hb dX5_letters_59 rfl (lv_at hl 2 rfl) ?_
  obtain ⟨g8, h⟩ := h
  refine cj_fld (pc := 60) hcx hW 3 g8 (by decide) rfl in_X5 0 (by decide) (by decide) q358 dX5_letters_60 (v := va_rf (cj_R σ6 400 x0)) rfl ?_
  refine lv_iload_n (pc := 63) hx hb dX5_letters_63 rfl (lv_at hl 3 rfl) ?_
  refine lv_iload (pc := 64) hx hb dX5_letters_64 (lv_at hl 4 rfl) ?_
  obtain ⟨a9, e10, h⟩ := h
  refine cj_stk (st' := [.int x4, .int x1, .ref a9]) (by rw [e10]; rfl) ?_
  obtain ⟨g11, h⟩ := h
  obtain ⟨g12, h⟩ := h
  refine cj_iast (pc := 66) hcx hW hS g11 g12 dX5_letters_66 (fun H locs hW hS => ?_)
  refine lv_iinc (pc := 67) (v := (x1 + (1 : Int32))) (lv' := [(1, .int (x1 + (1 : Int32))), (2, .int (x2 ||| ((1 : Int32) <<< (x4 &&& 31)))), (3, .int r5), (0, .ref x0), (4, .int x4)]) hx hb dX5_letters_67 hl (k := 3) rfl rfl (by decide) rfl (fun ls hl => ?_)
  refine lv_aload_n (pc := 70) hx hb dX5_letters_70 rfl (lv_at hl 3 rfl) ?_
  obtain ⟨g13, h⟩ := h
  obtain ⟨g14, h⟩ := h
  refine cj_xi (pc := 71) (cj_runV hcx hW hS 3 g8 (by decide) rfl [] h (Nat.le_trans (by decide) hd) (lw_V q380 q382 qs3 q126 q383) rfl yd_Rd_peek (by decide) rfl rfl (Nat.le_of_ble_eq_true rfl) hl.1 g13 g14 dX5_letters_71) hS (fun r15 σ16 h H locs hW hS => ?_)
  refine lv_istore_n (pc := 74) (lv' := [(3, .int r15), (1, .int (x1 + (1 : Int32))), (2, .int (x2 ||| ((1 : Int32) <<< (x4 &&& 31)))), (0, .ref x0), (4, .int x4)]) hx hb dX5_letters_74 rfl hl (by decide) rfl (fun ls hl => ?_)
  refine lv_iload_n (pc := 75) hx hb dX5_letters_75 rfl (lv_at hl 0 rfl) ?_
  refine lv_bipush (pc := 76) (v := (58 : Int32)) hx hb dX5_letters_76 (by decide) ?_
  refine lv_icmp_ne (pc := 78) (tgt := 9) hx hb dX5_letters_78 (by decide) (fun c17 => ?_) (fun c17 => ?_)
  · have h := h.2 c17
    exact h d hd p e s m args below meth c hcx hex H locs _ hW hS (lv_sub hl [3, 1, 2, 0] rfl)
  · have h := h.1 c17
    refine lv_aload_n (pc := 81) hx hb dX5_letters_81 rfl (lv_at hl 3 rfl) ?_
    refine lv_dup (pc := 82) hx hb dX5_letters_82 rfl ?_
    obtain ⟨g18, h⟩ := h
    refine cj_fld (pc := 83) hcx hW 3 g18 (by decide) rfl in_X5 1 (by decide) (by decide) q359 dX5_letters_83 (v := .int (cj_F σ16 401 x0)) rfl ?_
    refine lv_iconst (pc := 86) (v := (1 : Int32)) hx hb dX5_letters_86 (by decide) ?_
    refine lv_iadd (pc := 87) hx hb dX5_letters_87 ?_
    refine cj_put (pc := 88) (σ1 := (cj_sF σ16 401 x0 ((cj_F σ16 401 x0) + (1 : Int32)))) hcx hW hS 3 g18 (by decide) rfl in_X5 tyX5_ok nmX5 1 (by decide) (by decide) rfl rfl rfl (cj_pI rfl) q359 dX5_letters_88 (fun H locs hW hS => ?_)
    refine lv_iload_n (pc := 91) hx hb dX5_letters_91 rfl (lv_at hl 1 rfl) ?_
    obtain ⟨g19, h⟩ := h
    obtain ⟨g20, h⟩ := h
    obtain ⟨g21, h⟩ := h
    obtain ⟨g22, h⟩ := h
    refine cj_newiN (pc := 92) hcx hW hS g19 g20 (by decide) g21 g22 dX5_letters_92 (fun q23 H z24 hW hS => ?_)
    have h := h q23 z24
    refine lv_astore (pc := 94) (lv' := [(4, .ref q23), (3, .int r15), (1, .int (x1 + (1 : Int32))), (2, .int (x2 ||| ((1 : Int32) <<< (x4 &&& 31)))), (0, .ref x0)]) hx hb dX5_letters_94 hl (by decide) rfl (fun ls hl => ?_)
    refine lv_aload_n (pc := 96) hx hb dX5_letters_96 rfl (lv_at hl 4 rfl) ?_
    obtain ⟨g25, h⟩ := h
    refine cj_fld (pc := 97) hcx hW 3 g25 (by decide) rfl in_X5 0 (by decide) (by decide) q358 dX5_letters_97 (v := va_rf (cj_R (cj_newA (cj_sF σ16 401 x0 ((cj_F σ16 401 x0) + (1 : Int32))) q23 21 (x1 + (1 : Int32)).toNatClampNeg) 400 x0)) rfl ?_
    refine lv_iconst (pc := 100) (v := (0 : Int32)) hx hb dX5_letters_100 (by decide) ?_
    refine lv_aload (pc := 101) hx hb dX5_letters_101 (lv_at hl 0 rfl) ?_
    refine lv_iconst (pc := 103) (v := (0 : Int32)) hx hb dX5_letters_103 (by decide) ?_
    refine lv_iload_n (pc := 104) hx hb dX5_letters_104 rfl (lv_at hl 2 rfl) ?_
    obtain ⟨a26, e27, h⟩ := h
    refine cj_stk (st' := [.int (x1 + (1 : Int32)), .int (0 : Int32), .ref q23, .int (0 : Int32), .ref a26]) (by rw [e27]; rfl) ?_
    obtain ⟨g28, h⟩ := h
    obtain ⟨g29, h⟩ := h
    obtain ⟨g30, h⟩ := h
    obtain ⟨g31, h⟩ := h
    obtain ⟨g32, h⟩ := h
    refine cj_copyi (pc := 105) hcx hW hS hl.1 g29 g30 q458 (by decide) (by decide) g28 g31 g32 (Nat.le_add_left 1 _) (cj_lr (Nat.le_of_ble_eq_true rfl)) dX5_letters_105 (fun H locs hW hS => ?_)
    obtain ⟨g33, h⟩ := h
    obtain ⟨g34, h⟩ := h
    refine cj_newo (pc := 108) hcx hW hS 5 (by decide) rfl in_X7 tyX7_ok rfl rfl q461 q462 q131 g33 g34 dX5_letters_108 (fun q35 H z36 hW hS => ?_)
    have h := h q35 z36
    refine lv_dup (pc := 111) hx hb dX5_letters_111 rfl ?_
    refine lv_aload (pc := 112) hx hb dX5_letters_112 (lv_at hl 0 rfl) ?_
    obtain ⟨g37, h⟩ := h
    obtain ⟨g38, h⟩ := h
    refine cj_xv (pc := 114) (cj_runI hcx hW hS [va_rf (some q23)] h (Nat.le_trans (by decide) hd) q463 q464 q131 q465 rfl yd_Tb_init (by decide) rfl rfl (Nat.le_of_ble_eq_true rfl) hl.1 g37 g38 dX5_letters_114) hS (fun σ40 h H locs hW hS => ?_)
    obtain ⟨g41, h⟩ := h
    obtain ⟨g42, h⟩ := h
    exact vx_ret (cj_retq (pc := 117) (r := (some q35)) hcx hW hS (Or.inl ⟨_, rfl⟩) h g41 g42 dX5_letters_117)
set_option maxHeartbeats 4000000 in
set_option maxRecDepth 100000 in
theorem cb_Rd_letters {E : cj_E} {σ : cj_S} {x0 : Nat} {P : Option Nat → cj_S → Prop} {X : Nat → cj_S → Prop} (h : (cj_T σ x0 = 4 ∧ cs_Rd_peek E σ x0 (fun r1 σ2 => cg_Rd_letters_9 E σ2 x0 (0 : Int32) (0 : Int32) r1 0 0 P X))) : cs_Rd_letters E σ x0 P X :=
  cj_enterx (k := 4) (lv := [(0, .ref x0)]) (by decide) (Nat.le_of_ble_eq_true rfl) rfl (by
    intro d hd p e s m args below meth c hcx hex H locs ls hW hS hl
    have hx := hcx.1
    have hb := hcx.2.1
    have hown := hcx.2.2.2.2.2.1
    have hts := hcx.2.2.2.2.2.2.1
    refine lv_iconst (pc := 0) (v := (0 : Int32)) hx hb dX5_letters_0 (by decide) ?_
    refine lv_istore_n (pc := 1) (lv' := [(1, .int (0 : Int32)), (0, .ref x0)]) hx hb dX5_letters_1 rfl hl (by decide) rfl (fun ls hl => ?_)
    refine lv_iconst (pc := 2) (v := (0 : Int32)) hx hb dX5_letters_2 (by decide) ?_
    refine lv_istore_n (pc := 3) (lv' := [(2, .int (0 : Int32)), (1, .int (0 : Int32)), (0, .ref x0)]) hx hb dX5_letters_3 rfl hl (by decide) rfl (fun ls hl => ?_)
    refine lv_aload_n (pc := 4) hx hb dX5_letters_4 rfl (lv_at hl 2 rfl) ?_
    obtain ⟨g3, h⟩ := h
    refine cj_xi (pc := 5) (cj_runV hcx hW hS 3 g3 (by decide) rfl [] h (Nat.le_trans (by decide) hd) (lw_V q380 q382 qs3 q126 q383) rfl yd_Rd_peek (by decide) rfl rfl (Nat.le_of_ble_eq_true rfl) hl.1 (Nat.le_of_ble_eq_true rfl) (Nat.le_of_ble_eq_true rfl) dX5_letters_5) hS (fun r1 σ2 h H locs hW hS => ?_)
    refine lv_istore_n (pc := 8) (lv' := [(3, .int r1), (2, .int (0 : Int32)), (1, .int (0 : Int32)), (0, .ref x0)]) hx hb dX5_letters_8 rfl hl (by decide) rfl (fun ls hl => ?_)
    exact h d hd p e s m args below meth c hcx hex H locs _ hW hS (lv_sub hl [3, 2, 1, 0] rfl))
/-! Rd_number -/
set_option maxHeartbeats 4000000 in
set_option maxRecDepth 100000 in
theorem cb_Rd_number_38 {E : cj_E} {σ : cj_S} {x0 : Nat} {x1 : Int32} {x3 : Int32} {cu : Nat} {su : Nat} {P : Int32 → cj_S → Prop} {X : Nat → cj_S → Prop} (h : (cu ≤ 3 ∧ (su ≤ 21 ∧ (cj_T σ x0 = 4 ∧ cs_Rd_isDigit E σ x0 (fun r3 σ4 => ((r3 = 0 → ((x3 ≤ x1 → ((cu + 0) ≤ 3 ∧ ((su + 0) ≤ 21 ∧ P x3 σ4))) ∧ (¬ x3 ≤ x1 → ((cu + 0) + 1 ≤ 3 ∧ ((su + 0) + 7 ≤ 21 ∧ (∀ q12, cj_T σ4 q12 = 0 → (cj_T (cj_new σ4 q12 5) x0 = 4 ∧ (((cu + 0) + 1) ≤ 3 ∧ (((su + 0) + 7) ≤ 21 ∧ cs_Wr_init E (cj_new σ4 q12 5) q12 ((cj_F (cj_new σ4 q12 5) 401 x0) - (1 : Int32)) (fun σ18 => (cj_T σ18 q12 = 5 ∧ (X q12 σ18 ∧ ((((cu + 0) + 1) + 0) ≤ 3 ∧ ((((su + 0) + 7) + 0) ≤ 21 ∧ True)))))))))))))) ∧ (¬ r3 = 0 → ((cu + 0) + 1 ≤ 3 ∧ ((su + 0) + 7 ≤ 21 ∧ (∀ q25, cj_T σ4 q25 = 0 → (cj_T (cj_new σ4 q25 5) x0 = 4 ∧ (((cu + 0) + 1) ≤ 3 ∧ (((su + 0) + 7) ≤ 21 ∧ cs_Wr_init E (cj_new σ4 q25 5) q25 (cj_F (cj_new σ4 q25 5) 401 x0) (fun σ31 => (cj_T σ31 q25 = 5 ∧ (X q25 σ31 ∧ ((((cu + 0) + 1) + 0) ≤ 3 ∧ ((((su + 0) + 7) + 0) ≤ 21 ∧ True)))))))))))))))))) : cg_Rd_number_38 E σ x0 x1 x3 cu su P X := by
  intro d hd p e s m args below meth c hcx hex H locs ls hW hS hl
  have hx := hcx.1
  have hb := hcx.2.1
  have hown := hcx.2.2.2.2.2.1
  have hts := hcx.2.2.2.2.2.2.1
  refine lv_aload_n (pc := 38) hx hb dX5_number_38 rfl (lv_at hl 0 rfl) ?_
  obtain ⟨g1, h⟩ := h
  obtain ⟨g2, h⟩ := h
  obtain ⟨g5, h⟩ := h
  refine cj_xi (pc := 39) (cj_runV hcx hW hS 3 g5 (by decide) rfl [] h (Nat.le_trans (by decide) hd) (lw_V q502 q504 qs6 q126 q505) rfl yd_Rd_isDigit (by decide) rfl rfl (Nat.le_of_ble_eq_true rfl) hl.1 g1 g2 dX5_number_39) hS (fun r3 σ4 h H locs hW hS => ?_)
  refine lv_if_eq (pc := 42) (tgt := 57) hx hb dX5_number_42 (by decide) (fun c6 => ?_) (fun c6 => ?_)
  · have h := h.1 c6
    refine lv_iload_n (pc := 57) hx hb dX5_number_57 rfl (lv_at hl 2 rfl) ?_
    refine lv_iload_n (pc := 58) hx hb dX5_number_58 rfl (lv_at hl 1 rfl) ?_
    refine lv_icmp_le (pc := 59) (tgt := 76) hx hb dX5_number_59 (by decide) (fun c7 => ?_) (fun c7 => ?_)
    · have h := h.1 c7
      refine lv_iload_n (pc := 76) hx hb dX5_number_76 rfl (lv_at hl 2 rfl) ?_
      obtain ⟨g8, h⟩ := h
      obtain ⟨g9, h⟩ := h
      exact vx_ret (cj_reti (pc := 77) hcx hW hS rfl h g8 g9 dX5_number_77)
    · have h := h.2 c7
      obtain ⟨g10, h⟩ := h
      obtain ⟨g11, h⟩ := h
      refine cj_newo (pc := 62) hcx hW hS 4 (by decide) rfl in_X6 tyX6_ok rfl rfl q393 q394 q129 g10 g11 dX5_number_62 (fun q12 H z13 hW hS => ?_)
      have h := h q12 z13
      refine lv_dup (pc := 65) hx hb dX5_number_65 rfl ?_
      refine lv_aload_n (pc := 66) hx hb dX5_number_66 rfl (lv_at hl 0 rfl) ?_
      obtain ⟨g14, h⟩ := h
      refine cj_fld (pc := 67) hcx hW 3 g14 (by decide) rfl in_X5 1 (by decide) (by decide) q359 dX5_number_67 (v := .int (cj_F (cj_new σ4 q12 5) 401 x0)) rfl ?_
      refine lv_iconst (pc := 70) (v := (1 : Int32)) hx hb dX5_number_70 (by decide) ?_
      refine lv_isub (pc := 71) hx hb dX5_number_71 ?_
      obtain ⟨g15, h⟩ := h
      obtain ⟨g16, h⟩ := h
      refine cj_xv (pc := 72) (cj_runI hcx hW hS [.int ((cj_F (cj_new σ4 q12 5) 401 x0) - (1 : Int32))] h (Nat.le_trans (by decide) hd) q432 q433 q129 q434 rfl yd_Wr_init (by decide) rfl rfl (Nat.le_of_ble_eq_true rfl) hl.1 g15 g16 dX5_number_72) hS (fun σ18 h H locs hW hS => ?_)
      obtain ⟨g19, h⟩ := h
      obtain ⟨g20, h⟩ := h
      obtain ⟨g21, h⟩ := h
      obtain ⟨g22, h⟩ := h
      exact cj_athrow (pc := 75) hcx hex hW hS g19 g20 g21 g22 dX5_number_75
  · have h := h.2 c6
    obtain ⟨g23, h⟩ := h
    obtain ⟨g24, h⟩ := h
    refine cj_newo (pc := 45) hcx hW hS 4 (by decide) rfl in_X6 tyX6_ok rfl rfl q393 q394 q129 g23 g24 dX5_number_45 (fun q25 H z26 hW hS => ?_)
    have h := h q25 z26
    refine lv_dup (pc := 48) hx hb dX5_number_48 rfl ?_
    refine lv_aload_n (pc := 49) hx hb dX5_number_49 rfl (lv_at hl 0 rfl) ?_
    obtain ⟨g27, h⟩ := h
    refine cj_fld (pc := 50) hcx hW 3 g27 (by decide) rfl in_X5 1 (by decide) (by decide) q359 dX5_number_50 (v := .int (cj_F (cj_new σ4 q25 5) 401 x0)) rfl ?_
    obtain ⟨g28, h⟩ := h
    obtain ⟨g29, h⟩ := h
    refine cj_xv (pc := 53) (cj_runI hcx hW hS [.int (cj_F (cj_new σ4 q25 5) 401 x0)] h (Nat.le_trans (by decide) hd) q432 q433 q129 q434 rfl yd_Wr_init (by decide) rfl rfl (Nat.le_of_ble_eq_true rfl) hl.1 g28 g29 dX5_number_53) hS (fun σ31 h H locs hW hS => ?_)
    obtain ⟨g32, h⟩ := h
    obtain ⟨g33, h⟩ := h
    obtain ⟨g34, h⟩ := h
    obtain ⟨g35, h⟩ := h
    exact cj_athrow (pc := 56) hcx hex hW hS g32 g33 g34 g35 dX5_number_56
set_option maxHeartbeats 4000000 in
set_option maxRecDepth 100000 in
theorem cb_Rd_number {E : cj_E} {σ : cj_S} {x0 : Nat} {x1 : Int32} {P : Int32 → cj_S → Prop} {X : Nat → cj_S → Prop} (h : (cj_T σ x0 = 4 ∧ cs_Rd_peek E σ x0 (fun r1 σ2 => (cj_T σ2 x0 = 4 ∧ cs_Rd_isDigit E σ2 x0 (fun r4 σ5 => (cj_T σ5 x0 = 4 ∧ cs_Rd_take E σ5 x0 r4 (fun r7 σ8 => (cj_T σ8 x0 = 4 ∧ cs_Rd_isDigit E σ8 x0 (fun r10 σ11 => ((r10 = 0 → cg_Rd_number_38 E σ11 x0 x1 (r7 - (48 : Int32)) 1 7 P X) ∧ (¬ r10 = 0 → (cj_T σ11 x0 = 4 ∧ cs_Rd_take E σ11 x0 (1 : Int32) (fun r14 σ15 => cg_Rd_number_38 E σ15 x0 x1 ((((10 : Int32) * (r7 - (48 : Int32))) + r14) - (48 : Int32)) 2 14 P X) X)))))) X)))))) : cs_Rd_number E σ x0 x1 P X :=
  cj_enterx (k := 4) (lv := [(0, .ref x0), (1, .int x1)]) (by decide) (Nat.le_of_ble_eq_true rfl) rfl (by
    intro d hd p e s m args below meth c hcx hex H locs ls hW hS hl
    have hx := hcx.1
    have hb := hcx.2.1
    have hown := hcx.2.2.2.2.2.1
    have hts := hcx.2.2.2.2.2.2.1
    refine lv_aload_n (pc := 0) hx hb dX5_number_0 rfl (lv_at hl 0 rfl) ?_
    obtain ⟨g3, h⟩ := h
    refine cj_xi (pc := 1) (cj_runV hcx hW hS 3 g3 (by decide) rfl [] h (Nat.le_trans (by decide) hd) (lw_V q380 q382 qs3 q126 q383) rfl yd_Rd_peek (by decide) rfl rfl (Nat.le_of_ble_eq_true rfl) hl.1 (Nat.le_of_ble_eq_true rfl) (Nat.le_of_ble_eq_true rfl) dX5_number_1) hS (fun r1 σ2 h H locs hW hS => ?_)
    refine lv_istore_n (pc := 4) (lv' := [(2, .int r1), (0, .ref x0), (1, .int x1)]) hx hb dX5_number_4 rfl hl (by decide) rfl (fun ls hl => ?_)
    refine lv_aload_n (pc := 5) hx hb dX5_number_5 rfl (lv_at hl 1 rfl) ?_
    refine lv_aload_n (pc := 6) hx hb dX5_number_6 rfl (lv_at hl 1 rfl) ?_
    obtain ⟨g6, h⟩ := h
    refine cj_xi (pc := 7) (cj_runV hcx hW hS 3 g6 (by decide) rfl [] h (Nat.le_trans (by decide) hd) (lw_V q502 q504 qs6 q126 q505) rfl yd_Rd_isDigit (by decide) rfl rfl (Nat.le_of_ble_eq_true rfl) hl.1 (Nat.le_of_ble_eq_true rfl) (Nat.le_of_ble_eq_true rfl) dX5_number_7) hS (fun r4 σ5 h H locs hW hS => ?_)
    obtain ⟨g9, h⟩ := h
    refine cj_yi (pc := 10) hcx hex (Nat.le_of_ble_eq_true rfl) (Nat.le_of_ble_eq_true rfl) (cj_runVx hcx hW hS 3 g9 (by decide) rfl [.int r4] h (Nat.le_trans (by decide) hd) (lw_V q389 q391 qs4 q126 q392) rfl yd_Rd_take (by decide) rfl rfl (Nat.le_of_ble_eq_true rfl) hl.1 (Nat.le_of_ble_eq_true rfl) (Nat.le_of_ble_eq_true rfl) dX5_number_10) hS (fun r7 σ8 h H locs hW hS => ?_)
    refine lv_bipush (pc := 13) (v := (48 : Int32)) hx hb dX5_number_13 (by decide) ?_
    refine lv_isub (pc := 15) hx hb dX5_number_15 ?_
    refine lv_istore_n (pc := 16) (lv' := [(3, .int (r7 - (48 : Int32))), (2, .int r1), (0, .ref x0), (1, .int x1)]) hx hb dX5_number_16 rfl hl (by decide) rfl (fun ls hl => ?_)
    refine lv_aload_n (pc := 17) hx hb dX5_number_17 rfl (lv_at hl 2 rfl) ?_
    obtain ⟨g12, h⟩ := h
    refine cj_xi (pc := 18) (cj_runV hcx hW hS 3 g12 (by decide) rfl [] h (Nat.le_trans (by decide) hd) (lw_V q502 q504 qs6 q126 q505) rfl yd_Rd_isDigit (by decide) rfl rfl (Nat.le_of_ble_eq_true rfl) hl.1 (Nat.le_of_ble_eq_true rfl) (Nat.le_of_ble_eq_true rfl) dX5_number_18) hS (fun r10 σ11 h H locs hW hS => ?_)
    refine lv_if_eq (pc := 21) (tgt := 38) hx hb dX5_number_21 (by decide) (fun c13 => ?_) (fun c13 => ?_)
    · have h := h.1 c13
      exact h d hd p e s m args below meth c hcx hex H locs _ hW hS (lv_sub hl [2, 3, 0] rfl)
    · have h := h.2 c13
      refine lv_bipush (pc := 24) (v := (10 : Int32)) hx hb dX5_number_24 (by decide) ?_
      refine lv_iload_n (pc := 26) hx hb dX5_number_26 rfl (lv_at hl 0 rfl) ?_
      refine lv_imul (pc := 27) hx hb dX5_number_27 ?_
      refine lv_aload_n (pc := 28) hx hb dX5_number_28 rfl (lv_at hl 2 rfl) ?_
      refine lv_iconst (pc := 29) (v := (1 : Int32)) hx hb dX5_number_29 (by decide) ?_
      obtain ⟨g16, h⟩ := h
      refine cj_yi (pc := 30) hcx hex (Nat.le_of_ble_eq_true rfl) (Nat.le_of_ble_eq_true rfl) (cj_runVx hcx hW hS 3 g16 (by decide) rfl [.int (1 : Int32)] h (Nat.le_trans (by decide) hd) (lw_V q389 q391 qs4 q126 q392) rfl yd_Rd_take (by decide) rfl rfl (Nat.le_of_ble_eq_true rfl) hl.1 (Nat.le_of_ble_eq_true rfl) (Nat.le_of_ble_eq_true rfl) dX5_number_30) hS (fun r14 σ15 h H locs hW hS => ?_)
      refine lv_iadd (pc := 33) hx hb dX5_number_33 ?_
      refine lv_bipush (pc := 34) (v := (48 : Int32)) hx hb dX5_number_34 (by decide) ?_
      refine lv_isub (pc := 36) hx hb dX5_number_36 ?_
      refine lv_istore_n (pc := 37) (lv' := [(3, .int ((((10 : Int32) * (r7 - (48 : Int32))) + r14) - (48 : Int32))), (2, .int r1), (0, .ref x0), (1, .int x1)]) hx hb dX5_number_37 rfl hl (by decide) rfl (fun ls hl => ?_)
      exact h d hd p e s m args below meth c hcx hex H locs _ hW hS (lv_sub hl [2, 3, 0] rfl))
/-! Rd_sign -/
set_option maxHeartbeats 4000000 in
set_option maxRecDepth 100000 in
theorem cb_Rd_sign {E : cj_E} {σ : cj_S} {x0 : Nat} {x1 : Int32} {P : cj_S → Prop} {X : Nat → cj_S → Prop} (h : (cj_T σ x0 = 4 ∧ cs_Rd_isNext E σ x0 x1 (fun r1 σ2 => (cj_T σ2 x0 = 4 ∧ cs_Rd_take E σ2 x0 r1 (fun r4 σ5 => P σ5) X)))) : cs_Rd_sign E σ x0 x1 P X :=
  cj_enterx (k := 4) (lv := [(0, .ref x0), (1, .int x1)]) (by decide) (Nat.le_of_ble_eq_true rfl) rfl (by
    intro d hd p e s m args below meth c hcx hex H locs ls hW hS hl
    have hx := hcx.1
    have hb := hcx.2.1
    have hown := hcx.2.2.2.2.2.1
    have hts := hcx.2.2.2.2.2.2.1
    refine lv_aload_n (pc := 0) hx hb dX5_sign_0 rfl (lv_at hl 0 rfl) ?_
    refine lv_iload_n (pc := 1) hx hb dX5_sign_1 rfl (lv_at hl 1 rfl) ?_
    obtain ⟨g3, h⟩ := h
    refine cj_xi (pc := 2) (cj_runV hcx hW hS 3 g3 (by decide) rfl [.int x1] h (Nat.le_trans (by decide) hd) (lw_V q514 q516 qs9 q126 q517) rfl yd_Rd_isNext (by decide) rfl rfl (Nat.le_of_ble_eq_true rfl) hl.1 (Nat.le_of_ble_eq_true rfl) (Nat.le_of_ble_eq_true rfl) dX5_sign_2) hS (fun r1 σ2 h H locs hW hS => ?_)
    refine lv_istore_n (pc := 5) (lv' := [(2, .int r1), (0, .ref x0), (1, .int x1)]) hx hb dX5_sign_5 rfl hl (by decide) rfl (fun ls hl => ?_)
    refine lv_aload_n (pc := 6) hx hb dX5_sign_6 rfl (lv_at hl 1 rfl) ?_
    refine lv_iload_n (pc := 7) hx hb dX5_sign_7 rfl (lv_at hl 0 rfl) ?_
    obtain ⟨g6, h⟩ := h
    refine cj_yi (pc := 8) hcx hex (Nat.le_of_ble_eq_true rfl) (Nat.le_of_ble_eq_true rfl) (cj_runVx hcx hW hS 3 g6 (by decide) rfl [.int r1] h (Nat.le_trans (by decide) hd) (lw_V q389 q391 qs4 q126 q392) rfl yd_Rd_take (by decide) rfl rfl (Nat.le_of_ble_eq_true rfl) hl.1 (Nat.le_of_ble_eq_true rfl) (Nat.le_of_ble_eq_true rfl) dX5_sign_8) hS (fun r4 σ5 h H locs hW hS => ?_)
    refine lv_istore_n (pc := 11) (lv' := [(3, .int r4), (2, .int r1), (0, .ref x0), (1, .int x1)]) hx hb dX5_sign_11 rfl hl (by decide) rfl (fun ls hl => ?_)
    exact vx_ret (cj_retv (pc := 12) hcx hW hS h (Nat.le_of_ble_eq_true rfl) (Nat.le_of_ble_eq_true rfl) dX5_sign_12))
/-! Rd_row -/
set_option maxHeartbeats 4000000 in
set_option maxRecDepth 100000 in
theorem cb_Rd_row_16 {E : cj_E} {σ : cj_S} {x0 : Nat} {x1 : Option Nat} {x2 : Int32} {cu : Nat} {su : Nat} {P : cj_S → Prop} {X : Nat → cj_S → Prop} (h : (∃ a1, x1 = some a1 ∧ (cj_T σ a1 = 6 ∧ (∃ a4, (cj_R σ 600 a1) = some a4 ∧ (cj_T σ a4 = 21 ∧ (((nI (cj_N σ a4)) ≤ x2 → (cj_T σ x0 = 4 ∧ (∃ a9, (cj_R σ 400 x0) = some a9 ∧ (cj_T σ a9 = 21 ∧ (vp_in (0 : Int32) (cj_N σ a9) ∧ (vp_in (1 : Int32) (cj_N σ a9) ∧ (vp_in (2 : Int32) (cj_N σ a9) ∧ (cu + 3 ≤ 20 ∧ (su + 16 ≤ 140 ∧ cs_Rw_of E σ (cj_A σ a9 (0 : Int32).toNatClampNeg) (cj_A σ a9 (1 : Int32).toNatClampNeg) (cj_A σ a9 (2 : Int32).toNatClampNeg) (fun r17 σ18 => ((cu + 3) ≤ 20 ∧ ((su + 16) ≤ 140 ∧ (cj_T σ18 a1 = 6 ∧ cs_Tb_spotOf E σ18 a1 r17 (fun r21 σ22 => ((r21 = (-1 : Int32) → (((cu + 3) + 0) ≤ 20 ∧ (((su + 16) + 0) ≤ 140 ∧ (cj_T σ22 a1 = 6 ∧ cs_Tb_takes E σ22 a1 r17 (fun σ30 => ((((cu + 3) + 0) + 0) ≤ 20 ∧ ((((su + 16) + 0) + 0) ≤ 140 ∧ P σ30))))))) ∧ (¬ r21 = (-1 : Int32) → (((cu + 3) + 0) ≤ 20 ∧ (((su + 16) + 0) ≤ 140 ∧ P σ22)))))))))))))))))) ∧ (¬ (nI (cj_N σ a4)) ≤ x2 → ((x2 ≤ 0 → (cj_T σ x0 = 4 ∧ (cu + 3 ≤ 20 ∧ (su + 21 ≤ 140 ∧ cs_Rd_number E σ x0 (99 : Int32) (fun r38 σ39 => (∃ a40, (cj_R σ 400 x0) = some a40 ∧ (cj_T σ39 a40 = 21 ∧ (vp_in x2 (cj_N σ39 a40) ∧ cg_Rd_row_16 E (cj_sA σ39 a40 x2.toNatClampNeg r38) x0 x1 (x2 + (1 : Int32)) (cu + 3) (su + 21) P X)))) X)))) ∧ (¬ x2 ≤ 0 → (cu + 1 ≤ 20 ∧ (su + 7 ≤ 140 ∧ (cj_T σ x0 = 4 ∧ cs_Rd_sign E σ x0 (44 : Int32) (fun σ47 => (cj_T σ47 x0 = 4 ∧ ((cu + 1) + 3 ≤ 20 ∧ ((su + 7) + 21 ≤ 140 ∧ cs_Rd_number E σ47 x0 (99 : Int32) (fun r52 σ53 => (∃ a54, (cj_R σ47 400 x0) = some a54 ∧ (cj_T σ53 a54 = 21 ∧ (vp_in x2 (cj_N σ53 a54) ∧ cg_Rd_row_16 E (cj_sA σ53 a54 x2.toNatClampNeg r52) x0 x1 (x2 + (1 : Int32)) ((cu + 1) + 3) ((su + 7) + 21) P X)))) X)))) X)))))))))))) : cg_Rd_row_16 E σ x0 x1 x2 cu su P X := by
  intro d hd p e s m args below meth c hcx hex H locs ls hW hS hl
  have hx := hcx.1
  have hb := hcx.2.1
  have hown := hcx.2.2.2.2.2.1
  have hts := hcx.2.2.2.2.2.2.1
  refine lv_iload_n (pc := 16) hx hb dX5_row_16 rfl (lv_at hl 2 rfl) ?_
  refine cj_aload_n (pc := 17) hx hb dX5_row_17 rfl (lv_at hl 1 rfl) ?_
  obtain ⟨a1, e2, h⟩ := h
  refine cj_stk (st' := [.ref a1, .int x2]) (by rw [e2]; rfl) ?_
  obtain ⟨g3, h⟩ := h
  refine cj_fldN (pc := 18) hcx hW 5 g3 (by decide) rfl in_X7 0 (by decide) (by decide) (List.mem_of_getElem? (i := 24) rfl) dX5_row_18 (v := va_rf (cj_R σ 600 a1)) rfl ?_
  obtain ⟨a4, e5, h⟩ := h
  refine cj_stk (st' := [.ref a4, .int x2]) (by rw [e5]; rfl) ?_
  obtain ⟨g6, h⟩ := h
  refine cj_alen (pc := 21) hcx hW g6 (by unfold cj_at_ cj_rt; decide) dX5_row_21 ?_
  refine lv_icmp_ge (pc := 22) (tgt := 53) hx hb dX5_row_22 (by decide) (fun c7 => ?_) (fun c7 => ?_)
  · have h := h.1 c7
    refine lv_aload_n (pc := 53) hx hb dX5_row_53 rfl (lv_at hl 0 rfl) ?_
    obtain ⟨g8, h⟩ := h
    refine cj_fld (pc := 54) hcx hW 3 g8 (by decide) rfl in_X5 0 (by decide) (by decide) q358 dX5_row_54 (v := va_rf (cj_R σ 400 x0)) rfl ?_
    refine lv_iconst (pc := 57) (v := (0 : Int32)) hx hb dX5_row_57 (by decide) ?_
    obtain ⟨a9, e10, h⟩ := h
    refine cj_stk (st' := [.int (0 : Int32), .ref a9]) (by rw [e10]; rfl) ?_
    obtain ⟨g11, h⟩ := h
    obtain ⟨g12, h⟩ := h
    refine cj_iald (pc := 58) hcx hW g11 g12 dX5_row_58 ?_
    refine lv_aload_n (pc := 59) hx hb dX5_row_59 rfl (lv_at hl 0 rfl) ?_
    refine cj_fld (pc := 60) hcx hW 3 g8 (by decide) rfl in_X5 0 (by decide) (by decide) q358 dX5_row_60 (v := va_rf (cj_R σ 400 x0)) rfl ?_
    refine lv_iconst (pc := 63) (v := (1 : Int32)) hx hb dX5_row_63 (by decide) ?_
    refine cj_stk (st' := [.int (1 : Int32), .ref a9, .int (cj_A σ a9 (0 : Int32).toNatClampNeg)]) (by rw [e10]; rfl) ?_
    obtain ⟨g13, h⟩ := h
    refine cj_iald (pc := 64) hcx hW g11 g13 dX5_row_64 ?_
    refine lv_aload_n (pc := 65) hx hb dX5_row_65 rfl (lv_at hl 0 rfl) ?_
    refine cj_fld (pc := 66) hcx hW 3 g8 (by decide) rfl in_X5 0 (by decide) (by decide) q358 dX5_row_66 (v := va_rf (cj_R σ 400 x0)) rfl ?_
    refine lv_iconst (pc := 69) (v := (2 : Int32)) hx hb dX5_row_69 (by decide) ?_
    refine cj_stk (st' := [.int (2 : Int32), .ref a9, .int (cj_A σ a9 (1 : Int32).toNatClampNeg), .int (cj_A σ a9 (0 : Int32).toNatClampNeg)]) (by rw [e10]; rfl) ?_
    obtain ⟨g14, h⟩ := h
    refine cj_iald (pc := 70) hcx hW g11 g14 dX5_row_70 ?_
    obtain ⟨g15, h⟩ := h
    obtain ⟨g16, h⟩ := h
    refine cj_xq (pc := 71) (cj_runS hcx hW hS [.int (cj_A σ a9 (0 : Int32).toNatClampNeg), .int (cj_A σ a9 (1 : Int32).toNatClampNeg), .int (cj_A σ a9 (2 : Int32).toNatClampNeg)] h (Nat.le_trans (by decide) hd) (lw_S q522 q523 q132 q524) yd_Rw_of (by decide) rfl rfl (Nat.le_of_ble_eq_true rfl) hl.1 g15 g16 dX5_row_71) hS (fun r17 σ18 h H locs hW hS => ?_)
    refine cj_astore_n (pc := 74) (lv' := [(2, va_rf r17), (0, .ref x0), (1, va_rf x1)]) hx hb dX5_row_74 rfl hl (by decide) (by generalize x1 = z; cases z <;> rfl) (fun ls hl => ?_)
    refine cj_aload_n (pc := 75) hx hb dX5_row_75 rfl (lv_at hl 2 rfl) ?_
    refine cj_aload_n (pc := 76) hx hb dX5_row_76 rfl (lv_at hl 0 rfl) ?_
    refine cj_stk (st' := [va_rf r17, .ref a1]) (by rw [e2]; rfl) ?_
    obtain ⟨g19, h⟩ := h
    obtain ⟨g20, h⟩ := h
    obtain ⟨g23, h⟩ := h
    refine cj_xi (pc := 77) (cj_runV hcx hW hS 5 g23 (by decide) rfl [va_rf r17] h (Nat.le_trans (by decide) hd) (lw_V q566 q567 q568 q131 q569) rfl yd_Tb_spotOf (by decide) rfl rfl (Nat.le_of_ble_eq_true rfl) hl.1 g19 g20 dX5_row_77) hS (fun r21 σ22 h H locs hW hS => ?_)
    refine lv_iconst (pc := 80) (v := (-1 : Int32)) hx hb dX5_row_80 (by decide) ?_
    refine lv_icmp_ne (pc := 81) (tgt := 89) hx hb dX5_row_81 (by decide) (fun c24 => ?_) (fun c24 => ?_)
    · have h := h.2 c24
      obtain ⟨g25, h⟩ := h
      obtain ⟨g26, h⟩ := h
      exact vx_ret (cj_retv (pc := 89) hcx hW hS h g25 g26 dX5_row_89)
    · have h := h.1 c24
      refine cj_aload_n (pc := 84) hx hb dX5_row_84 rfl (lv_at hl 2 rfl) ?_
      refine cj_aload_n (pc := 85) hx hb dX5_row_85 rfl (lv_at hl 0 rfl) ?_
      refine cj_stk (st' := [va_rf r17, .ref a1]) (by rw [e2]; rfl) ?_
      obtain ⟨g27, h⟩ := h
      obtain ⟨g28, h⟩ := h
      obtain ⟨g31, h⟩ := h
      refine cj_xv (pc := 86) (cj_runV hcx hW hS 5 g31 (by decide) rfl [va_rf r17] h (Nat.le_trans (by decide) hd) (lw_V q601 q602 q603 q131 q604) rfl yd_Tb_takes (by decide) rfl rfl (Nat.le_of_ble_eq_true rfl) hl.1 g27 g28 dX5_row_86) hS (fun σ30 h H locs hW hS => ?_)
      obtain ⟨g32, h⟩ := h
      obtain ⟨g33, h⟩ := h
      exact vx_ret (cj_retv (pc := 89) hcx hW hS h g32 g33 dX5_row_89)
  · have h := h.2 c7
    refine lv_iload_n (pc := 25) hx hb dX5_row_25 rfl (lv_at hl 2 rfl) ?_
    refine lv_if_le (pc := 26) (tgt := 35) hx hb dX5_row_26 (by decide) (fun c34 => ?_) (fun c34 => ?_)
    · have h := h.1 c34
      refine lv_aload_n (pc := 35) hx hb dX5_row_35 rfl (lv_at hl 0 rfl) ?_
      obtain ⟨g35, h⟩ := h
      refine cj_fld (pc := 36) hcx hW 3 g35 (by decide) rfl in_X5 0 (by decide) (by decide) q358 dX5_row_36 (v := va_rf (cj_R σ 400 x0)) rfl ?_
      refine lv_iload_n (pc := 39) hx hb dX5_row_39 rfl (lv_at hl 2 rfl) ?_
      refine lv_aload_n (pc := 40) hx hb dX5_row_40 rfl (lv_at hl 0 rfl) ?_
      refine lv_bipush (pc := 41) (v := (99 : Int32)) hx hb dX5_row_41 (by decide) ?_
      obtain ⟨g36, h⟩ := h
      obtain ⟨g37, h⟩ := h
      refine cj_yi (pc := 43) hcx hex g36 g37 (cj_runVx hcx hW hS 3 g35 (by decide) rfl [.int (99 : Int32)] h (Nat.le_trans (by decide) hd) (lw_V q518 q520 qs10 q126 q521) rfl yd_Rd_number (by decide) rfl rfl (by generalize (cj_R σ 400 x0) = z0; cases z0 <;> exact Nat.le_of_ble_eq_true rfl) hl.1 g36 g37 dX5_row_43) hS (fun r38 σ39 h H locs hW hS => ?_)
      obtain ⟨a40, e41, h⟩ := h
      refine cj_stk (st' := [.int r38, .int x2, .ref a40]) (by rw [e41]; rfl) ?_
      obtain ⟨g42, h⟩ := h
      obtain ⟨g43, h⟩ := h
      refine cj_iast (pc := 46) hcx hW hS g42 g43 dX5_row_46 (fun H locs hW hS => ?_)
      refine lv_iinc (pc := 47) (v := (x2 + (1 : Int32))) (lv' := [(2, .int (x2 + (1 : Int32))), (0, .ref x0), (1, va_rf x1)]) hx hb dX5_row_47 hl (k := 2) rfl rfl (by decide) (by generalize x1 = z; cases z <;> rfl) (fun ls hl => ?_)
      refine lv_goto (pc := 50) (tgt := 16) hx hb dX5_row_50 (by decide) ?_
      exact h d hd p e s m args below meth c hcx hex H locs _ hW hS (lv_sub hl [1, 2, 0] rfl)
    · have h := h.2 c34
      refine lv_aload_n (pc := 29) hx hb dX5_row_29 rfl (lv_at hl 0 rfl) ?_
      refine lv_bipush (pc := 30) (v := (44 : Int32)) hx hb dX5_row_30 (by decide) ?_
      obtain ⟨g44, h⟩ := h
      obtain ⟨g45, h⟩ := h
      obtain ⟨g48, h⟩ := h
      refine cj_yv (pc := 32) hcx hex g44 g45 (cj_runVx hcx hW hS 3 g48 (by decide) rfl [.int (44 : Int32)] h (Nat.le_trans (by decide) hd) (lw_V q510 q512 qs8 q126 q513) rfl yd_Rd_sign (by decide) rfl rfl (Nat.le_of_ble_eq_true rfl) hl.1 g44 g45 dX5_row_32) hS (fun σ47 h H locs hW hS => ?_)
      refine lv_aload_n (pc := 35) hx hb dX5_row_35 rfl (lv_at hl 0 rfl) ?_
      obtain ⟨g49, h⟩ := h
      refine cj_fld (pc := 36) hcx hW 3 g49 (by decide) rfl in_X5 0 (by decide) (by decide) q358 dX5_row_36 (v := va_rf (cj_R σ47 400 x0)) rfl ?_
      refine lv_iload_n (pc := 39) hx hb dX5_row_39 rfl (lv_at hl 2 rfl) ?_
      refine lv_aload_n (pc := 40) hx hb dX5_row_40 rfl (lv_at hl 0 rfl) ?_
      refine lv_bipush (pc := 41) (v := (99 : Int32)) hx hb dX5_row_41 (by decide) ?_
      obtain ⟨g50, h⟩ := h
      obtain ⟨g51, h⟩ := h
      refine cj_yi (pc := 43) hcx hex g50 g51 (cj_runVx hcx hW hS 3 g49 (by decide) rfl [.int (99 : Int32)] h (Nat.le_trans (by decide) hd) (lw_V q518 q520 qs10 q126 q521) rfl yd_Rd_number (by decide) rfl rfl (by generalize (cj_R σ47 400 x0) = z0; cases z0 <;> exact Nat.le_of_ble_eq_true rfl) hl.1 g50 g51 dX5_row_43) hS (fun r52 σ53 h H locs hW hS => ?_)
      obtain ⟨a54, e55, h⟩ := h
      refine cj_stk (st' := [.int r52, .int x2, .ref a54]) (by rw [e55]; rfl) ?_
      obtain ⟨g56, h⟩ := h
      obtain ⟨g57, h⟩ := h
      refine cj_iast (pc := 46) hcx hW hS g56 g57 dX5_row_46 (fun H locs hW hS => ?_)
      refine lv_iinc (pc := 47) (v := (x2 + (1 : Int32))) (lv' := [(2, .int (x2 + (1 : Int32))), (0, .ref x0), (1, va_rf x1)]) hx hb dX5_row_47 hl (k := 2) rfl rfl (by decide) (by generalize x1 = z; cases z <;> rfl) (fun ls hl => ?_)
      refine lv_goto (pc := 50) (tgt := 16) hx hb dX5_row_50 (by decide) ?_
      exact h d hd p e s m args below meth c hcx hex H locs _ hW hS (lv_sub hl [1, 2, 0] rfl)
set_option maxHeartbeats 4000000 in
set_option maxRecDepth 100000 in
theorem cb_Rd_row {E : cj_E} {σ : cj_S} {x0 : Nat} {x1 : Option Nat} {P : cj_S → Prop} {X : Nat → cj_S → Prop} (h : (cj_T σ x0 = 4 ∧ (∃ a2, (cj_R σ 400 x0) = some a2 ∧ (cj_T σ a2 = 21 ∧ (vp_in (1 : Int32) (cj_N σ a2) ∧ (vp_in (2 : Int32) (cj_N σ a2) ∧ cg_Rd_row_16 E (cj_sA (cj_sA σ a2 (1 : Int32).toNatClampNeg (-1 : Int32)) a2 (2 : Int32).toNatClampNeg (-1 : Int32)) x0 x1 (0 : Int32) 0 0 P X)))))) : cs_Rd_row E σ x0 x1 P X :=
  cj_enterx (k := 5) (lv := [(0, .ref x0), (1, va_rf x1)]) (by decide) (by cases x1 <;> exact Nat.le_of_ble_eq_true rfl) (by cases x1 <;> rfl) (by
    intro d hd p e s m args below meth c hcx hex H locs ls hW hS hl
    have hx := hcx.1
    have hb := hcx.2.1
    have hown := hcx.2.2.2.2.2.1
    have hts := hcx.2.2.2.2.2.2.1
    refine lv_aload_n (pc := 0) hx hb dX5_row_0 rfl (lv_at hl 0 rfl) ?_
    obtain ⟨g1, h⟩ := h
    refine cj_fld (pc := 1) hcx hW 3 g1 (by decide) rfl in_X5 0 (by decide) (by decide) q358 dX5_row_1 (v := va_rf (cj_R σ 400 x0)) rfl ?_
    refine lv_iconst (pc := 4) (v := (1 : Int32)) hx hb dX5_row_4 (by decide) ?_
    refine lv_iconst (pc := 5) (v := (-1 : Int32)) hx hb dX5_row_5 (by decide) ?_
    obtain ⟨a2, e3, h⟩ := h
    refine cj_stk (st' := [.int (-1 : Int32), .int (1 : Int32), .ref a2]) (by rw [e3]; rfl) ?_
    obtain ⟨g4, h⟩ := h
    obtain ⟨g5, h⟩ := h
    refine cj_iast (pc := 6) hcx hW hS g4 g5 dX5_row_6 (fun H locs hW hS => ?_)
    refine lv_aload_n (pc := 7) hx hb dX5_row_7 rfl (lv_at hl 0 rfl) ?_
    refine cj_fld (pc := 8) hcx hW 3 g1 (by decide) rfl in_X5 0 (by decide) (by decide) q358 dX5_row_8 (v := va_rf (cj_R σ 400 x0)) rfl ?_
    refine lv_iconst (pc := 11) (v := (2 : Int32)) hx hb dX5_row_11 (by decide) ?_
    refine lv_iconst (pc := 12) (v := (-1 : Int32)) hx hb dX5_row_12 (by decide) ?_
    refine cj_stk (st' := [.int (-1 : Int32), .int (2 : Int32), .ref a2]) (by rw [e3]; rfl) ?_
    obtain ⟨g6, h⟩ := h
    refine cj_iast (pc := 13) hcx hW hS g4 g6 dX5_row_13 (fun H locs hW hS => ?_)
    refine lv_iconst (pc := 14) (v := (0 : Int32)) hx hb dX5_row_14 (by decide) ?_
    refine lv_istore_n (pc := 15) (lv' := [(2, .int (0 : Int32)), (0, .ref x0), (1, va_rf x1)]) hx hb dX5_row_15 rfl hl (by decide) (by generalize x1 = z; cases z <;> rfl) (fun ls hl => ?_)
    exact h d hd p e s m args below meth c hcx hex H locs _ hW hS (lv_sub hl [1, 2, 0] rfl))
/-! Rd_table -/
set_option maxHeartbeats 4000000 in
set_option maxRecDepth 100000 in
theorem cb_Rd_table_26 {E : cj_E} {σ : cj_S} {x0 : Nat} {x1 : Option Nat} {x3 : Int32} {cu : Nat} {su : Nat} {P : Option Nat → cj_S → Prop} {X : Nat → cj_S → Prop} (h : (cu ≤ 280 ∧ (su ≤ 1900 ∧ (cj_T σ x0 = 4 ∧ cs_Rd_isNext E σ x0 (47 : Int32) (fun r3 σ4 => ((r3 = 0 → ((cu + 0) ≤ 280 ∧ ((su + 0) ≤ 1900 ∧ P x1 σ4))) ∧ (¬ r3 = 0 → (((12 : Int32) ≤ x3 → cg_Rd_table_47 E σ4 x0 x1 x3 (0 : Int32) (some x0) (cu + 0) (su + 0) P X) ∧ (¬ (12 : Int32) ≤ x3 → cg_Rd_table_47 E σ4 x0 x1 x3 (1 : Int32) (some x0) (cu + 0) (su + 0) P X))))))))) : cg_Rd_table_26 E σ x0 x1 x3 cu su P X := by
  intro d hd p e s m args below meth c hcx hex H locs ls hW hS hl
  have hx := hcx.1
  have hb := hcx.2.1
  have hown := hcx.2.2.2.2.2.1
  have hts := hcx.2.2.2.2.2.2.1
  refine lv_aload_n (pc := 26) hx hb dX5_table_26 rfl (lv_at hl 0 rfl) ?_
  refine lv_bipush (pc := 27) (v := (47 : Int32)) hx hb dX5_table_27 (by decide) ?_
  obtain ⟨g1, h⟩ := h
  obtain ⟨g2, h⟩ := h
  obtain ⟨g5, h⟩ := h
  refine cj_xi (pc := 29) (cj_runV hcx hW hS 3 g5 (by decide) rfl [.int (47 : Int32)] h (Nat.le_trans (by decide) hd) (lw_V q514 q516 qs9 q126 q517) rfl yd_Rd_isNext (by decide) rfl rfl (Nat.le_of_ble_eq_true rfl) hl.1 g1 g2 dX5_table_29) hS (fun r3 σ4 h H locs hW hS => ?_)
  refine lv_if_eq (pc := 32) (tgt := 62) hx hb dX5_table_32 (by decide) (fun c6 => ?_) (fun c6 => ?_)
  · have h := h.1 c6
    refine cj_aload_n (pc := 62) hx hb dX5_table_62 rfl (lv_at hl 1 rfl) ?_
    obtain ⟨g7, h⟩ := h
    obtain ⟨g8, h⟩ := h
    exact vx_ret (cj_retq (pc := 63) (r := x1) hcx hW hS (Or.inl ⟨_, rfl⟩) h g7 g8 dX5_table_63)
  · have h := h.2 c6
    refine lv_aload_n (pc := 35) hx hb dX5_table_35 rfl (lv_at hl 0 rfl) ?_
    refine lv_iload_n (pc := 36) hx hb dX5_table_36 rfl (lv_at hl 2 rfl) ?_
    refine lv_bipush (pc := 37) (v := (12 : Int32)) hx hb dX5_table_37 (by decide) ?_
    refine lv_icmp_ge (pc := 39) (tgt := 46) hx hb dX5_table_39 (by decide) (fun c9 => ?_) (fun c9 => ?_)
    · have h := h.1 c9
      refine lv_iconst (pc := 46) (v := (0 : Int32)) hx hb dX5_table_46 (by decide) ?_
      exact h d hd p e s m args below meth c hcx hex H locs _ hW hS (lv_sub hl [0, 1, 2] rfl)
    · have h := h.2 c9
      refine lv_iconst (pc := 42) (v := (1 : Int32)) hx hb dX5_table_42 (by decide) ?_
      refine lv_goto (pc := 43) (tgt := 47) hx hb dX5_table_43 (by decide) ?_
      exact h d hd p e s m args below meth c hcx hex H locs _ hW hS (lv_sub hl [0, 1, 2] rfl)
set_option maxHeartbeats 4000000 in
set_option maxRecDepth 100000 in
theorem cb_Rd_table_47 {E : cj_E} {σ : cj_S} {x0 : Nat} {x1 : Option Nat} {x3 : Int32} {t0 : Int32} {t1 : Option Nat} {cu : Nat} {su : Nat} {P : Option Nat → cj_S → Prop} {X : Nat → cj_S → Prop} (h : (∃ a1, t1 = some a1 ∧ (cu + 1 ≤ 280 ∧ (su + 7 ≤ 1900 ∧ (cj_T σ a1 = 4 ∧ cs_Rd_take E σ a1 t0 (fun r5 σ6 => ((cu + 1) + 20 ≤ 280 ∧ ((su + 7) + 140 ≤ 1900 ∧ (cj_T σ6 x0 = 4 ∧ cs_Rd_row E σ6 x0 x1 (fun σ11 => cg_Rd_table_26 E σ11 x0 x1 (x3 + (1 : Int32)) ((cu + 1) + 20) ((su + 7) + 140) P X) X)))) X))))) : cg_Rd_table_47 E σ x0 x1 x3 t0 t1 cu su P X := by
  intro d hd p e s m args below meth c hcx hex H locs ls hW hS hl
  have hx := hcx.1
  have hb := hcx.2.1
  have hown := hcx.2.2.2.2.2.1
  have hts := hcx.2.2.2.2.2.2.1
  obtain ⟨a1, e2, h⟩ := h
  refine cj_stk (st' := [.int t0, .ref a1]) (by rw [e2]; rfl) ?_
  obtain ⟨g3, h⟩ := h
  obtain ⟨g4, h⟩ := h
  obtain ⟨g7, h⟩ := h
  refine cj_yi (pc := 47) hcx hex g3 g4 (cj_runVx hcx hW hS 3 g7 (by decide) rfl [.int t0] h (Nat.le_trans (by decide) hd) (lw_V q389 q391 qs4 q126 q392) rfl yd_Rd_take (by decide) rfl rfl (Nat.le_of_ble_eq_true rfl) hl.1 g3 g4 dX5_table_47) hS (fun r5 σ6 h H locs hW hS => ?_)
  refine lv_istore_n (pc := 50) (lv' := [(2, .int r5), (0, .ref x0), (1, va_rf x1), (3, .int x3)]) hx hb dX5_table_50 rfl hl (by decide) (by generalize x1 = z; cases z <;> rfl) (fun ls hl => ?_)
  refine lv_aload_n (pc := 51) hx hb dX5_table_51 rfl (lv_at hl 1 rfl) ?_
  refine cj_aload_n (pc := 52) hx hb dX5_table_52 rfl (lv_at hl 2 rfl) ?_
  obtain ⟨g8, h⟩ := h
  obtain ⟨g9, h⟩ := h
  obtain ⟨g12, h⟩ := h
  refine cj_yv (pc := 53) hcx hex g8 g9 (cj_runVx hcx hW hS 3 g12 (by decide) rfl [va_rf x1] h (Nat.le_trans (by decide) hd) (lw_V q506 q508 qs7 q126 q509) rfl yd_Rd_row (by decide) rfl rfl (Nat.le_of_ble_eq_true rfl) hl.1 g8 g9 dX5_table_53) hS (fun σ11 h H locs hW hS => ?_)
  refine lv_iinc (pc := 56) (v := (x3 + (1 : Int32))) (lv' := [(3, .int (x3 + (1 : Int32))), (2, .int r5), (0, .ref x0), (1, va_rf x1)]) hx hb dX5_table_56 hl (k := 3) rfl rfl (by decide) rfl (fun ls hl => ?_)
  refine lv_goto (pc := 59) (tgt := 26) hx hb dX5_table_59 (by decide) ?_
  exact h d hd p e s m args below meth c hcx hex H locs _ hW hS (lv_sub hl [2, 3, 0] rfl)
set_option maxHeartbeats 4000000 in
set_option maxRecDepth 100000 in
theorem cb_Rd_table {E : cj_E} {σ : cj_S} {x0 : Nat} {P : Option Nat → cj_S → Prop} {X : Nat → cj_S → Prop} (h : (cj_T σ x0 = 4 ∧ cs_Rd_letters E σ x0 (fun r1 σ2 => (cj_T σ2 x0 = 4 ∧ cs_Rd_peek E σ2 x0 (fun r4 σ5 => (cj_T σ5 x0 = 4 ∧ cs_Rd_isDigit E σ5 x0 (fun r7 σ8 => ((r7 = 0 → P r1 σ8) ∧ (¬ r7 = 0 → (cj_T σ8 x0 = 4 ∧ cs_Rd_row E σ8 x0 r1 (fun σ12 => cg_Rd_table_26 E σ12 x0 r1 (1 : Int32) 32 230 P X) X)))))))) X)) : cs_Rd_table E σ x0 P X :=
  cj_enterx (k := 6) (lv := [(0, .ref x0)]) (by decide) (Nat.le_of_ble_eq_true rfl) rfl (by
    intro d hd p e s m args below meth c hcx hex H locs ls hW hS hl
    have hx := hcx.1
    have hb := hcx.2.1
    have hown := hcx.2.2.2.2.2.1
    have hts := hcx.2.2.2.2.2.2.1
    refine lv_aload_n (pc := 0) hx hb dX5_table_0 rfl (lv_at hl 0 rfl) ?_
    obtain ⟨g3, h⟩ := h
    refine cj_yq (pc := 1) hcx hex (Nat.le_of_ble_eq_true rfl) (Nat.le_of_ble_eq_true rfl) (cj_runVx hcx hW hS 3 g3 (by decide) rfl [] h (Nat.le_trans (by decide) hd) (lw_V q376 q378 qs2 q126 q379) rfl yd_Rd_letters (by decide) rfl rfl (Nat.le_of_ble_eq_true rfl) hl.1 (Nat.le_of_ble_eq_true rfl) (Nat.le_of_ble_eq_true rfl) dX5_table_1) hS (fun r1 σ2 h H locs hW hS => ?_)
    refine cj_astore_n (pc := 4) (lv' := [(1, va_rf r1), (0, .ref x0)]) hx hb dX5_table_4 rfl hl (by decide) rfl (fun ls hl => ?_)
    refine lv_aload_n (pc := 5) hx hb dX5_table_5 rfl (lv_at hl 1 rfl) ?_
    obtain ⟨g6, h⟩ := h
    refine cj_xi (pc := 6) (cj_runV hcx hW hS 3 g6 (by decide) rfl [] h (Nat.le_trans (by decide) hd) (lw_V q380 q382 qs3 q126 q383) rfl yd_Rd_peek (by decide) rfl rfl (Nat.le_of_ble_eq_true rfl) hl.1 (Nat.le_of_ble_eq_true rfl) (Nat.le_of_ble_eq_true rfl) dX5_table_6) hS (fun r4 σ5 h H locs hW hS => ?_)
    refine lv_istore_n (pc := 9) (lv' := [(2, .int r4), (1, va_rf r1), (0, .ref x0)]) hx hb dX5_table_9 rfl hl (by decide) (by generalize r1 = z; cases z <;> rfl) (fun ls hl => ?_)
    refine lv_aload_n (pc := 10) hx hb dX5_table_10 rfl (lv_at hl 2 rfl) ?_
    obtain ⟨g9, h⟩ := h
    refine cj_xi (pc := 11) (cj_runV hcx hW hS 3 g9 (by decide) rfl [] h (Nat.le_trans (by decide) hd) (lw_V q502 q504 qs6 q126 q505) rfl yd_Rd_isDigit (by decide) rfl rfl (Nat.le_of_ble_eq_true rfl) hl.1 (Nat.le_of_ble_eq_true rfl) (Nat.le_of_ble_eq_true rfl) dX5_table_11) hS (fun r7 σ8 h H locs hW hS => ?_)
    refine lv_if_ne (pc := 14) (tgt := 19) hx hb dX5_table_14 (by decide) (fun c10 => ?_) (fun c10 => ?_)
    · have h := h.2 c10
      refine lv_aload_n (pc := 19) hx hb dX5_table_19 rfl (lv_at hl 2 rfl) ?_
      refine cj_aload_n (pc := 20) hx hb dX5_table_20 rfl (lv_at hl 1 rfl) ?_
      obtain ⟨g13, h⟩ := h
      refine cj_yv (pc := 21) hcx hex (Nat.le_of_ble_eq_true rfl) (Nat.le_of_ble_eq_true rfl) (cj_runVx hcx hW hS 3 g13 (by decide) rfl [va_rf r1] h (Nat.le_trans (by decide) hd) (lw_V q506 q508 qs7 q126 q509) rfl yd_Rd_row (by decide) rfl rfl (Nat.le_of_ble_eq_true rfl) hl.1 (Nat.le_of_ble_eq_true rfl) (Nat.le_of_ble_eq_true rfl) dX5_table_21) hS (fun σ12 h H locs hW hS => ?_)
      refine lv_iconst (pc := 24) (v := (1 : Int32)) hx hb dX5_table_24 (by decide) ?_
      refine lv_istore_n (pc := 25) (lv' := [(3, .int (1 : Int32)), (2, .int r4), (1, va_rf r1), (0, .ref x0)]) hx hb dX5_table_25 rfl hl (by decide) rfl (fun ls hl => ?_)
      exact h d hd p e s m args below meth c hcx hex H locs _ hW hS (lv_sub hl [3, 2, 0] rfl)
    · have h := h.1 c10
      refine cj_aload_n (pc := 17) hx hb dX5_table_17 rfl (lv_at hl 1 rfl) ?_
      exact vx_ret (cj_retq (pc := 18) (r := r1) hcx hW hS (Or.inl ⟨_, rfl⟩) h (Nat.le_of_ble_eq_true rfl) (Nat.le_of_ble_eq_true rfl) dX5_table_18))
/-! Rd_tables -/
set_option maxHeartbeats 4000000 in
set_option maxRecDepth 100000 in
theorem cb_Rd_tables_12 {E : cj_E} {σ : cj_S} {x0 : Nat} {x1 : Option Nat} {x2 : Int32} {cu : Nat} {su : Nat} {P : Int32 → cj_S → Prop} {X : Nat → cj_S → Prop} (h : (cu ≤ 1140 ∧ (su ≤ 7700 ∧ (cj_T σ x0 = 4 ∧ cs_Rd_isNext E σ x0 (59 : Int32) (fun r3 σ4 => ((r3 = 0 → ((cu + 0) + 1 ≤ 1140 ∧ ((su + 0) + 7 ≤ 7700 ∧ (cj_T σ4 x0 = 4 ∧ cs_Rd_ends E σ4 x0 (fun σ10 => (((cu + 0) + 1) ≤ 1140 ∧ (((su + 0) + 7) ≤ 7700 ∧ P x2 σ10))) X)))) ∧ (¬ r3 = 0 → (((4 : Int32) ≤ x2 → cg_Rd_tables_32 E σ4 x0 x1 x2 (0 : Int32) (some x0) (cu + 0) (su + 0) P X) ∧ (¬ (4 : Int32) ≤ x2 → cg_Rd_tables_32 E σ4 x0 x1 x2 (1 : Int32) (some x0) (cu + 0) (su + 0) P X))))))))) : cg_Rd_tables_12 E σ x0 x1 x2 cu su P X := by
  intro d hd p e s m args below meth c hcx hex H locs ls hW hS hl
  have hx := hcx.1
  have hb := hcx.2.1
  have hown := hcx.2.2.2.2.2.1
  have hts := hcx.2.2.2.2.2.2.1
  refine lv_aload_n (pc := 12) hx hb dX5_tables_12 rfl (lv_at hl 0 rfl) ?_
  refine lv_bipush (pc := 13) (v := (59 : Int32)) hx hb dX5_tables_13 (by decide) ?_
  obtain ⟨g1, h⟩ := h
  obtain ⟨g2, h⟩ := h
  obtain ⟨g5, h⟩ := h
  refine cj_xi (pc := 15) (cj_runV hcx hW hS 3 g5 (by decide) rfl [.int (59 : Int32)] h (Nat.le_trans (by decide) hd) (lw_V q514 q516 qs9 q126 q517) rfl yd_Rd_isNext (by decide) rfl rfl (Nat.le_of_ble_eq_true rfl) hl.1 g1 g2 dX5_tables_15) hS (fun r3 σ4 h H locs hW hS => ?_)
  refine lv_if_eq (pc := 18) (tgt := 49) hx hb dX5_tables_18 (by decide) (fun c6 => ?_) (fun c6 => ?_)
  · have h := h.1 c6
    refine lv_aload_n (pc := 49) hx hb dX5_tables_49 rfl (lv_at hl 0 rfl) ?_
    obtain ⟨g7, h⟩ := h
    obtain ⟨g8, h⟩ := h
    obtain ⟨g11, h⟩ := h
    refine cj_yv (pc := 50) hcx hex g7 g8 (cj_runVx hcx hW hS 3 g11 (by decide) rfl [] h (Nat.le_trans (by decide) hd) (lw_V q605 q607 qs11 q126 q608) rfl yd_Rd_ends (by decide) rfl rfl (Nat.le_of_ble_eq_true rfl) hl.1 g7 g8 dX5_tables_50) hS (fun σ10 h H locs hW hS => ?_)
    refine lv_iload_n (pc := 53) hx hb dX5_tables_53 rfl (lv_at hl 2 rfl) ?_
    obtain ⟨g12, h⟩ := h
    obtain ⟨g13, h⟩ := h
    exact vx_ret (cj_reti (pc := 54) hcx hW hS rfl h g12 g13 dX5_tables_54)
  · have h := h.2 c6
    refine lv_aload_n (pc := 21) hx hb dX5_tables_21 rfl (lv_at hl 0 rfl) ?_
    refine lv_iload_n (pc := 22) hx hb dX5_tables_22 rfl (lv_at hl 2 rfl) ?_
    refine lv_iconst (pc := 23) (v := (4 : Int32)) hx hb dX5_tables_23 (by decide) ?_
    refine lv_icmp_ge (pc := 24) (tgt := 31) hx hb dX5_tables_24 (by decide) (fun c14 => ?_) (fun c14 => ?_)
    · have h := h.1 c14
      refine lv_iconst (pc := 31) (v := (0 : Int32)) hx hb dX5_tables_31 (by decide) ?_
      exact h d hd p e s m args below meth c hcx hex H locs _ hW hS (lv_sub hl [0, 1, 2] rfl)
    · have h := h.2 c14
      refine lv_iconst (pc := 27) (v := (1 : Int32)) hx hb dX5_tables_27 (by decide) ?_
      refine lv_goto (pc := 28) (tgt := 32) hx hb dX5_tables_28 (by decide) ?_
      exact h d hd p e s m args below meth c hcx hex H locs _ hW hS (lv_sub hl [0, 1, 2] rfl)
set_option maxHeartbeats 4000000 in
set_option maxRecDepth 100000 in
theorem cb_Rd_tables_32 {E : cj_E} {σ : cj_S} {x0 : Nat} {x1 : Option Nat} {x2 : Int32} {t0 : Int32} {t1 : Option Nat} {cu : Nat} {su : Nat} {P : Int32 → cj_S → Prop} {X : Nat → cj_S → Prop} (h : (∃ a1, t1 = some a1 ∧ (cu + 1 ≤ 1140 ∧ (su + 7 ≤ 7700 ∧ (cj_T σ a1 = 4 ∧ cs_Rd_take E σ a1 t0 (fun r5 σ6 => ((cu + 1) + 280 ≤ 1140 ∧ ((su + 7) + 1900 ≤ 7700 ∧ (cj_T σ6 x0 = 4 ∧ cs_Rd_table E σ6 x0 (fun r10 σ11 => (∃ a13, x1 = some a13 ∧ (∃ a15, r10 = some a15 ∧ (cj_T σ11 a13 = 26 ∧ (cj_T σ11 a15 = 6 ∧ (vp_in x2 (cj_N σ11 a13) ∧ cg_Rd_tables_12 E (cj_sB σ11 a13 x2.toNatClampNeg (some a15)) x0 x1 (x2 + (1 : Int32)) ((cu + 1) + 280) ((su + 7) + 1900) P X)))))) X)))) X))))) : cg_Rd_tables_32 E σ x0 x1 x2 t0 t1 cu su P X := by
  intro d hd p e s m args below meth c hcx hex H locs ls hW hS hl
  have hx := hcx.1
  have hb := hcx.2.1
  have hown := hcx.2.2.2.2.2.1
  have hts := hcx.2.2.2.2.2.2.1
  obtain ⟨a1, e2, h⟩ := h
  refine cj_stk (st' := [.int t0, .ref a1]) (by rw [e2]; rfl) ?_
  obtain ⟨g3, h⟩ := h
  obtain ⟨g4, h⟩ := h
  obtain ⟨g7, h⟩ := h
  refine cj_yi (pc := 32) hcx hex g3 g4 (cj_runVx hcx hW hS 3 g7 (by decide) rfl [.int t0] h (Nat.le_trans (by decide) hd) (lw_V q389 q391 qs4 q126 q392) rfl yd_Rd_take (by decide) rfl rfl (Nat.le_of_ble_eq_true rfl) hl.1 g3 g4 dX5_tables_32) hS (fun r5 σ6 h H locs hW hS => ?_)
  refine lv_istore_n (pc := 35) (lv' := [(3, .int r5), (0, .ref x0), (1, va_rf x1), (2, .int x2)]) hx hb dX5_tables_35 rfl hl (by decide) rfl (fun ls hl => ?_)
  refine cj_aload_n (pc := 36) hx hb dX5_tables_36 rfl (lv_at hl 2 rfl) ?_
  refine lv_iload_n (pc := 37) hx hb dX5_tables_37 rfl (lv_at hl 3 rfl) ?_
  refine lv_aload_n (pc := 38) hx hb dX5_tables_38 rfl (lv_at hl 1 rfl) ?_
  obtain ⟨g8, h⟩ := h
  obtain ⟨g9, h⟩ := h
  obtain ⟨g12, h⟩ := h
  refine cj_yq (pc := 39) hcx hex g8 g9 (cj_runVx hcx hW hS 3 g12 (by decide) rfl [] h (Nat.le_trans (by decide) hd) (lw_V q372 q374 qs1 q126 q375) rfl yd_Rd_table (by decide) rfl rfl (by generalize x1 = z0; cases z0 <;> exact Nat.le_of_ble_eq_true rfl) hl.1 g8 g9 dX5_tables_39) hS (fun r10 σ11 h H locs hW hS => ?_)
  obtain ⟨a13, e14, h⟩ := h
  refine cj_stk (st' := [va_rf r10, .int x2, .ref a13]) (by rw [e14]; rfl) ?_
  obtain ⟨a15, e16, h⟩ := h
  refine cj_stk (st' := [.ref a15, .int x2, .ref a13]) (by rw [e16]; rfl) ?_
  obtain ⟨g17, h⟩ := h
  obtain ⟨g18, h⟩ := h
  obtain ⟨g19, h⟩ := h
  refine cj_aast (pc := 42) hcx hW hS (cj_okt (t := 6) g18 (by unfold cj_ok_; decide)) (cj_eqt (t := 6) g17 g18) g19 dX5_tables_42 (fun H locs hW hS => ?_)
  refine lv_iinc (pc := 43) (v := (x2 + (1 : Int32))) (lv' := [(2, .int (x2 + (1 : Int32))), (3, .int r5), (0, .ref x0), (1, va_rf x1)]) hx hb dX5_tables_43 hl (k := 3) rfl rfl (by decide) (by generalize x1 = z; cases z <;> rfl) (fun ls hl => ?_)
  refine lv_goto (pc := 46) (tgt := 12) hx hb dX5_tables_46 (by decide) ?_
  exact h d hd p e s m args below meth c hcx hex H locs _ hW hS (lv_sub hl [2, 3, 0] rfl)
set_option maxHeartbeats 4000000 in
set_option maxRecDepth 100000 in
theorem cb_Rd_tables {E : cj_E} {σ : cj_S} {x0 : Nat} {x1 : Option Nat} {P : Int32 → cj_S → Prop} {X : Nat → cj_S → Prop} (h : (cj_T σ x0 = 4 ∧ cs_Rd_table E σ x0 (fun r1 σ2 => (∃ a4, x1 = some a4 ∧ (∃ a6, r1 = some a6 ∧ (cj_T σ2 a4 = 26 ∧ (cj_T σ2 a6 = 6 ∧ (vp_in (0 : Int32) (cj_N σ2 a4) ∧ cg_Rd_tables_12 E (cj_sB σ2 a4 (0 : Int32).toNatClampNeg (some a6)) x0 x1 ((0 : Int32) + (1 : Int32)) 280 1900 P X)))))) X)) : cs_Rd_tables E σ x0 x1 P X :=
  cj_enterx (k := 7) (lv := [(0, .ref x0), (1, va_rf x1)]) (by decide) (by cases x1 <;> exact Nat.le_of_ble_eq_true rfl) (by cases x1 <;> rfl) (by
    intro d hd p e s m args below meth c hcx hex H locs ls hW hS hl
    have hx := hcx.1
    have hb := hcx.2.1
    have hown := hcx.2.2.2.2.2.1
    have hts := hcx.2.2.2.2.2.2.1
    refine lv_iconst (pc := 0) (v := (0 : Int32)) hx hb dX5_tables_0 (by decide) ?_
    refine lv_istore_n (pc := 1) (lv' := [(2, .int (0 : Int32)), (0, .ref x0), (1, va_rf x1)]) hx hb dX5_tables_1 rfl hl (by decide) (by generalize x1 = z; cases z <;> rfl) (fun ls hl => ?_)
    refine cj_aload_n (pc := 2) hx hb dX5_tables_2 rfl (lv_at hl 2 rfl) ?_
    refine lv_iload_n (pc := 3) hx hb dX5_tables_3 rfl (lv_at hl 0 rfl) ?_
    refine lv_aload_n (pc := 4) hx hb dX5_tables_4 rfl (lv_at hl 1 rfl) ?_
    obtain ⟨g3, h⟩ := h
    refine cj_yq (pc := 5) hcx hex (Nat.le_of_ble_eq_true rfl) (Nat.le_of_ble_eq_true rfl) (cj_runVx hcx hW hS 3 g3 (by decide) rfl [] h (Nat.le_trans (by decide) hd) (lw_V q372 q374 qs1 q126 q375) rfl yd_Rd_table (by decide) rfl rfl (by generalize x1 = z0; cases z0 <;> exact Nat.le_of_ble_eq_true rfl) hl.1 (Nat.le_of_ble_eq_true rfl) (Nat.le_of_ble_eq_true rfl) dX5_tables_5) hS (fun r1 σ2 h H locs hW hS => ?_)
    obtain ⟨a4, e5, h⟩ := h
    refine cj_stk (st' := [va_rf r1, .int (0 : Int32), .ref a4]) (by rw [e5]; rfl) ?_
    obtain ⟨a6, e7, h⟩ := h
    refine cj_stk (st' := [.ref a6, .int (0 : Int32), .ref a4]) (by rw [e7]; rfl) ?_
    obtain ⟨g8, h⟩ := h
    obtain ⟨g9, h⟩ := h
    obtain ⟨g10, h⟩ := h
    refine cj_aast (pc := 8) hcx hW hS (cj_okt (t := 6) g9 (by unfold cj_ok_; decide)) (cj_eqt (t := 6) g8 g9) g10 dX5_tables_8 (fun H locs hW hS => ?_)
    refine lv_iinc (pc := 9) (v := ((0 : Int32) + (1 : Int32))) (lv' := [(2, .int ((0 : Int32) + (1 : Int32))), (0, .ref x0), (1, va_rf x1)]) hx hb dX5_tables_9 hl (k := 0) rfl rfl (by decide) (by generalize x1 = z; cases z <;> rfl) (fun ls hl => ?_)
    exact h d hd p e s m args below meth c hcx hex H locs _ hW hS (lv_sub hl [1, 2, 0] rfl))
/-! Jn_begins -/
set_option maxHeartbeats 4000000 in
set_option maxRecDepth 100000 in
theorem cb_Jn_begins_33 {E : cj_E} {k : Nat} {σ : cj_S} {x0 : Nat} {x2 : Int32} {x3 : Int32} {P : cj_S → Prop} (hk : 8 ≤ k) (h : (((4 : Int32) ≤ x3 → (cj_T σ x0 = 3 ∧ P (cj_sF σ 308 x0 ((cj_F σ 308 x0) + (1 : Int32))))) ∧ (¬ (4 : Int32) ≤ x3 → (cj_T σ x0 = 3 ∧ cs_L_has E σ x2 x3 (fun r4 σ5 => ((r4 = 0 → (∃ a7, (cj_R σ 300 x0) = some a7 ∧ (cj_T σ5 a7 = 21 ∧ (vp_in (((4 : Int32) * (cj_F σ 308 x0)) + x3) (cj_N σ5 a7) ∧ cg_Jn_begins_33 E k (cj_sA σ5 a7 (((4 : Int32) * (cj_F σ 308 x0)) + x3).toNatClampNeg (-1 : Int32)) x0 x2 (x3 + (1 : Int32)) P)))) ∧ (¬ r4 = 0 → (cj_T σ5 x0 = 3 ∧ (∃ a12, (cj_R σ5 301 x0) = some a12 ∧ (cj_T σ5 a12 = 21 ∧ (vp_in x3 (cj_N σ5 a12) ∧ (∃ a16, (cj_R σ 300 x0) = some a16 ∧ (cj_T σ5 a16 = 21 ∧ (vp_in (((4 : Int32) * (cj_F σ 308 x0)) + x3) (cj_N σ5 a16) ∧ cg_Jn_begins_33 E k (cj_sA σ5 a16 (((4 : Int32) * (cj_F σ 308 x0)) + x3).toNatClampNeg (cj_A σ5 a12 x3.toNatClampNeg)) x0 x2 (x3 + (1 : Int32)) P)))))))))))))) : cg_Jn_begins_33 E k σ x0 x2 x3 P := by
  intro d hd p e s m args below meth c hcx H locs ls hW hS hl
  have hx := hcx.1
  have hb := hcx.2.1
  have hown := hcx.2.2.2.2.2.1
  have hts := hcx.2.2.2.2.2.2.1
  refine lv_iload_n (pc := 33) hx hb dX3_begins_33 rfl (lv_at hl 2 rfl) ?_
  refine lv_iconst (pc := 34) (v := (4 : Int32)) hx hb dX3_begins_34 (by decide) ?_
  refine lv_icmp_ge (pc := 35) (tgt := 75) hx hb dX3_begins_35 (by decide) (fun c1 => ?_) (fun c1 => ?_)
  · have h := h.1 c1
    refine lv_aload_n (pc := 75) hx hb dX3_begins_75 rfl (lv_at hl 0 rfl) ?_
    refine lv_dup (pc := 76) hx hb dX3_begins_76 rfl ?_
    obtain ⟨g2, h⟩ := h
    refine cj_fld (pc := 77) hcx hW 2 g2 (by decide) rfl in_X3 8 (by decide) (by decide) q236 dX3_begins_77 (v := .int (cj_F σ 308 x0)) rfl ?_
    refine lv_iconst (pc := 80) (v := (1 : Int32)) hx hb dX3_begins_80 (by decide) ?_
    refine lv_iadd (pc := 81) hx hb dX3_begins_81 ?_
    refine cj_put (pc := 82) (σ1 := (cj_sF σ 308 x0 ((cj_F σ 308 x0) + (1 : Int32)))) hcx hW hS 2 g2 (by decide) rfl in_X3 tyX3_ok nmX3 8 (by decide) (by decide) rfl rfl rfl (cj_pI rfl) q236 dX3_begins_82 (fun H locs hW hS => ?_)
    exact cj_retv (pc := 85) hcx hW hS h (Nat.le_refl _) (Nat.le_refl _) dX3_begins_85
  · have h := h.2 c1
    refine lv_aload_n (pc := 38) hx hb dX3_begins_38 rfl (lv_at hl 0 rfl) ?_
    obtain ⟨g3, h⟩ := h
    refine cj_fld (pc := 39) hcx hW 2 g3 (by decide) rfl in_X3 0 (by decide) (by decide) q227 dX3_begins_39 (v := va_rf (cj_R σ 300 x0)) rfl ?_
    refine lv_iconst (pc := 42) (v := (4 : Int32)) hx hb dX3_begins_42 (by decide) ?_
    refine lv_aload_n (pc := 43) hx hb dX3_begins_43 rfl (lv_at hl 0 rfl) ?_
    refine cj_fld (pc := 44) hcx hW 2 g3 (by decide) rfl in_X3 8 (by decide) (by decide) q236 dX3_begins_44 (v := .int (cj_F σ 308 x0)) rfl ?_
    refine lv_imul (pc := 47) hx hb dX3_begins_47 ?_
    refine lv_iload_n (pc := 48) hx hb dX3_begins_48 rfl (lv_at hl 2 rfl) ?_
    refine lv_iadd (pc := 49) hx hb dX3_begins_49 ?_
    refine lv_iload_n (pc := 50) hx hb dX3_begins_50 rfl (lv_at hl 1 rfl) ?_
    refine lv_iload_n (pc := 51) hx hb dX3_begins_51 rfl (lv_at hl 2 rfl) ?_
    refine cj_xi (pc := 52) (cj_runSN hcx hW hS [.int x2, .int x3] h (Nat.le_trans (by decide) (Nat.le_trans hk (Nat.le_of_succ_le hd))) (List.mem_of_getElem? (i := 7) rfl) q387 q122 q388 yd_L_has (by decide) rfl rfl (by generalize (cj_R σ 300 x0) = z0; cases z0 <;> exact Nat.le_of_ble_eq_true rfl) hl.1 (Nat.le_refl _) (Nat.le_refl _) dX3_begins_52) hS (fun r4 σ5 h H locs hW hS => ?_)
    refine lv_if_eq (pc := 55) (tgt := 67) hx hb dX3_begins_55 (by decide) (fun c6 => ?_) (fun c6 => ?_)
    · have h := h.1 c6
      refine lv_iconst (pc := 67) (v := (-1 : Int32)) hx hb dX3_begins_67 (by decide) ?_
      obtain ⟨a7, e8, h⟩ := h
      refine cj_stk (st' := [.int (-1 : Int32), .int (((4 : Int32) * (cj_F σ 308 x0)) + x3), .ref a7]) (by rw [e8]; rfl) ?_
      obtain ⟨g9, h⟩ := h
      obtain ⟨g10, h⟩ := h
      refine cj_iast (pc := 68) hcx hW hS g9 g10 dX3_begins_68 (fun H locs hW hS => ?_)
      refine lv_iinc (pc := 69) (v := (x3 + (1 : Int32))) (lv' := [(3, .int (x3 + (1 : Int32))), (0, .ref x0), (2, .int x2)]) hx hb dX3_begins_69 hl (k := 2) rfl rfl (by decide) rfl (fun ls hl => ?_)
      refine lv_goto (pc := 72) (tgt := 33) hx hb dX3_begins_72 (by decide) ?_
      exact h d hd p e s m args below meth c hcx H locs _ hW hS (lv_sub hl [1, 2, 0] rfl)
    · have h := h.2 c6
      refine lv_aload_n (pc := 58) hx hb dX3_begins_58 rfl (lv_at hl 0 rfl) ?_
      obtain ⟨g11, h⟩ := h
      refine cj_fld (pc := 59) hcx hW 2 g11 (by decide) rfl in_X3 1 (by decide) (by decide) q228 dX3_begins_59 (v := va_rf (cj_R σ5 301 x0)) rfl ?_
      refine lv_iload_n (pc := 62) hx hb dX3_begins_62 rfl (lv_at hl 2 rfl) ?_
      obtain ⟨a12, e13, h⟩ := h
      refine cj_stk (st' := [.int x3, .ref a12, .int (((4 : Int32) * (cj_F σ 308 x0)) + x3), va_rf (cj_R σ 300 x0)]) (by rw [e13]; rfl) ?_
      obtain ⟨g14, h⟩ := h
      obtain ⟨g15, h⟩ := h
      refine cj_iald (pc := 63) hcx hW g14 g15 dX3_begins_63 ?_
      refine lv_goto (pc := 64) (tgt := 68) hx hb dX3_begins_64 (by decide) ?_
      obtain ⟨a16, e17, h⟩ := h
      refine cj_stk (st' := [.int (cj_A σ5 a12 x3.toNatClampNeg), .int (((4 : Int32) * (cj_F σ 308 x0)) + x3), .ref a16]) (by rw [e17]; rfl) ?_
      obtain ⟨g18, h⟩ := h
      obtain ⟨g19, h⟩ := h
      refine cj_iast (pc := 68) hcx hW hS g18 g19 dX3_begins_68 (fun H locs hW hS => ?_)
      refine lv_iinc (pc := 69) (v := (x3 + (1 : Int32))) (lv' := [(3, .int (x3 + (1 : Int32))), (0, .ref x0), (2, .int x2)]) hx hb dX3_begins_69 hl (k := 2) rfl rfl (by decide) rfl (fun ls hl => ?_)
      refine lv_goto (pc := 72) (tgt := 33) hx hb dX3_begins_72 (by decide) ?_
      exact h d hd p e s m args below meth c hcx H locs _ hW hS (lv_sub hl [1, 2, 0] rfl)
set_option maxHeartbeats 4000000 in
set_option maxRecDepth 100000 in
theorem cb_Jn_begins {E : cj_E} {k : Nat} {σ : cj_S} {x0 : Nat} {x1 : Int32} {x2 : Int32} {P : cj_S → Prop} (hk : 8 ≤ k) (h : (cj_T σ x0 = 3 ∧ (∃ a2, (cj_R σ 303 x0) = some a2 ∧ (cj_T σ a2 = 21 ∧ (vp_in (x1 + (1 : Int32)) (cj_N σ a2) ∧ (vp_in (x1 + (1 : Int32)) (cj_N σ a2) ∧ (((cj_F σ 310 x0) ≤ (x1 + (1 : Int32)) → cg_Jn_begins_33 E k (cj_sA σ a2 (x1 + (1 : Int32)).toNatClampNeg ((cj_A σ a2 (x1 + (1 : Int32)).toNatClampNeg) + (1 : Int32))) x0 x2 (0 : Int32) P) ∧ (¬ (cj_F σ 310 x0) ≤ (x1 + (1 : Int32)) → cs_Jn_finds E k (cj_sA σ a2 (x1 + (1 : Int32)).toNatClampNeg ((cj_A σ a2 (x1 + (1 : Int32)).toNatClampNeg) + (1 : Int32))) x0 (x1 + (1 : Int32)) x2 (fun σ9 => P σ9))))))))) : cs_Jn_begins E (k + 1) σ x0 x1 x2 P :=
  cj_enter (k := k + 1) (lv := [(0, .ref x0), (1, .int x1), (2, .int x2)]) (by decide) (Nat.le_of_ble_eq_true rfl) rfl (by
    intro d hd p e s m args below meth c hcx H locs ls hW hS hl
    have hx := hcx.1
    have hb := hcx.2.1
    have hown := hcx.2.2.2.2.2.1
    have hts := hcx.2.2.2.2.2.2.1
    refine lv_aload_n (pc := 0) hx hb dX3_begins_0 rfl (lv_at hl 0 rfl) ?_
    obtain ⟨g1, h⟩ := h
    refine cj_fld (pc := 1) hcx hW 2 g1 (by decide) rfl in_X3 3 (by decide) (by decide) q230 dX3_begins_1 (v := va_rf (cj_R σ 303 x0)) rfl ?_
    refine lv_iload_n (pc := 4) hx hb dX3_begins_4 rfl (lv_at hl 1 rfl) ?_
    refine lv_iconst (pc := 5) (v := (1 : Int32)) hx hb dX3_begins_5 (by decide) ?_
    refine lv_iadd (pc := 6) hx hb dX3_begins_6 ?_
    refine lv_dup2_11 (pc := 7) hx hb dX3_begins_7 rfl (cj_cat _) ?_
    obtain ⟨a2, e3, h⟩ := h
    refine cj_stk (st' := [.int (x1 + (1 : Int32)), .ref a2, .int (x1 + (1 : Int32)), .ref a2]) (by rw [e3]; rfl) ?_
    obtain ⟨g4, h⟩ := h
    obtain ⟨g5, h⟩ := h
    refine cj_iald (pc := 8) hcx hW g4 g5 dX3_begins_8 ?_
    refine lv_iconst (pc := 9) (v := (1 : Int32)) hx hb dX3_begins_9 (by decide) ?_
    refine lv_iadd (pc := 10) hx hb dX3_begins_10 ?_
    obtain ⟨g6, h⟩ := h
    refine cj_iast (pc := 11) hcx hW hS g4 g6 dX3_begins_11 (fun H locs hW hS => ?_)
    refine lv_iload_n (pc := 12) hx hb dX3_begins_12 rfl (lv_at hl 1 rfl) ?_
    refine lv_iconst (pc := 13) (v := (1 : Int32)) hx hb dX3_begins_13 (by decide) ?_
    refine lv_iadd (pc := 14) hx hb dX3_begins_14 ?_
    refine lv_aload_n (pc := 15) hx hb dX3_begins_15 rfl (lv_at hl 0 rfl) ?_
    refine cj_fld (pc := 16) hcx hW 2 g1 (by decide) rfl in_X3 10 (by decide) (by decide) q240 dX3_begins_16 (v := .int (cj_F σ 310 x0)) rfl ?_
    refine lv_icmp_ge (pc := 19) (tgt := 31) hx hb dX3_begins_19 (by decide) (fun c7 => ?_) (fun c7 => ?_)
    · have h := h.1 c7
      refine lv_iconst (pc := 31) (v := (0 : Int32)) hx hb dX3_begins_31 (by decide) ?_
      refine lv_istore_n (pc := 32) (lv' := [(3, .int (0 : Int32)), (0, .ref x0), (1, .int x1), (2, .int x2)]) hx hb dX3_begins_32 rfl hl (by decide) rfl (fun ls hl => ?_)
      exact h d hd p e s m args below meth c hcx H locs _ hW hS (lv_sub hl [1, 3, 0] rfl)
    · have h := h.2 c7
      refine lv_aload_n (pc := 22) hx hb dX3_begins_22 rfl (lv_at hl 0 rfl) ?_
      refine lv_iload_n (pc := 23) hx hb dX3_begins_23 rfl (lv_at hl 1 rfl) ?_
      refine lv_iconst (pc := 24) (v := (1 : Int32)) hx hb dX3_begins_24 (by decide) ?_
      refine lv_iadd (pc := 25) hx hb dX3_begins_25 ?_
      refine lv_iload_n (pc := 26) hx hb dX3_begins_26 rfl (lv_at hl 2 rfl) ?_
      refine cj_xv (pc := 27) (cj_runV hcx hW hS 2 g1 (by decide) rfl [.int (x1 + (1 : Int32)), .int x2] h hd (lw_V q864 q866 qs20 q124 q867) rfl yd_Jn_finds (by decide) rfl rfl (Nat.le_of_ble_eq_true rfl) hl.1 (Nat.le_refl _) (Nat.le_refl _) dX3_begins_27) hS (fun σ9 h H locs hW hS => ?_)
      exact cj_retv (pc := 30) hcx hW hS h (Nat.le_refl _) (Nat.le_refl _) dX3_begins_30)
/-! Jn_finds -/
set_option maxHeartbeats 4000000 in
set_option maxRecDepth 100000 in
theorem cb_Jn_finds_7 {E : cj_E} {k : Nat} {σ : cj_S} {x0 : Nat} {x1 : Int32} {x2 : Int32} {x3 : Int32} {P : cj_S → Prop} (hk : 8 ≤ k) (h : ((x3 = 0 → P σ) ∧ (¬ x3 = 0 → (cj_T σ x0 = 3 ∧ cs_Jn_greatest E σ x0 x1 (fun r2 σ3 => (cj_T σ3 x0 = 3 ∧ cs_Jn_lesser E σ3 x0 x1 r2 (fun r5 σ6 => ((r5 = (-1 : Int32) → (cj_T σ6 x0 = 3 ∧ (∃ a13, (cj_R σ6 302 x0) = some a13 ∧ (cj_T σ6 a13 = 21 ∧ (vp_in x1 (cj_N σ6 a13) ∧ (∃ a17, (cj_R σ6 301 x0) = some a17 ∧ (cj_T σ6 a17 = 21 ∧ (vp_in (cj_A σ6 a13 x1.toNatClampNeg) (cj_N σ6 a17) ∧ (vp_in x1 (cj_N σ6 a13) ∧ cs_Jn_begins E k (cj_sA σ6 a17 (cj_A σ6 a13 x1.toNatClampNeg).toNatClampNeg r2) x0 x1 (x2 ||| ((1 : Int32) <<< ((cj_A (cj_sA σ6 a17 (cj_A σ6 a13 x1.toNatClampNeg).toNatClampNeg r2) a13 x1.toNatClampNeg) &&& 31))) (fun σ23 => (cj_T σ23 x0 = 3 ∧ cs_Jn_first E σ23 x0 x1 (fun r24 σ25 => (cj_T σ25 x0 = 3 ∧ cs_Jn_leaps E σ25 x0 x1 r24 (r2 + (1 : Int32)) (fun r27 σ28 => cg_Jn_finds_7 E k σ28 x0 x1 x2 r27 P)))))))))))))) ∧ (¬ r5 = (-1 : Int32) → (cj_T σ6 x0 = 3 ∧ cs_Jn_leaps E σ6 x0 x1 r5 r2 (fun r9 σ10 => cg_Jn_finds_7 E k σ10 x0 x1 x2 r9 P))))))))))) : cg_Jn_finds_7 E k σ x0 x1 x2 x3 P := by
  intro d hd p e s m args below meth c hcx H locs ls hW hS hl
  have hx := hcx.1
  have hb := hcx.2.1
  have hown := hcx.2.2.2.2.2.1
  have hts := hcx.2.2.2.2.2.2.1
  refine lv_iload_n (pc := 7) hx hb dX3_finds_7 rfl (lv_at hl 3 rfl) ?_
  refine lv_if_eq (pc := 8) (tgt := 92) hx hb dX3_finds_8 (by decide) (fun c1 => ?_) (fun c1 => ?_)
  · have h := h.1 c1
    exact cj_retv (pc := 92) hcx hW hS h (Nat.le_refl _) (Nat.le_refl _) dX3_finds_92
  · have h := h.2 c1
    refine lv_aload_n (pc := 11) hx hb dX3_finds_11 rfl (lv_at hl 0 rfl) ?_
    refine lv_iload_n (pc := 12) hx hb dX3_finds_12 rfl (lv_at hl 1 rfl) ?_
    obtain ⟨g4, h⟩ := h
    refine cj_xi (pc := 13) (cj_runV hcx hW hS 2 g4 (by decide) rfl [.int x1] h (Nat.le_trans (by decide) (Nat.le_trans hk (Nat.le_of_succ_le hd))) (lw_V q891 q893 qs24 q124 q894) rfl yd_Jn_greatest (by decide) rfl rfl (Nat.le_of_ble_eq_true rfl) hl.1 (Nat.le_refl _) (Nat.le_refl _) dX3_finds_13) hS (fun r2 σ3 h H locs hW hS => ?_)
    refine lv_istore (pc := 16) (lv' := [(4, .int r2), (0, .ref x0), (1, .int x1), (2, .int x2), (3, .int x3)]) hx hb dX3_finds_16 hl (by decide) rfl (fun ls hl => ?_)
    refine lv_aload_n (pc := 18) hx hb dX3_finds_18 rfl (lv_at hl 1 rfl) ?_
    refine lv_iload_n (pc := 19) hx hb dX3_finds_19 rfl (lv_at hl 2 rfl) ?_
    refine lv_iload (pc := 20) hx hb dX3_finds_20 (lv_at hl 0 rfl) ?_
    obtain ⟨g7, h⟩ := h
    refine cj_xi (pc := 22) (cj_runV hcx hW hS 2 g7 (by decide) rfl [.int x1, .int r2] h (Nat.le_trans (by decide) (Nat.le_trans hk (Nat.le_of_succ_le hd))) (lw_V q900 q902 qs26 q124 q903) rfl yd_Jn_lesser (by decide) rfl rfl (Nat.le_of_ble_eq_true rfl) hl.1 (Nat.le_refl _) (Nat.le_refl _) dX3_finds_22) hS (fun r5 σ6 h H locs hW hS => ?_)
    refine lv_istore (pc := 25) (lv' := [(5, .int r5), (4, .int r2), (0, .ref x0), (1, .int x1), (2, .int x2), (3, .int x3)]) hx hb dX3_finds_25 hl (by decide) rfl (fun ls hl => ?_)
    refine lv_iload (pc := 27) hx hb dX3_finds_27 (lv_at hl 0 rfl) ?_
    refine lv_iconst (pc := 29) (v := (-1 : Int32)) hx hb dX3_finds_29 (by decide) ?_
    refine lv_icmp_ne (pc := 30) (tgt := 79) hx hb dX3_finds_30 (by decide) (fun c8 => ?_) (fun c8 => ?_)
    · have h := h.2 c8
      refine lv_aload_n (pc := 79) hx hb dX3_finds_79 rfl (lv_at hl 2 rfl) ?_
      refine lv_iload_n (pc := 80) hx hb dX3_finds_80 rfl (lv_at hl 3 rfl) ?_
      refine lv_iload (pc := 81) hx hb dX3_finds_81 (lv_at hl 0 rfl) ?_
      refine lv_iload (pc := 83) hx hb dX3_finds_83 (lv_at hl 1 rfl) ?_
      obtain ⟨g11, h⟩ := h
      refine cj_xi (pc := 85) (cj_runV hcx hW hS 2 g11 (by decide) rfl [.int x1, .int r5, .int r2] h (Nat.le_trans (by decide) (Nat.le_trans hk (Nat.le_of_succ_le hd))) (lw_V q912 q914 qs29 q124 q915) rfl yd_Jn_leaps (by decide) rfl rfl (Nat.le_of_ble_eq_true rfl) hl.1 (Nat.le_refl _) (Nat.le_refl _) dX3_finds_85) hS (fun r9 σ10 h H locs hW hS => ?_)
      refine lv_istore_n (pc := 88) (lv' := [(3, .int r9), (5, .int r5), (4, .int r2), (0, .ref x0), (1, .int x1), (2, .int x2)]) hx hb dX3_finds_88 rfl hl (by decide) rfl (fun ls hl => ?_)
      refine lv_goto (pc := 89) (tgt := 7) hx hb dX3_finds_89 (by decide) ?_
      exact h d hd p e s m args below meth c hcx H locs _ hW hS (lv_sub hl [3, 4, 5, 0] rfl)
    · have h := h.1 c8
      refine lv_aload_n (pc := 33) hx hb dX3_finds_33 rfl (lv_at hl 2 rfl) ?_
      obtain ⟨g12, h⟩ := h
      refine cj_fld (pc := 34) hcx hW 2 g12 (by decide) rfl in_X3 1 (by decide) (by decide) q228 dX3_finds_34 (v := va_rf (cj_R σ6 301 x0)) rfl ?_
      refine lv_aload_n (pc := 37) hx hb dX3_finds_37 rfl (lv_at hl 2 rfl) ?_
      refine cj_fld (pc := 38) hcx hW 2 g12 (by decide) rfl in_X3 2 (by decide) (by decide) q229 dX3_finds_38 (v := va_rf (cj_R σ6 302 x0)) rfl ?_
      refine lv_iload_n (pc := 41) hx hb dX3_finds_41 rfl (lv_at hl 3 rfl) ?_
      obtain ⟨a13, e14, h⟩ := h
      refine cj_stk (st' := [.int x1, .ref a13, va_rf (cj_R σ6 301 x0)]) (by rw [e14]; rfl) ?_
      obtain ⟨g15, h⟩ := h
      obtain ⟨g16, h⟩ := h
      refine cj_iald (pc := 42) hcx hW g15 g16 dX3_finds_42 ?_
      refine lv_iload (pc := 43) hx hb dX3_finds_43 (lv_at hl 1 rfl) ?_
      obtain ⟨a17, e18, h⟩ := h
      refine cj_stk (st' := [.int r2, .int (cj_A σ6 a13 x1.toNatClampNeg), .ref a17]) (by rw [e18]; rfl) ?_
      obtain ⟨g19, h⟩ := h
      obtain ⟨g20, h⟩ := h
      refine cj_iast (pc := 45) hcx hW hS g19 g20 dX3_finds_45 (fun H locs hW hS => ?_)
      refine lv_aload_n (pc := 46) hx hb dX3_finds_46 rfl (lv_at hl 2 rfl) ?_
      refine lv_iload_n (pc := 47) hx hb dX3_finds_47 rfl (lv_at hl 3 rfl) ?_
      refine lv_iload_n (pc := 48) hx hb dX3_finds_48 rfl (lv_at hl 4 rfl) ?_
      refine lv_iconst (pc := 49) (v := (1 : Int32)) hx hb dX3_finds_49 (by decide) ?_
      refine lv_aload_n (pc := 50) hx hb dX3_finds_50 rfl (lv_at hl 2 rfl) ?_
      refine cj_fld (pc := 51) hcx hW 2 g12 (by decide) rfl in_X3 2 (by decide) (by decide) q229 dX3_finds_51 (v := va_rf (cj_R σ6 302 x0)) rfl ?_
      refine lv_iload_n (pc := 54) hx hb dX3_finds_54 rfl (lv_at hl 3 rfl) ?_
      refine cj_stk (st' := [.int x1, .ref a13, .int (1 : Int32), .int x2, .int x1, .ref x0]) (by rw [e14]; rfl) ?_
      obtain ⟨g21, h⟩ := h
      refine cj_iald (pc := 55) hcx hW g15 g21 dX3_finds_55 ?_
      refine lv_ishl (pc := 56) hx hb dX3_finds_56 ?_
      refine lv_ior (pc := 57) hx hb dX3_finds_57 ?_
      refine cj_xv (pc := 58) (cj_runV hcx hW hS 2 g12 (by decide) rfl [.int x1, .int (x2 ||| ((1 : Int32) <<< ((cj_A (cj_sA σ6 a17 (cj_A σ6 a13 x1.toNatClampNeg).toNatClampNeg r2) a13 x1.toNatClampNeg) &&& 31)))] h hd (lw_V q904 q906 qs27 q124 q907) rfl yd_Jn_begins (by decide) rfl rfl (Nat.le_of_ble_eq_true rfl) hl.1 (Nat.le_refl _) (Nat.le_refl _) dX3_finds_58) hS (fun σ23 h H locs hW hS => ?_)
      refine lv_aload_n (pc := 61) hx hb dX3_finds_61 rfl (lv_at hl 2 rfl) ?_
      refine lv_iload_n (pc := 62) hx hb dX3_finds_62 rfl (lv_at hl 3 rfl) ?_
      refine lv_aload_n (pc := 63) hx hb dX3_finds_63 rfl (lv_at hl 2 rfl) ?_
      refine lv_iload_n (pc := 64) hx hb dX3_finds_64 rfl (lv_at hl 3 rfl) ?_
      obtain ⟨g26, h⟩ := h
      refine cj_xi (pc := 65) (cj_runV hcx hW hS 2 g26 (by decide) rfl [.int x1] h (Nat.le_trans (by decide) (Nat.le_trans hk (Nat.le_of_succ_le hd))) (lw_V q908 q910 qs28 q124 q911) rfl yd_Jn_first (by decide) rfl rfl (Nat.le_of_ble_eq_true rfl) hl.1 (Nat.le_refl _) (Nat.le_refl _) dX3_finds_65) hS (fun r24 σ25 h H locs hW hS => ?_)
      refine lv_iload (pc := 68) hx hb dX3_finds_68 (lv_at hl 1 rfl) ?_
      refine lv_iconst (pc := 70) (v := (1 : Int32)) hx hb dX3_finds_70 (by decide) ?_
      refine lv_iadd (pc := 71) hx hb dX3_finds_71 ?_
      obtain ⟨g29, h⟩ := h
      refine cj_xi (pc := 72) (cj_runV hcx hW hS 2 g29 (by decide) rfl [.int x1, .int r24, .int (r2 + (1 : Int32))] h (Nat.le_trans (by decide) (Nat.le_trans hk (Nat.le_of_succ_le hd))) (lw_V q912 q914 qs29 q124 q915) rfl yd_Jn_leaps (by decide) rfl rfl (Nat.le_of_ble_eq_true rfl) hl.1 (Nat.le_refl _) (Nat.le_refl _) dX3_finds_72) hS (fun r27 σ28 h H locs hW hS => ?_)
      refine lv_istore_n (pc := 75) (lv' := [(3, .int r27), (5, .int r5), (4, .int r2), (0, .ref x0), (1, .int x1), (2, .int x2)]) hx hb dX3_finds_75 rfl hl (by decide) rfl (fun ls hl => ?_)
      refine lv_goto (pc := 76) (tgt := 89) hx hb dX3_finds_76 (by decide) ?_
      refine lv_goto (pc := 89) (tgt := 7) hx hb dX3_finds_89 (by decide) ?_
      exact h d hd p e s m args below meth c hcx H locs _ hW hS (lv_sub hl [3, 4, 5, 0] rfl)
set_option maxHeartbeats 4000000 in
set_option maxRecDepth 100000 in
theorem cb_Jn_finds {E : cj_E} {k : Nat} {σ : cj_S} {x0 : Nat} {x1 : Int32} {x2 : Int32} {P : cj_S → Prop} (hk : 8 ≤ k) (h : (cj_T σ x0 = 3 ∧ cs_Jn_stands E σ x0 x1 x2 (fun r1 σ2 => cg_Jn_finds_7 E k σ2 x0 x1 x2 r1 P))) : cs_Jn_finds E (k + 1) σ x0 x1 x2 P :=
  cj_enter (k := k + 1) (lv := [(0, .ref x0), (1, .int x1), (2, .int x2)]) (by decide) (Nat.le_of_ble_eq_true rfl) rfl (by
    intro d hd p e s m args below meth c hcx H locs ls hW hS hl
    have hx := hcx.1
    have hb := hcx.2.1
    have hown := hcx.2.2.2.2.2.1
    have hts := hcx.2.2.2.2.2.2.1
    refine lv_aload_n (pc := 0) hx hb dX3_finds_0 rfl (lv_at hl 0 rfl) ?_
    refine lv_iload_n (pc := 1) hx hb dX3_finds_1 rfl (lv_at hl 1 rfl) ?_
    refine lv_iload_n (pc := 2) hx hb dX3_finds_2 rfl (lv_at hl 2 rfl) ?_
    obtain ⟨g3, h⟩ := h
    refine cj_xi (pc := 3) (cj_runV hcx hW hS 2 g3 (by decide) rfl [.int x1, .int x2] h (Nat.le_trans (by decide) (Nat.le_trans hk (Nat.le_of_succ_le hd))) (lw_V q868 q870 qs21 q124 q871) rfl yd_Jn_stands (by decide) rfl rfl (Nat.le_of_ble_eq_true rfl) hl.1 (Nat.le_refl _) (Nat.le_refl _) dX3_finds_3) hS (fun r1 σ2 h H locs hW hS => ?_)
    refine lv_istore_n (pc := 6) (lv' := [(3, .int r1), (0, .ref x0), (1, .int x1), (2, .int x2)]) hx hb dX3_finds_6 rfl hl (by decide) rfl (fun ls hl => ?_)
    exact h d hd p e s m args below meth c hcx H locs _ hW hS (lv_sub hl [1, 2, 3, 0] rfl))
