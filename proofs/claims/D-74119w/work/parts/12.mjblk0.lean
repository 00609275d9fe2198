/-! areTables -/
set_option maxHeartbeats 4000000 in
set_option maxRecDepth 100000 in
theorem mb_areTables {E : mj_E} {σ : mj_S} {P : Int32 → mj_S → Prop} (hE : mj_ok E) (h : (((mj_F σ 17) ≤ 0 → P (0 : Int32) σ) ∧ (¬ (mj_F σ 17) ≤ 0 → P (1 : Int32) σ))) : ms_areTables E σ P :=
  mj_enter (k := 0) (lv := [(0, .ref (mj_o E))]) hE rfl (Nat.le_of_ble_eq_true rfl) rfl (by
    intro d hd p e s m args below meth c hcx H locs ls hW hS hl
    have hx := hcx.1
    have hb := hcx.2.1
    have hown := hcx.2.2.2.2.2.1
    have hts := hcx.2.2.2.2.2.2.1
    refine lv_aload_n (pc := 0) hx hb dX4_areTables_0 rfl (lv_at hl 0 rfl) ?_
    refine mj_geti (pc := 1) hcx hW 17 (by decide) rfl q1272 dX4_areTables_1 ?_
    refine lv_if_le (pc := 4) (tgt := 11) hx hb dX4_areTables_4 (by decide) (fun c1 => ?_) (fun c1 => ?_)
    · have h := h.1 c1
      refine lv_iconst (pc := 11) (v := (0 : Int32)) hx hb dX4_areTables_11 (by decide) ?_
      exact mj_reti (pc := 12) hcx hW hS rfl h dX4_areTables_12
    · have h := h.2 c1
      refine lv_iconst (pc := 7) (v := (1 : Int32)) hx hb dX4_areTables_7 (by decide) ?_
      refine lv_goto (pc := 8) (tgt := 12) hx hb dX4_areTables_8 (by decide) ?_
      exact mj_reti (pc := 12) hcx hW hS rfl h dX4_areTables_12)
/-! bad -/
set_option maxHeartbeats 4000000 in
set_option maxRecDepth 100000 in
theorem mb_bad {E : mj_E} {σ : mj_S} {P : mj_S → Prop} (hE : mj_ok E) (h : (((mj_F σ 4) = (-1 : Int32) → P (mj_sF σ 4 (mj_F σ 3))) ∧ (¬ (mj_F σ 4) = (-1 : Int32) → P (mj_sF σ 4 (mj_F σ 4))))) : ms_bad E σ P :=
  mj_enter (k := 0) (lv := [(0, .ref (mj_o E))]) hE rfl (Nat.le_of_ble_eq_true rfl) rfl (by
    intro d hd p e s m args below meth c hcx H locs ls hW hS hl
    have hx := hcx.1
    have hb := hcx.2.1
    have hown := hcx.2.2.2.2.2.1
    have hts := hcx.2.2.2.2.2.2.1
    refine lv_aload_n (pc := 0) hx hb dX4_bad_0 rfl (lv_at hl 0 rfl) ?_
    refine lv_aload_n (pc := 1) hx hb dX4_bad_1 rfl (lv_at hl 0 rfl) ?_
    refine mj_geti (pc := 2) hcx hW 4 (by decide) rfl q1259 dX4_bad_2 ?_
    refine lv_iconst (pc := 5) (v := (-1 : Int32)) hx hb dX4_bad_5 (by decide) ?_
    refine lv_icmp_ne (pc := 6) (tgt := 16) hx hb dX4_bad_6 (by decide) (fun c1 => ?_) (fun c1 => ?_)
    · have h := h.2 c1
      refine lv_aload_n (pc := 16) hx hb dX4_bad_16 rfl (lv_at hl 0 rfl) ?_
      refine mj_geti (pc := 17) hcx hW 4 (by decide) rfl q1259 dX4_bad_17 ?_
      refine mj_puti (pc := 20) hcx hW hS 4 (by decide) rfl rfl rfl rfl q1259 dX4_bad_20 (fun H locs hW hS => ?_)
      exact mj_retv (pc := 23) hcx hW hS h dX4_bad_23
    · have h := h.1 c1
      refine lv_aload_n (pc := 9) hx hb dX4_bad_9 rfl (lv_at hl 0 rfl) ?_
      refine mj_geti (pc := 10) hcx hW 3 (by decide) rfl q1258 dX4_bad_10 ?_
      refine lv_goto (pc := 13) (tgt := 20) hx hb dX4_bad_13 (by decide) ?_
      refine mj_puti (pc := 20) hcx hW hS 4 (by decide) rfl rfl rfl rfl q1259 dX4_bad_20 (fun H locs hW hS => ?_)
      exact mj_retv (pc := 23) hcx hW hS h dX4_bad_23)
/-! begins -/
set_option maxHeartbeats 4000000 in
set_option maxRecDepth 100000 in
theorem mb_begins {E : mj_E} {σ : mj_S} {P : mj_S → Prop} (hE : mj_ok E) (h : P (mj_sF (mj_sF σ 3 (0 : Int32)) 4 (-1 : Int32))) : ms_begins E σ P :=
  mj_enter (k := 0) (lv := [(0, .ref (mj_o E))]) hE rfl (Nat.le_of_ble_eq_true rfl) rfl (by
    intro d hd p e s m args below meth c hcx H locs ls hW hS hl
    have hx := hcx.1
    have hb := hcx.2.1
    have hown := hcx.2.2.2.2.2.1
    have hts := hcx.2.2.2.2.2.2.1
    refine lv_aload_n (pc := 0) hx hb dX4_begins_0 rfl (lv_at hl 0 rfl) ?_
    refine lv_iconst (pc := 1) (v := (0 : Int32)) hx hb dX4_begins_1 (by decide) ?_
    refine mj_puti (pc := 2) hcx hW hS 3 (by decide) rfl rfl rfl rfl q1258 dX4_begins_2 (fun H locs hW hS => ?_)
    refine lv_aload_n (pc := 5) hx hb dX4_begins_5 rfl (lv_at hl 0 rfl) ?_
    refine lv_iconst (pc := 6) (v := (-1 : Int32)) hx hb dX4_begins_6 (by decide) ?_
    refine mj_puti (pc := 7) hcx hW hS 4 (by decide) rfl rfl rfl rfl q1259 dX4_begins_7 (fun H locs hW hS => ?_)
    exact mj_retv (pc := 10) hcx hW hS h dX4_begins_10)
/-! bits -/
set_option maxHeartbeats 4000000 in
set_option maxRecDepth 100000 in
theorem mb_bits_4 {E : mj_E} {σ : mj_S} {x0 : Int32} {x1 : Int32} {x2 : Int32} {P : Int32 → mj_S → Prop} (h : (((12 : Int32) ≤ x2 → P x1 σ) ∧ (¬ (12 : Int32) ≤ x2 → mg_bits_4 E σ x0 (x1 + ((x0 >>> (x2 &&& 31)) &&& (1 : Int32))) (x2 + (1 : Int32)) P))) : mg_bits_4 E σ x0 x1 x2 P := by
  intro d hd p e s m args below meth c hcx H locs ls hW hS hl
  have hx := hcx.1
  have hb := hcx.2.1
  have hown := hcx.2.2.2.2.2.1
  have hts := hcx.2.2.2.2.2.2.1
  refine lv_iload_n (pc := 4) hx hb dX4_bits_4 rfl (lv_at hl 2 rfl) ?_
  refine lv_bipush (pc := 5) (v := (12 : Int32)) hx hb dX4_bits_5 (by decide) ?_
  refine lv_icmp_ge (pc := 7) (tgt := 24) hx hb dX4_bits_7 (by decide) (fun c1 => ?_) (fun c1 => ?_)
  · have h := h.1 c1
    refine lv_iload_n (pc := 24) hx hb dX4_bits_24 rfl (lv_at hl 1 rfl) ?_
    exact mj_reti (pc := 25) hcx hW hS rfl h dX4_bits_25
  · have h := h.2 c1
    refine lv_iload_n (pc := 10) hx hb dX4_bits_10 rfl (lv_at hl 1 rfl) ?_
    refine lv_iload_n (pc := 11) hx hb dX4_bits_11 rfl (lv_at hl 0 rfl) ?_
    refine lv_iload_n (pc := 12) hx hb dX4_bits_12 rfl (lv_at hl 2 rfl) ?_
    refine lv_ishr (pc := 13) hx hb dX4_bits_13 ?_
    refine lv_iconst (pc := 14) (v := (1 : Int32)) hx hb dX4_bits_14 (by decide) ?_
    refine lv_iand (pc := 15) hx hb dX4_bits_15 ?_
    refine lv_iadd (pc := 16) hx hb dX4_bits_16 ?_
    refine lv_istore_n (pc := 17) (lv' := [(1, .int (x1 + ((x0 >>> (x2 &&& 31)) &&& (1 : Int32)))), (0, .int x0), (2, .int x2)]) hx hb dX4_bits_17 rfl hl (by decide) rfl (fun ls hl => ?_)
    refine lv_iinc (pc := 18) (v := (x2 + (1 : Int32))) (lv' := [(2, .int (x2 + (1 : Int32))), (1, .int (x1 + ((x0 >>> (x2 &&& 31)) &&& (1 : Int32)))), (0, .int x0)]) hx hb dX4_bits_18 hl (k := 2) rfl rfl (by decide) rfl (fun ls hl => ?_)
    refine lv_goto (pc := 21) (tgt := 4) hx hb dX4_bits_21 (by decide) ?_
    exact h d hd p e s m args below meth c hcx H locs _ hW hS (lv_sub hl [2, 1, 0] rfl)
set_option maxHeartbeats 4000000 in
set_option maxRecDepth 100000 in
theorem mb_bits {E : mj_E} {σ : mj_S} {x0 : Int32} {P : Int32 → mj_S → Prop} (hE : mj_ok E) (h : mg_bits_4 E σ x0 (0 : Int32) (0 : Int32) P) : ms_bits E σ x0 P :=
  mj_enter (k := 0) (lv := [(0, .int x0)]) hE rfl (Nat.le_of_ble_eq_true rfl) rfl (by
    intro d hd p e s m args below meth c hcx H locs ls hW hS hl
    have hx := hcx.1
    have hb := hcx.2.1
    have hown := hcx.2.2.2.2.2.1
    have hts := hcx.2.2.2.2.2.2.1
    refine lv_iconst (pc := 0) (v := (0 : Int32)) hx hb dX4_bits_0 (by decide) ?_
    refine lv_istore_n (pc := 1) (lv' := [(1, .int (0 : Int32)), (0, .int x0)]) hx hb dX4_bits_1 rfl hl (by decide) rfl (fun ls hl => ?_)
    refine lv_iconst (pc := 2) (v := (0 : Int32)) hx hb dX4_bits_2 (by decide) ?_
    refine lv_istore_n (pc := 3) (lv' := [(2, .int (0 : Int32)), (1, .int (0 : Int32)), (0, .int x0)]) hx hb dX4_bits_3 rfl hl (by decide) rfl (fun ls hl => ?_)
    exact h d hd p e s m args below meth c hcx H locs _ hW hS (lv_sub hl [2, 1, 0] rfl))
/-! bringBack -/
set_option maxHeartbeats 4000000 in
set_option maxRecDepth 100000 in
theorem mb_bringBack_2 {E : mj_E} {σ : mj_S} {x1 : Int32} {P : mj_S → Prop} (h : (((150 : Int32) ≤ x1 → P σ) ∧ (¬ (150 : Int32) ≤ x1 → (vp_in x1 150 ∧ (vp_in x1 331 ∧ mg_bringBack_2 E (mj_sA σ 13 x1.toNatClampNeg (mj_A σ 40 x1.toNatClampNeg)) (x1 + (1 : Int32)) P))))) : mg_bringBack_2 E σ x1 P := by
  intro d hd p e s m args below meth c hcx H locs ls hW hS hl
  have hx := hcx.1
  have hb := hcx.2.1
  have hown := hcx.2.2.2.2.2.1
  have hts := hcx.2.2.2.2.2.2.1
  refine lv_iload_n (pc := 2) hx hb dX4_bringBack_2 rfl (lv_at hl 1 rfl) ?_
  refine lv_sipush (pc := 3) (v := (150 : Int32)) hx hb dX4_bringBack_3 (by decide) ?_
  refine lv_icmp_ge (pc := 6) (tgt := 27) hx hb dX4_bringBack_6 (by decide) (fun c1 => ?_) (fun c1 => ?_)
  · have h := h.1 c1
    exact mj_retv (pc := 27) hcx hW hS h dX4_bringBack_27
  · have h := h.2 c1
    refine lv_aload_n (pc := 9) hx hb dX4_bringBack_9 rfl (lv_at hl 0 rfl) ?_
    refine mj_geta (pc := 10) hcx hW 13 (by decide) rfl q1268 dX4_bringBack_10 ?_
    refine lv_iload_n (pc := 13) hx hb dX4_bringBack_13 rfl (lv_at hl 1 rfl) ?_
    refine lv_aload_n (pc := 14) hx hb dX4_bringBack_14 rfl (lv_at hl 0 rfl) ?_
    refine mj_geta (pc := 15) hcx hW 40 (by decide) rfl q1295 dX4_bringBack_15 ?_
    refine lv_iload_n (pc := 18) hx hb dX4_bringBack_18 rfl (lv_at hl 1 rfl) ?_
    obtain ⟨g2, h⟩ := h
    refine mj_ald (pc := 19) hcx hW 40 rfl rfl g2 dX4_bringBack_19 ?_
    obtain ⟨g3, h⟩ := h
    refine mj_ast (pc := 20) hcx hW hS 13 rfl rfl g3 dX4_bringBack_20 (fun H locs hW hS => ?_)
    refine lv_iinc (pc := 21) (v := (x1 + (1 : Int32))) (lv' := [(1, .int (x1 + (1 : Int32))), (0, .ref (mj_o E))]) hx hb dX4_bringBack_21 hl (k := 1) rfl rfl (by decide) rfl (fun ls hl => ?_)
    refine lv_goto (pc := 24) (tgt := 2) hx hb dX4_bringBack_24 (by decide) ?_
    exact h d hd p e s m args below meth c hcx H locs _ hW hS (lv_sub hl [1, 0] rfl)
set_option maxHeartbeats 4000000 in
set_option maxRecDepth 100000 in
theorem mb_bringBack {E : mj_E} {σ : mj_S} {P : mj_S → Prop} (hE : mj_ok E) (h : mg_bringBack_2 E σ (0 : Int32) P) : ms_bringBack E σ P :=
  mj_enter (k := 0) (lv := [(0, .ref (mj_o E))]) hE rfl (Nat.le_of_ble_eq_true rfl) rfl (by
    intro d hd p e s m args below meth c hcx H locs ls hW hS hl
    have hx := hcx.1
    have hb := hcx.2.1
    have hown := hcx.2.2.2.2.2.1
    have hts := hcx.2.2.2.2.2.2.1
    refine lv_iconst (pc := 0) (v := (0 : Int32)) hx hb dX4_bringBack_0 (by decide) ?_
    refine lv_istore_n (pc := 1) (lv' := [(1, .int (0 : Int32)), (0, .ref (mj_o E))]) hx hb dX4_bringBack_1 rfl hl (by decide) rfl (fun ls hl => ?_)
    exact h d hd p e s m args below meth c hcx H locs _ hW hS (lv_sub hl [1, 0] rfl))
/-! byteOf -/
set_option maxHeartbeats 4000000 in
set_option maxRecDepth 100000 in
theorem mb_byteOf {E : mj_E} {σ : mj_S} {x0 : Int32} {x1 : Int32} {x2 : Int32} {x3 : Int32} {x4 : Int32} {x5 : Int32} {P : Int32 → mj_S → Prop} (hE : mj_ok E) (h : (((4 : Int32) ≤ x5 → (((8 : Int32) ≤ x5 → (((12 : Int32) ≤ x5 → (((16 : Int32) ≤ x5 → P ((x4 >>> (((24 : Int32) - ((8 : Int32) * (x5 - x5 / (4 : Int32) * (4 : Int32)))) &&& 31)) &&& (255 : Int32)) σ) ∧ (¬ (16 : Int32) ≤ x5 → P ((x3 >>> (((24 : Int32) - ((8 : Int32) * (x5 - x5 / (4 : Int32) * (4 : Int32)))) &&& 31)) &&& (255 : Int32)) σ))) ∧ (¬ (12 : Int32) ≤ x5 → P ((x2 >>> (((24 : Int32) - ((8 : Int32) * (x5 - x5 / (4 : Int32) * (4 : Int32)))) &&& 31)) &&& (255 : Int32)) σ))) ∧ (¬ (8 : Int32) ≤ x5 → P ((x1 >>> (((24 : Int32) - ((8 : Int32) * (x5 - x5 / (4 : Int32) * (4 : Int32)))) &&& 31)) &&& (255 : Int32)) σ))) ∧ (¬ (4 : Int32) ≤ x5 → P ((x0 >>> (((24 : Int32) - ((8 : Int32) * (x5 - x5 / (4 : Int32) * (4 : Int32)))) &&& 31)) &&& (255 : Int32)) σ))) : ms_byteOf E σ x0 x1 x2 x3 x4 x5 P :=
  mj_enter (k := 0) (lv := [(0, .int x0), (1, .int x1), (2, .int x2), (3, .int x3), (4, .int x4), (5, .int x5)]) hE rfl (Nat.le_of_ble_eq_true rfl) rfl (by
    intro d hd p e s m args below meth c hcx H locs ls hW hS hl
    have hx := hcx.1
    have hb := hcx.2.1
    have hown := hcx.2.2.2.2.2.1
    have hts := hcx.2.2.2.2.2.2.1
    refine lv_iload (pc := 0) hx hb dX4_byteOf_0 (lv_at hl 5 rfl) ?_
    refine lv_iconst (pc := 2) (v := (4 : Int32)) hx hb dX4_byteOf_2 (by decide) ?_
    refine lv_icmp_ge (pc := 3) (tgt := 10) hx hb dX4_byteOf_3 (by decide) (fun c1 => ?_) (fun c1 => ?_)
    · have h := h.1 c1
      refine lv_iload (pc := 10) hx hb dX4_byteOf_10 (lv_at hl 5 rfl) ?_
      refine lv_bipush (pc := 12) (v := (8 : Int32)) hx hb dX4_byteOf_12 (by decide) ?_
      refine lv_icmp_ge (pc := 14) (tgt := 21) hx hb dX4_byteOf_14 (by decide) (fun c2 => ?_) (fun c2 => ?_)
      · have h := h.1 c2
        refine lv_iload (pc := 21) hx hb dX4_byteOf_21 (lv_at hl 5 rfl) ?_
        refine lv_bipush (pc := 23) (v := (12 : Int32)) hx hb dX4_byteOf_23 (by decide) ?_
        refine lv_icmp_ge (pc := 25) (tgt := 32) hx hb dX4_byteOf_25 (by decide) (fun c3 => ?_) (fun c3 => ?_)
        · have h := h.1 c3
          refine lv_iload (pc := 32) hx hb dX4_byteOf_32 (lv_at hl 5 rfl) ?_
          refine lv_bipush (pc := 34) (v := (16 : Int32)) hx hb dX4_byteOf_34 (by decide) ?_
          refine lv_icmp_ge (pc := 36) (tgt := 43) hx hb dX4_byteOf_36 (by decide) (fun c4 => ?_) (fun c4 => ?_)
          · have h := h.1 c4
            refine lv_iload (pc := 43) hx hb dX4_byteOf_43 (lv_at hl 4 rfl) ?_
            refine lv_istore (pc := 45) (lv' := [(6, .int x4), (0, .int x0), (1, .int x1), (2, .int x2), (3, .int x3), (4, .int x4), (5, .int x5)]) hx hb dX4_byteOf_45 hl (by decide) rfl (fun ls hl => ?_)
            refine lv_iload (pc := 47) hx hb dX4_byteOf_47 (lv_at hl 0 rfl) ?_
            refine lv_bipush (pc := 49) (v := (24 : Int32)) hx hb dX4_byteOf_49 (by decide) ?_
            refine lv_bipush (pc := 51) (v := (8 : Int32)) hx hb dX4_byteOf_51 (by decide) ?_
            refine lv_iload (pc := 53) hx hb dX4_byteOf_53 (lv_at hl 6 rfl) ?_
            refine lv_iconst (pc := 55) (v := (4 : Int32)) hx hb dX4_byteOf_55 (by decide) ?_
            refine lv_irem (pc := 56) hx hb dX4_byteOf_56 (by decide) ?_
            refine lv_imul (pc := 57) hx hb dX4_byteOf_57 ?_
            refine lv_isub (pc := 58) hx hb dX4_byteOf_58 ?_
            refine lv_ishr (pc := 59) hx hb dX4_byteOf_59 ?_
            refine lv_sipush (pc := 60) (v := (255 : Int32)) hx hb dX4_byteOf_60 (by decide) ?_
            refine lv_iand (pc := 63) hx hb dX4_byteOf_63 ?_
            exact mj_reti (pc := 64) hcx hW hS rfl h dX4_byteOf_64
          · have h := h.2 c4
            refine lv_iload_n (pc := 39) hx hb dX4_byteOf_39 rfl (lv_at hl 3 rfl) ?_
            refine lv_goto (pc := 40) (tgt := 45) hx hb dX4_byteOf_40 (by decide) ?_
            refine lv_istore (pc := 45) (lv' := [(6, .int x3), (0, .int x0), (1, .int x1), (2, .int x2), (3, .int x3), (4, .int x4), (5, .int x5)]) hx hb dX4_byteOf_45 hl (by decide) rfl (fun ls hl => ?_)
            refine lv_iload (pc := 47) hx hb dX4_byteOf_47 (lv_at hl 0 rfl) ?_
            refine lv_bipush (pc := 49) (v := (24 : Int32)) hx hb dX4_byteOf_49 (by decide) ?_
            refine lv_bipush (pc := 51) (v := (8 : Int32)) hx hb dX4_byteOf_51 (by decide) ?_
            refine lv_iload (pc := 53) hx hb dX4_byteOf_53 (lv_at hl 6 rfl) ?_
            refine lv_iconst (pc := 55) (v := (4 : Int32)) hx hb dX4_byteOf_55 (by decide) ?_
            refine lv_irem (pc := 56) hx hb dX4_byteOf_56 (by decide) ?_
            refine lv_imul (pc := 57) hx hb dX4_byteOf_57 ?_
            refine lv_isub (pc := 58) hx hb dX4_byteOf_58 ?_
            refine lv_ishr (pc := 59) hx hb dX4_byteOf_59 ?_
            refine lv_sipush (pc := 60) (v := (255 : Int32)) hx hb dX4_byteOf_60 (by decide) ?_
            refine lv_iand (pc := 63) hx hb dX4_byteOf_63 ?_
            exact mj_reti (pc := 64) hcx hW hS rfl h dX4_byteOf_64
        · have h := h.2 c3
          refine lv_iload_n (pc := 28) hx hb dX4_byteOf_28 rfl (lv_at hl 2 rfl) ?_
          refine lv_goto (pc := 29) (tgt := 45) hx hb dX4_byteOf_29 (by decide) ?_
          refine lv_istore (pc := 45) (lv' := [(6, .int x2), (0, .int x0), (1, .int x1), (2, .int x2), (3, .int x3), (4, .int x4), (5, .int x5)]) hx hb dX4_byteOf_45 hl (by decide) rfl (fun ls hl => ?_)
          refine lv_iload (pc := 47) hx hb dX4_byteOf_47 (lv_at hl 0 rfl) ?_
          refine lv_bipush (pc := 49) (v := (24 : Int32)) hx hb dX4_byteOf_49 (by decide) ?_
          refine lv_bipush (pc := 51) (v := (8 : Int32)) hx hb dX4_byteOf_51 (by decide) ?_
          refine lv_iload (pc := 53) hx hb dX4_byteOf_53 (lv_at hl 6 rfl) ?_
          refine lv_iconst (pc := 55) (v := (4 : Int32)) hx hb dX4_byteOf_55 (by decide) ?_
          refine lv_irem (pc := 56) hx hb dX4_byteOf_56 (by decide) ?_
          refine lv_imul (pc := 57) hx hb dX4_byteOf_57 ?_
          refine lv_isub (pc := 58) hx hb dX4_byteOf_58 ?_
          refine lv_ishr (pc := 59) hx hb dX4_byteOf_59 ?_
          refine lv_sipush (pc := 60) (v := (255 : Int32)) hx hb dX4_byteOf_60 (by decide) ?_
          refine lv_iand (pc := 63) hx hb dX4_byteOf_63 ?_
          exact mj_reti (pc := 64) hcx hW hS rfl h dX4_byteOf_64
      · have h := h.2 c2
        refine lv_iload_n (pc := 17) hx hb dX4_byteOf_17 rfl (lv_at hl 1 rfl) ?_
        refine lv_goto (pc := 18) (tgt := 45) hx hb dX4_byteOf_18 (by decide) ?_
        refine lv_istore (pc := 45) (lv' := [(6, .int x1), (0, .int x0), (1, .int x1), (2, .int x2), (3, .int x3), (4, .int x4), (5, .int x5)]) hx hb dX4_byteOf_45 hl (by decide) rfl (fun ls hl => ?_)
        refine lv_iload (pc := 47) hx hb dX4_byteOf_47 (lv_at hl 0 rfl) ?_
        refine lv_bipush (pc := 49) (v := (24 : Int32)) hx hb dX4_byteOf_49 (by decide) ?_
        refine lv_bipush (pc := 51) (v := (8 : Int32)) hx hb dX4_byteOf_51 (by decide) ?_
        refine lv_iload (pc := 53) hx hb dX4_byteOf_53 (lv_at hl 6 rfl) ?_
        refine lv_iconst (pc := 55) (v := (4 : Int32)) hx hb dX4_byteOf_55 (by decide) ?_
        refine lv_irem (pc := 56) hx hb dX4_byteOf_56 (by decide) ?_
        refine lv_imul (pc := 57) hx hb dX4_byteOf_57 ?_
        refine lv_isub (pc := 58) hx hb dX4_byteOf_58 ?_
        refine lv_ishr (pc := 59) hx hb dX4_byteOf_59 ?_
        refine lv_sipush (pc := 60) (v := (255 : Int32)) hx hb dX4_byteOf_60 (by decide) ?_
        refine lv_iand (pc := 63) hx hb dX4_byteOf_63 ?_
        exact mj_reti (pc := 64) hcx hW hS rfl h dX4_byteOf_64
    · have h := h.2 c1
      refine lv_iload_n (pc := 6) hx hb dX4_byteOf_6 rfl (lv_at hl 0 rfl) ?_
      refine lv_goto (pc := 7) (tgt := 45) hx hb dX4_byteOf_7 (by decide) ?_
      refine lv_istore (pc := 45) (lv' := [(6, .int x0), (0, .int x0), (1, .int x1), (2, .int x2), (3, .int x3), (4, .int x4), (5, .int x5)]) hx hb dX4_byteOf_45 hl (by decide) rfl (fun ls hl => ?_)
      refine lv_iload (pc := 47) hx hb dX4_byteOf_47 (lv_at hl 0 rfl) ?_
      refine lv_bipush (pc := 49) (v := (24 : Int32)) hx hb dX4_byteOf_49 (by decide) ?_
      refine lv_bipush (pc := 51) (v := (8 : Int32)) hx hb dX4_byteOf_51 (by decide) ?_
      refine lv_iload (pc := 53) hx hb dX4_byteOf_53 (lv_at hl 6 rfl) ?_
      refine lv_iconst (pc := 55) (v := (4 : Int32)) hx hb dX4_byteOf_55 (by decide) ?_
      refine lv_irem (pc := 56) hx hb dX4_byteOf_56 (by decide) ?_
      refine lv_imul (pc := 57) hx hb dX4_byteOf_57 ?_
      refine lv_isub (pc := 58) hx hb dX4_byteOf_58 ?_
      refine lv_ishr (pc := 59) hx hb dX4_byteOf_59 ?_
      refine lv_sipush (pc := 60) (v := (255 : Int32)) hx hb dX4_byteOf_60 (by decide) ?_
      refine lv_iand (pc := 63) hx hb dX4_byteOf_63 ?_
      exact mj_reti (pc := 64) hcx hW hS rfl h dX4_byteOf_64)
/-! columnOf -/
set_option maxHeartbeats 4000000 in
set_option maxRecDepth 100000 in
theorem mb_columnOf_2 {E : mj_E} {σ : mj_S} {x1 : Int32} {x2 : Int32} {x3 : Int32} {P : Int32 → mj_S → Prop} (h : (vp_in x1 4 ∧ (((mj_A σ 15 x1.toNatClampNeg) ≤ x3 → P (-1 : Int32) σ) ∧ (¬ (mj_A σ 15 x1.toNatClampNeg) ≤ x3 → (vp_in (((3 : Int32) * x1) + x3) 12 ∧ (((mj_A σ 16 (((3 : Int32) * x1) + x3).toNatClampNeg) = x2 → P x3 σ) ∧ (¬ (mj_A σ 16 (((3 : Int32) * x1) + x3).toNatClampNeg) = x2 → mg_columnOf_2 E σ x1 x2 (x3 + (1 : Int32)) P))))))) : mg_columnOf_2 E σ x1 x2 x3 P := by
  intro d hd p e s m args below meth c hcx H locs ls hW hS hl
  have hx := hcx.1
  have hb := hcx.2.1
  have hown := hcx.2.2.2.2.2.1
  have hts := hcx.2.2.2.2.2.2.1
  refine lv_iload_n (pc := 2) hx hb dX4_columnOf_2 rfl (lv_at hl 3 rfl) ?_
  refine lv_aload_n (pc := 3) hx hb dX4_columnOf_3 rfl (lv_at hl 0 rfl) ?_
  refine mj_geta (pc := 4) hcx hW 15 (by decide) rfl q1270 dX4_columnOf_4 ?_
  refine lv_iload_n (pc := 7) hx hb dX4_columnOf_7 rfl (lv_at hl 1 rfl) ?_
  obtain ⟨g1, h⟩ := h
  refine mj_ald (pc := 8) hcx hW 15 rfl rfl g1 dX4_columnOf_8 ?_
  refine lv_icmp_ge (pc := 9) (tgt := 34) hx hb dX4_columnOf_9 (by decide) (fun c2 => ?_) (fun c2 => ?_)
  · have h := h.1 c2
    refine lv_iconst (pc := 34) (v := (-1 : Int32)) hx hb dX4_columnOf_34 (by decide) ?_
    exact mj_reti (pc := 35) hcx hW hS rfl h dX4_columnOf_35
  · have h := h.2 c2
    refine lv_aload_n (pc := 12) hx hb dX4_columnOf_12 rfl (lv_at hl 0 rfl) ?_
    refine mj_geta (pc := 13) hcx hW 16 (by decide) rfl q1271 dX4_columnOf_13 ?_
    refine lv_iconst (pc := 16) (v := (3 : Int32)) hx hb dX4_columnOf_16 (by decide) ?_
    refine lv_iload_n (pc := 17) hx hb dX4_columnOf_17 rfl (lv_at hl 1 rfl) ?_
    refine lv_imul (pc := 18) hx hb dX4_columnOf_18 ?_
    refine lv_iload_n (pc := 19) hx hb dX4_columnOf_19 rfl (lv_at hl 3 rfl) ?_
    refine lv_iadd (pc := 20) hx hb dX4_columnOf_20 ?_
    obtain ⟨g3, h⟩ := h
    refine mj_ald (pc := 21) hcx hW 16 rfl rfl g3 dX4_columnOf_21 ?_
    refine lv_iload_n (pc := 22) hx hb dX4_columnOf_22 rfl (lv_at hl 2 rfl) ?_
    refine lv_icmp_ne (pc := 23) (tgt := 28) hx hb dX4_columnOf_23 (by decide) (fun c4 => ?_) (fun c4 => ?_)
    · have h := h.2 c4
      refine lv_iinc (pc := 28) (v := (x3 + (1 : Int32))) (lv' := [(3, .int (x3 + (1 : Int32))), (0, .ref (mj_o E)), (1, .int x1), (2, .int x2)]) hx hb dX4_columnOf_28 hl (k := 3) rfl rfl (by decide) rfl (fun ls hl => ?_)
      refine lv_goto (pc := 31) (tgt := 2) hx hb dX4_columnOf_31 (by decide) ?_
      exact h d hd p e s m args below meth c hcx H locs _ hW hS (lv_sub hl [1, 2, 3, 0] rfl)
    · have h := h.1 c4
      refine lv_iload_n (pc := 26) hx hb dX4_columnOf_26 rfl (lv_at hl 3 rfl) ?_
      exact mj_reti (pc := 27) hcx hW hS rfl h dX4_columnOf_27
set_option maxHeartbeats 4000000 in
set_option maxRecDepth 100000 in
theorem mb_columnOf {E : mj_E} {σ : mj_S} {x1 : Int32} {x2 : Int32} {P : Int32 → mj_S → Prop} (hE : mj_ok E) (h : mg_columnOf_2 E σ x1 x2 (0 : Int32) P) : ms_columnOf E σ x1 x2 P :=
  mj_enter (k := 0) (lv := [(0, .ref (mj_o E)), (1, .int x1), (2, .int x2)]) hE rfl (Nat.le_of_ble_eq_true rfl) rfl (by
    intro d hd p e s m args below meth c hcx H locs ls hW hS hl
    have hx := hcx.1
    have hb := hcx.2.1
    have hown := hcx.2.2.2.2.2.1
    have hts := hcx.2.2.2.2.2.2.1
    refine lv_iconst (pc := 0) (v := (0 : Int32)) hx hb dX4_columnOf_0 (by decide) ?_
    refine lv_istore_n (pc := 1) (lv' := [(3, .int (0 : Int32)), (0, .ref (mj_o E)), (1, .int x1), (2, .int x2)]) hx hb dX4_columnOf_1 rfl hl (by decide) rfl (fun ls hl => ?_)
    exact h d hd p e s m args below meth c hcx H locs _ hW hS (lv_sub hl [1, 2, 3, 0] rfl))
/-! count -/
set_option maxHeartbeats 4000000 in
set_option maxRecDepth 100000 in
theorem mb_count {E : mj_E} {σ : mj_S} {x1 : Int32} {P : Int32 → mj_S → Prop} (hE : mj_ok E) (h : ((x1 = (0 : Int32) → P (mj_F σ 17) σ) ∧ (¬ x1 = (0 : Int32) → ((x1 = (1 : Int32) → P (mj_F σ 12) σ) ∧ (¬ x1 = (1 : Int32) → ((x1 = (2 : Int32) → P (mj_F σ 2) σ) ∧ (¬ x1 = (2 : Int32) → ((x1 = (3 : Int32) → (vp_in (150 : Int32) 331 ∧ P (mj_A σ 13 (150 : Int32).toNatClampNeg) σ)) ∧ (¬ x1 = (3 : Int32) → ((x1 = (4 : Int32) → P (mj_F σ 29) σ) ∧ (¬ x1 = (4 : Int32) → P (-1000000 : Int32) σ))))))))))) : ms_count E σ x1 P :=
  mj_enter (k := 0) (lv := [(0, .ref (mj_o E)), (1, .int x1)]) hE rfl (Nat.le_of_ble_eq_true rfl) rfl (by
    intro d hd p e s m args below meth c hcx H locs ls hW hS hl
    have hx := hcx.1
    have hb := hcx.2.1
    have hown := hcx.2.2.2.2.2.1
    have hts := hcx.2.2.2.2.2.2.1
    refine lv_iload_n (pc := 0) hx hb dX4_count_0 rfl (lv_at hl 1 rfl) ?_
    by_cases c1 : x1 = (0 : Int32)
    · have h := h.1 c1
      refine lv_tableIn (pc := 1) (off := 35) (tgt := 36) hx hb dX4_count_1 (by rw [c1]; decide) (by rw [c1]; decide) (by rw [c1]; rfl) (by decide) ?_
      refine lv_aload_n (pc := 36) hx hb dX4_count_36 rfl (lv_at hl 0 rfl) ?_
      refine mj_geti (pc := 37) hcx hW 17 (by decide) rfl q1272 dX4_count_37 ?_
      exact mj_reti (pc := 40) hcx hW hS rfl h dX4_count_40
    · have h := h.2 c1
      by_cases c2 : x1 = (1 : Int32)
      · have h := h.1 c2
        refine lv_tableIn (pc := 1) (off := 40) (tgt := 41) hx hb dX4_count_1 (by rw [c2]; decide) (by rw [c2]; decide) (by rw [c2]; rfl) (by decide) ?_
        refine lv_aload_n (pc := 41) hx hb dX4_count_41 rfl (lv_at hl 0 rfl) ?_
        refine mj_geti (pc := 42) hcx hW 12 (by decide) rfl q1267 dX4_count_42 ?_
        exact mj_reti (pc := 45) hcx hW hS rfl h dX4_count_45
      · have h := h.2 c2
        by_cases c3 : x1 = (2 : Int32)
        · have h := h.1 c3
          refine lv_tableIn (pc := 1) (off := 45) (tgt := 46) hx hb dX4_count_1 (by rw [c3]; decide) (by rw [c3]; decide) (by rw [c3]; rfl) (by decide) ?_
          refine lv_aload_n (pc := 46) hx hb dX4_count_46 rfl (lv_at hl 0 rfl) ?_
          refine mj_geti (pc := 47) hcx hW 2 (by decide) rfl q1257 dX4_count_47 ?_
          exact mj_reti (pc := 50) hcx hW hS rfl h dX4_count_50
        · have h := h.2 c3
          by_cases c4 : x1 = (3 : Int32)
          · have h := h.1 c4
            refine lv_tableIn (pc := 1) (off := 50) (tgt := 51) hx hb dX4_count_1 (by rw [c4]; decide) (by rw [c4]; decide) (by rw [c4]; rfl) (by decide) ?_
            refine lv_aload_n (pc := 51) hx hb dX4_count_51 rfl (lv_at hl 0 rfl) ?_
            refine mj_geta (pc := 52) hcx hW 13 (by decide) rfl q1268 dX4_count_52 ?_
            refine lv_sipush (pc := 55) (v := (150 : Int32)) hx hb dX4_count_55 (by decide) ?_
            obtain ⟨g5, h⟩ := h
            refine mj_ald (pc := 58) hcx hW 13 rfl rfl g5 dX4_count_58 ?_
            exact mj_reti (pc := 59) hcx hW hS rfl h dX4_count_59
          · have h := h.2 c4
            by_cases c6 : x1 = (4 : Int32)
            · have h := h.1 c6
              refine lv_tableIn (pc := 1) (off := 59) (tgt := 60) hx hb dX4_count_1 (by rw [c6]; decide) (by rw [c6]; decide) (by rw [c6]; rfl) (by decide) ?_
              refine lv_aload_n (pc := 60) hx hb dX4_count_60 rfl (lv_at hl 0 rfl) ?_
              refine mj_geti (pc := 61) hcx hW 29 (by decide) rfl q1284 dX4_count_61 ?_
              exact mj_reti (pc := 64) hcx hW hS rfl h dX4_count_64
            · have h := h.2 c6
              refine lv_tableOut (pc := 1) (tgt := 65) hx hb dX4_count_1 (mj_sw5 c1 c2 c3 c4 c6) (by decide) ?_
              refine lv_ldcw (pc := 65) (v := (-1000000 : Int32)) hx hb hown (hts _ q1676) dX4_count_65 ?_
              exact mj_reti (pc := 68) hcx hW hS rfl h dX4_count_68)
/-! draw -/
set_option maxHeartbeats 4000000 in
set_option maxRecDepth 100000 in
theorem mb_draw {E : mj_E} {σ : mj_S} {x1 : Int32} {P : Int32 → mj_S → Prop} (hE : mj_ok E) (h : (¬ (x1).toInt64 = 0 ∧ P (((((mj_J (mj_sJ σ (((mj_J σ) * (6364136223846793005 : Int64)) + (1442695040888963407 : Int64)))).toUInt64 >>> ((33 : Int32).toInt64.toUInt64 &&& Int64.toUInt64 63)).toInt64) - (((mj_J (mj_sJ σ (((mj_J σ) * (6364136223846793005 : Int64)) + (1442695040888963407 : Int64)))).toUInt64 >>> ((33 : Int32).toInt64.toUInt64 &&& Int64.toUInt64 63)).toInt64) / (x1).toInt64 * (x1).toInt64)).toInt32 (mj_sJ σ (((mj_J σ) * (6364136223846793005 : Int64)) + (1442695040888963407 : Int64))))) : ms_draw E σ x1 P :=
  mj_enter (k := 0) (lv := [(0, .ref (mj_o E)), (1, .int x1)]) hE rfl (Nat.le_of_ble_eq_true rfl) rfl (by
    intro d hd p e s m args below meth c hcx H locs ls hW hS hl
    have hx := hcx.1
    have hb := hcx.2.1
    have hown := hcx.2.2.2.2.2.1
    have hts := hcx.2.2.2.2.2.2.1
    refine lv_aload_n (pc := 0) hx hb dX4_draw_0 rfl (lv_at hl 0 rfl) ?_
    refine lv_aload_n (pc := 1) hx hb dX4_draw_1 rfl (lv_at hl 0 rfl) ?_
    refine mj_getl (pc := 2) hcx hW q1285 dX4_draw_2 ?_
    refine lv_ldc2 (pc := 5) (v := (6364136223846793005 : Int64)) hx hb hown (hts _ q1658) dX4_draw_5 ?_
    refine lv_lmul (pc := 8) hx hb dX4_draw_8 ?_
    refine lv_ldc2 (pc := 9) (v := (1442695040888963407 : Int64)) hx hb hown (hts _ q1659) dX4_draw_9 ?_
    refine lv_ladd (pc := 12) hx hb dX4_draw_12 ?_
    refine mj_putl (pc := 13) hcx hW hS q1285 dX4_draw_13 (fun H locs hW hS => ?_)
    refine lv_aload_n (pc := 16) hx hb dX4_draw_16 rfl (lv_at hl 0 rfl) ?_
    refine mj_getl (pc := 17) hcx hW q1285 dX4_draw_17 ?_
    refine lv_bipush (pc := 20) (v := (33 : Int32)) hx hb dX4_draw_20 (by decide) ?_
    refine lv_lushr (pc := 22) hx hb dX4_draw_22 rfl ?_
    refine lv_iload_n (pc := 23) hx hb dX4_draw_23 rfl (lv_at hl 1 rfl) ?_
    refine lv_i2l (pc := 24) hx hb dX4_draw_24 rfl ?_
    obtain ⟨g1, h⟩ := h
    refine lv_lrem (pc := 25) hx hb dX4_draw_25 g1 ?_
    refine lv_l2i (pc := 26) hx hb dX4_draw_26 rfl ?_
    exact mj_reti (pc := 27) hcx hW hS rfl h dX4_draw_27)
/-! extremeOf -/
set_option maxHeartbeats 4000000 in
set_option maxRecDepth 100000 in
theorem mb_extremeOf_5 {E : mj_E} {σ : mj_S} {x1 : Int32} {x2 : Int32} {x3 : Int32} {x4 : Int32} {P : Int32 → mj_S → Prop} (h : (((100 : Int32) ≤ x4 → P x3 σ) ∧ (¬ (100 : Int32) ≤ x4 → (vp_in (((100 : Int32) * x1) + x4) 400 ∧ (((mj_A σ 34 (((100 : Int32) * x1) + x4).toNatClampNeg) ≤ 0 → (((0 : Int32) = 0 → mg_extremeOf_5 E σ x1 x2 x3 (x4 + (1 : Int32)) P) ∧ (¬ (0 : Int32) = 0 → mg_extremeOf_5 E σ x1 x2 x4 (x4 + (1 : Int32)) P))) ∧ (¬ (mj_A σ 34 (((100 : Int32) * x1) + x4).toNatClampNeg) ≤ 0 → ((x3 = (-1 : Int32) → (((1 : Int32) = 0 → mg_extremeOf_5 E σ x1 x2 x3 (x4 + (1 : Int32)) P) ∧ (¬ (1 : Int32) = 0 → mg_extremeOf_5 E σ x1 x2 x4 (x4 + (1 : Int32)) P))) ∧ (¬ x3 = (-1 : Int32) → ((x2 = (2 : Int32) → (((1 : Int32) = 0 → mg_extremeOf_5 E σ x1 x2 x3 (x4 + (1 : Int32)) P) ∧ (¬ (1 : Int32) = 0 → mg_extremeOf_5 E σ x1 x2 x4 (x4 + (1 : Int32)) P))) ∧ (¬ x2 = (2 : Int32) → ((x2 = (3 : Int32) → (vp_in (((100 : Int32) * x1) + x3) 400 ∧ (((mj_A σ 34 (((100 : Int32) * x1) + x4).toNatClampNeg) ≤ (mj_A σ 34 (((100 : Int32) * x1) + x3).toNatClampNeg) → (((0 : Int32) = 0 → mg_extremeOf_5 E σ x1 x2 x3 (x4 + (1 : Int32)) P) ∧ (¬ (0 : Int32) = 0 → mg_extremeOf_5 E σ x1 x2 x4 (x4 + (1 : Int32)) P))) ∧ (¬ (mj_A σ 34 (((100 : Int32) * x1) + x4).toNatClampNeg) ≤ (mj_A σ 34 (((100 : Int32) * x1) + x3).toNatClampNeg) → (((1 : Int32) = 0 → mg_extremeOf_5 E σ x1 x2 x3 (x4 + (1 : Int32)) P) ∧ (¬ (1 : Int32) = 0 → mg_extremeOf_5 E σ x1 x2 x4 (x4 + (1 : Int32)) P)))))) ∧ (¬ x2 = (3 : Int32) → (((0 : Int32) = 0 → mg_extremeOf_5 E σ x1 x2 x3 (x4 + (1 : Int32)) P) ∧ (¬ (0 : Int32) = 0 → mg_extremeOf_5 E σ x1 x2 x4 (x4 + (1 : Int32)) P)))))))))))))) : mg_extremeOf_5 E σ x1 x2 x3 x4 P := by
  intro d hd p e s m args below meth c hcx H locs ls hW hS hl
  have hx := hcx.1
  have hb := hcx.2.1
  have hown := hcx.2.2.2.2.2.1
  have hts := hcx.2.2.2.2.2.2.1
  refine lv_iload (pc := 5) hx hb dX4_extremeOf_5 (lv_at hl 4 rfl) ?_
  refine lv_bipush (pc := 7) (v := (100 : Int32)) hx hb dX4_extremeOf_7 (by decide) ?_
  refine lv_icmp_ge (pc := 9) (tgt := 87) hx hb dX4_extremeOf_9 (by decide) (fun c1 => ?_) (fun c1 => ?_)
  · have h := h.1 c1
    refine lv_iload_n (pc := 87) hx hb dX4_extremeOf_87 rfl (lv_at hl 3 rfl) ?_
    exact mj_reti (pc := 88) hcx hW hS rfl h dX4_extremeOf_88
  · have h := h.2 c1
    refine lv_aload_n (pc := 12) hx hb dX4_extremeOf_12 rfl (lv_at hl 0 rfl) ?_
    refine mj_geta (pc := 13) hcx hW 34 (by decide) rfl q1289 dX4_extremeOf_13 ?_
    refine lv_bipush (pc := 16) (v := (100 : Int32)) hx hb dX4_extremeOf_16 (by decide) ?_
    refine lv_iload_n (pc := 18) hx hb dX4_extremeOf_18 rfl (lv_at hl 1 rfl) ?_
    refine lv_imul (pc := 19) hx hb dX4_extremeOf_19 ?_
    refine lv_iload (pc := 20) hx hb dX4_extremeOf_20 (lv_at hl 4 rfl) ?_
    refine lv_iadd (pc := 22) hx hb dX4_extremeOf_22 ?_
    obtain ⟨g2, h⟩ := h
    refine mj_ald (pc := 23) hcx hW 34 rfl rfl g2 dX4_extremeOf_23 ?_
    refine lv_istore (pc := 24) (lv' := [(5, .int (mj_A σ 34 (((100 : Int32) * x1) + x4).toNatClampNeg)), (0, .ref (mj_o E)), (1, .int x1), (2, .int x2), (3, .int x3), (4, .int x4)]) hx hb dX4_extremeOf_24 hl (by decide) rfl (fun ls hl => ?_)
    refine lv_iload (pc := 26) hx hb dX4_extremeOf_26 (lv_at hl 0 rfl) ?_
    refine lv_if_le (pc := 28) (tgt := 66) hx hb dX4_extremeOf_28 (by decide) (fun c3 => ?_) (fun c3 => ?_)
    · have h := h.1 c3
      refine lv_iconst (pc := 66) (v := (0 : Int32)) hx hb dX4_extremeOf_66 (by decide) ?_
      refine lv_istore (pc := 67) (lv' := [(6, .int (0 : Int32)), (5, .int (mj_A σ 34 (((100 : Int32) * x1) + x4).toNatClampNeg)), (0, .ref (mj_o E)), (1, .int x1), (2, .int x2), (3, .int x3), (4, .int x4)]) hx hb dX4_extremeOf_67 hl (by decide) rfl (fun ls hl => ?_)
      refine lv_iload (pc := 69) hx hb dX4_extremeOf_69 (lv_at hl 0 rfl) ?_
      refine lv_if_eq (pc := 71) (tgt := 79) hx hb dX4_extremeOf_71 (by decide) (fun c4 => ?_) (fun c4 => ?_)
      · have h := h.1 c4
        refine lv_iload_n (pc := 79) hx hb dX4_extremeOf_79 rfl (lv_at hl 5 rfl) ?_
        refine lv_istore_n (pc := 80) (lv' := [(3, .int x3), (6, .int (0 : Int32)), (5, .int (mj_A σ 34 (((100 : Int32) * x1) + x4).toNatClampNeg)), (0, .ref (mj_o E)), (1, .int x1), (2, .int x2), (4, .int x4)]) hx hb dX4_extremeOf_80 rfl hl (by decide) rfl (fun ls hl => ?_)
        refine lv_iinc (pc := 81) (v := (x4 + (1 : Int32))) (lv' := [(4, .int (x4 + (1 : Int32))), (3, .int x3), (6, .int (0 : Int32)), (5, .int (mj_A σ 34 (((100 : Int32) * x1) + x4).toNatClampNeg)), (0, .ref (mj_o E)), (1, .int x1), (2, .int x2)]) hx hb dX4_extremeOf_81 hl (k := 6) rfl rfl (by decide) rfl (fun ls hl => ?_)
        refine lv_goto (pc := 84) (tgt := 5) hx hb dX4_extremeOf_84 (by decide) ?_
        exact h d hd p e s m args below meth c hcx H locs _ hW hS (lv_sub hl [4, 5, 6, 1, 0] rfl)
      · have h := h.2 c4
        refine lv_iload (pc := 74) hx hb dX4_extremeOf_74 (lv_at hl 6 rfl) ?_
        refine lv_goto (pc := 76) (tgt := 80) hx hb dX4_extremeOf_76 (by decide) ?_
        refine lv_istore_n (pc := 80) (lv' := [(3, .int x4), (6, .int (0 : Int32)), (5, .int (mj_A σ 34 (((100 : Int32) * x1) + x4).toNatClampNeg)), (0, .ref (mj_o E)), (1, .int x1), (2, .int x2), (4, .int x4)]) hx hb dX4_extremeOf_80 rfl hl (by decide) rfl (fun ls hl => ?_)
        refine lv_iinc (pc := 81) (v := (x4 + (1 : Int32))) (lv' := [(4, .int (x4 + (1 : Int32))), (3, .int x4), (6, .int (0 : Int32)), (5, .int (mj_A σ 34 (((100 : Int32) * x1) + x4).toNatClampNeg)), (0, .ref (mj_o E)), (1, .int x1), (2, .int x2)]) hx hb dX4_extremeOf_81 hl (k := 6) rfl rfl (by decide) rfl (fun ls hl => ?_)
        refine lv_goto (pc := 84) (tgt := 5) hx hb dX4_extremeOf_84 (by decide) ?_
        exact h d hd p e s m args below meth c hcx H locs _ hW hS (lv_sub hl [4, 5, 6, 1, 0] rfl)
    · have h := h.2 c3
      refine lv_iload_n (pc := 31) hx hb dX4_extremeOf_31 rfl (lv_at hl 4 rfl) ?_
      refine lv_iconst (pc := 32) (v := (-1 : Int32)) hx hb dX4_extremeOf_32 (by decide) ?_
      refine lv_icmp_eq (pc := 33) (tgt := 62) hx hb dX4_extremeOf_33 (by decide) (fun c5 => ?_) (fun c5 => ?_)
      · have h := h.1 c5
        refine lv_iconst (pc := 62) (v := (1 : Int32)) hx hb dX4_extremeOf_62 (by decide) ?_
        refine lv_goto (pc := 63) (tgt := 67) hx hb dX4_extremeOf_63 (by decide) ?_
        refine lv_istore (pc := 67) (lv' := [(6, .int (1 : Int32)), (5, .int (mj_A σ 34 (((100 : Int32) * x1) + x4).toNatClampNeg)), (0, .ref (mj_o E)), (1, .int x1), (2, .int x2), (3, .int x3), (4, .int x4)]) hx hb dX4_extremeOf_67 hl (by decide) rfl (fun ls hl => ?_)
        refine lv_iload (pc := 69) hx hb dX4_extremeOf_69 (lv_at hl 0 rfl) ?_
        refine lv_if_eq (pc := 71) (tgt := 79) hx hb dX4_extremeOf_71 (by decide) (fun c6 => ?_) (fun c6 => ?_)
        · have h := h.1 c6
          refine lv_iload_n (pc := 79) hx hb dX4_extremeOf_79 rfl (lv_at hl 5 rfl) ?_
          refine lv_istore_n (pc := 80) (lv' := [(3, .int x3), (6, .int (1 : Int32)), (5, .int (mj_A σ 34 (((100 : Int32) * x1) + x4).toNatClampNeg)), (0, .ref (mj_o E)), (1, .int x1), (2, .int x2), (4, .int x4)]) hx hb dX4_extremeOf_80 rfl hl (by decide) rfl (fun ls hl => ?_)
          refine lv_iinc (pc := 81) (v := (x4 + (1 : Int32))) (lv' := [(4, .int (x4 + (1 : Int32))), (3, .int x3), (6, .int (1 : Int32)), (5, .int (mj_A σ 34 (((100 : Int32) * x1) + x4).toNatClampNeg)), (0, .ref (mj_o E)), (1, .int x1), (2, .int x2)]) hx hb dX4_extremeOf_81 hl (k := 6) rfl rfl (by decide) rfl (fun ls hl => ?_)
          refine lv_goto (pc := 84) (tgt := 5) hx hb dX4_extremeOf_84 (by decide) ?_
          exact h d hd p e s m args below meth c hcx H locs _ hW hS (lv_sub hl [4, 5, 6, 1, 0] rfl)
        · have h := h.2 c6
          refine lv_iload (pc := 74) hx hb dX4_extremeOf_74 (lv_at hl 6 rfl) ?_
          refine lv_goto (pc := 76) (tgt := 80) hx hb dX4_extremeOf_76 (by decide) ?_
          refine lv_istore_n (pc := 80) (lv' := [(3, .int x4), (6, .int (1 : Int32)), (5, .int (mj_A σ 34 (((100 : Int32) * x1) + x4).toNatClampNeg)), (0, .ref (mj_o E)), (1, .int x1), (2, .int x2), (4, .int x4)]) hx hb dX4_extremeOf_80 rfl hl (by decide) rfl (fun ls hl => ?_)
          refine lv_iinc (pc := 81) (v := (x4 + (1 : Int32))) (lv' := [(4, .int (x4 + (1 : Int32))), (3, .int x4), (6, .int (1 : Int32)), (5, .int (mj_A σ 34 (((100 : Int32) * x1) + x4).toNatClampNeg)), (0, .ref (mj_o E)), (1, .int x1), (2, .int x2)]) hx hb dX4_extremeOf_81 hl (k := 6) rfl rfl (by decide) rfl (fun ls hl => ?_)
          refine lv_goto (pc := 84) (tgt := 5) hx hb dX4_extremeOf_84 (by decide) ?_
          exact h d hd p e s m args below meth c hcx H locs _ hW hS (lv_sub hl [4, 5, 6, 1, 0] rfl)
      · have h := h.2 c5
        refine lv_iload_n (pc := 36) hx hb dX4_extremeOf_36 rfl (lv_at hl 3 rfl) ?_
        refine lv_iconst (pc := 37) (v := (2 : Int32)) hx hb dX4_extremeOf_37 (by decide) ?_
        refine lv_icmp_eq (pc := 38) (tgt := 62) hx hb dX4_extremeOf_38 (by decide) (fun c7 => ?_) (fun c7 => ?_)
        · have h := h.1 c7
          refine lv_iconst (pc := 62) (v := (1 : Int32)) hx hb dX4_extremeOf_62 (by decide) ?_
          refine lv_goto (pc := 63) (tgt := 67) hx hb dX4_extremeOf_63 (by decide) ?_
          refine lv_istore (pc := 67) (lv' := [(6, .int (1 : Int32)), (5, .int (mj_A σ 34 (((100 : Int32) * x1) + x4).toNatClampNeg)), (0, .ref (mj_o E)), (1, .int x1), (2, .int x2), (3, .int x3), (4, .int x4)]) hx hb dX4_extremeOf_67 hl (by decide) rfl (fun ls hl => ?_)
          refine lv_iload (pc := 69) hx hb dX4_extremeOf_69 (lv_at hl 0 rfl) ?_
          refine lv_if_eq (pc := 71) (tgt := 79) hx hb dX4_extremeOf_71 (by decide) (fun c8 => ?_) (fun c8 => ?_)
          · have h := h.1 c8
            refine lv_iload_n (pc := 79) hx hb dX4_extremeOf_79 rfl (lv_at hl 5 rfl) ?_
            refine lv_istore_n (pc := 80) (lv' := [(3, .int x3), (6, .int (1 : Int32)), (5, .int (mj_A σ 34 (((100 : Int32) * x1) + x4).toNatClampNeg)), (0, .ref (mj_o E)), (1, .int x1), (2, .int x2), (4, .int x4)]) hx hb dX4_extremeOf_80 rfl hl (by decide) rfl (fun ls hl => ?_)
            refine lv_iinc (pc := 81) (v := (x4 + (1 : Int32))) (lv' := [(4, .int (x4 + (1 : Int32))), (3, .int x3), (6, .int (1 : Int32)), (5, .int (mj_A σ 34 (((100 : Int32) * x1) + x4).toNatClampNeg)), (0, .ref (mj_o E)), (1, .int x1), (2, .int x2)]) hx hb dX4_extremeOf_81 hl (k := 6) rfl rfl (by decide) rfl (fun ls hl => ?_)
            refine lv_goto (pc := 84) (tgt := 5) hx hb dX4_extremeOf_84 (by decide) ?_
            exact h d hd p e s m args below meth c hcx H locs _ hW hS (lv_sub hl [4, 5, 6, 1, 0] rfl)
          · have h := h.2 c8
            refine lv_iload (pc := 74) hx hb dX4_extremeOf_74 (lv_at hl 6 rfl) ?_
            refine lv_goto (pc := 76) (tgt := 80) hx hb dX4_extremeOf_76 (by decide) ?_
            refine lv_istore_n (pc := 80) (lv' := [(3, .int x4), (6, .int (1 : Int32)), (5, .int (mj_A σ 34 (((100 : Int32) * x1) + x4).toNatClampNeg)), (0, .ref (mj_o E)), (1, .int x1), (2, .int x2), (4, .int x4)]) hx hb dX4_extremeOf_80 rfl hl (by decide) rfl (fun ls hl => ?_)
            refine lv_iinc (pc := 81) (v := (x4 + (1 : Int32))) (lv' := [(4, .int (x4 + (1 : Int32))), (3, .int x4), (6, .int (1 : Int32)), (5, .int (mj_A σ 34 (((100 : Int32) * x1) + x4).toNatClampNeg)), (0, .ref (mj_o E)), (1, .int x1), (2, .int x2)]) hx hb dX4_extremeOf_81 hl (k := 6) rfl rfl (by decide) rfl (fun ls hl => ?_)
            refine lv_goto (pc := 84) (tgt := 5) hx hb dX4_extremeOf_84 (by decide) ?_
            exact h d hd p e s m args below meth c hcx H locs _ hW hS (lv_sub hl [4, 5, 6, 1, 0] rfl)
        · have h := h.2 c7
          refine lv_iload_n (pc := 41) hx hb dX4_extremeOf_41 rfl (lv_at hl 3 rfl) ?_
          refine lv_iconst (pc := 42) (v := (3 : Int32)) hx hb dX4_extremeOf_42 (by decide) ?_
          refine lv_icmp_ne (pc := 43) (tgt := 66) hx hb dX4_extremeOf_43 (by decide) (fun c9 => ?_) (fun c9 => ?_)
          · have h := h.2 c9
            refine lv_iconst (pc := 66) (v := (0 : Int32)) hx hb dX4_extremeOf_66 (by decide) ?_
            refine lv_istore (pc := 67) (lv' := [(6, .int (0 : Int32)), (5, .int (mj_A σ 34 (((100 : Int32) * x1) + x4).toNatClampNeg)), (0, .ref (mj_o E)), (1, .int x1), (2, .int x2), (3, .int x3), (4, .int x4)]) hx hb dX4_extremeOf_67 hl (by decide) rfl (fun ls hl => ?_)
            refine lv_iload (pc := 69) hx hb dX4_extremeOf_69 (lv_at hl 0 rfl) ?_
            refine lv_if_eq (pc := 71) (tgt := 79) hx hb dX4_extremeOf_71 (by decide) (fun c10 => ?_) (fun c10 => ?_)
            · have h := h.1 c10
              refine lv_iload_n (pc := 79) hx hb dX4_extremeOf_79 rfl (lv_at hl 5 rfl) ?_
              refine lv_istore_n (pc := 80) (lv' := [(3, .int x3), (6, .int (0 : Int32)), (5, .int (mj_A σ 34 (((100 : Int32) * x1) + x4).toNatClampNeg)), (0, .ref (mj_o E)), (1, .int x1), (2, .int x2), (4, .int x4)]) hx hb dX4_extremeOf_80 rfl hl (by decide) rfl (fun ls hl => ?_)
              refine lv_iinc (pc := 81) (v := (x4 + (1 : Int32))) (lv' := [(4, .int (x4 + (1 : Int32))), (3, .int x3), (6, .int (0 : Int32)), (5, .int (mj_A σ 34 (((100 : Int32) * x1) + x4).toNatClampNeg)), (0, .ref (mj_o E)), (1, .int x1), (2, .int x2)]) hx hb dX4_extremeOf_81 hl (k := 6) rfl rfl (by decide) rfl (fun ls hl => ?_)
              refine lv_goto (pc := 84) (tgt := 5) hx hb dX4_extremeOf_84 (by decide) ?_
              exact h d hd p e s m args below meth c hcx H locs _ hW hS (lv_sub hl [4, 5, 6, 1, 0] rfl)
            · have h := h.2 c10
              refine lv_iload (pc := 74) hx hb dX4_extremeOf_74 (lv_at hl 6 rfl) ?_
              refine lv_goto (pc := 76) (tgt := 80) hx hb dX4_extremeOf_76 (by decide) ?_
              refine lv_istore_n (pc := 80) (lv' := [(3, .int x4), (6, .int (0 : Int32)), (5, .int (mj_A σ 34 (((100 : Int32) * x1) + x4).toNatClampNeg)), (0, .ref (mj_o E)), (1, .int x1), (2, .int x2), (4, .int x4)]) hx hb dX4_extremeOf_80 rfl hl (by decide) rfl (fun ls hl => ?_)
              refine lv_iinc (pc := 81) (v := (x4 + (1 : Int32))) (lv' := [(4, .int (x4 + (1 : Int32))), (3, .int x4), (6, .int (0 : Int32)), (5, .int (mj_A σ 34 (((100 : Int32) * x1) + x4).toNatClampNeg)), (0, .ref (mj_o E)), (1, .int x1), (2, .int x2)]) hx hb dX4_extremeOf_81 hl (k := 6) rfl rfl (by decide) rfl (fun ls hl => ?_)
              refine lv_goto (pc := 84) (tgt := 5) hx hb dX4_extremeOf_84 (by decide) ?_
              exact h d hd p e s m args below meth c hcx H locs _ hW hS (lv_sub hl [4, 5, 6, 1, 0] rfl)
          · have h := h.1 c9
            refine lv_iload (pc := 46) hx hb dX4_extremeOf_46 (lv_at hl 0 rfl) ?_
            refine lv_aload_n (pc := 48) hx hb dX4_extremeOf_48 rfl (lv_at hl 1 rfl) ?_
            refine mj_geta (pc := 49) hcx hW 34 (by decide) rfl q1289 dX4_extremeOf_49 ?_
            refine lv_bipush (pc := 52) (v := (100 : Int32)) hx hb dX4_extremeOf_52 (by decide) ?_
            refine lv_iload_n (pc := 54) hx hb dX4_extremeOf_54 rfl (lv_at hl 2 rfl) ?_
            refine lv_imul (pc := 55) hx hb dX4_extremeOf_55 ?_
            refine lv_iload_n (pc := 56) hx hb dX4_extremeOf_56 rfl (lv_at hl 4 rfl) ?_
            refine lv_iadd (pc := 57) hx hb dX4_extremeOf_57 ?_
            obtain ⟨g11, h⟩ := h
            refine mj_ald (pc := 58) hcx hW 34 rfl rfl g11 dX4_extremeOf_58 ?_
            refine lv_icmp_le (pc := 59) (tgt := 66) hx hb dX4_extremeOf_59 (by decide) (fun c12 => ?_) (fun c12 => ?_)
            · have h := h.1 c12
              refine lv_iconst (pc := 66) (v := (0 : Int32)) hx hb dX4_extremeOf_66 (by decide) ?_
              refine lv_istore (pc := 67) (lv' := [(6, .int (0 : Int32)), (5, .int (mj_A σ 34 (((100 : Int32) * x1) + x4).toNatClampNeg)), (0, .ref (mj_o E)), (1, .int x1), (2, .int x2), (3, .int x3), (4, .int x4)]) hx hb dX4_extremeOf_67 hl (by decide) rfl (fun ls hl => ?_)
              refine lv_iload (pc := 69) hx hb dX4_extremeOf_69 (lv_at hl 0 rfl) ?_
              refine lv_if_eq (pc := 71) (tgt := 79) hx hb dX4_extremeOf_71 (by decide) (fun c13 => ?_) (fun c13 => ?_)
              · have h := h.1 c13
                refine lv_iload_n (pc := 79) hx hb dX4_extremeOf_79 rfl (lv_at hl 5 rfl) ?_
                refine lv_istore_n (pc := 80) (lv' := [(3, .int x3), (6, .int (0 : Int32)), (5, .int (mj_A σ 34 (((100 : Int32) * x1) + x4).toNatClampNeg)), (0, .ref (mj_o E)), (1, .int x1), (2, .int x2), (4, .int x4)]) hx hb dX4_extremeOf_80 rfl hl (by decide) rfl (fun ls hl => ?_)
                refine lv_iinc (pc := 81) (v := (x4 + (1 : Int32))) (lv' := [(4, .int (x4 + (1 : Int32))), (3, .int x3), (6, .int (0 : Int32)), (5, .int (mj_A σ 34 (((100 : Int32) * x1) + x4).toNatClampNeg)), (0, .ref (mj_o E)), (1, .int x1), (2, .int x2)]) hx hb dX4_extremeOf_81 hl (k := 6) rfl rfl (by decide) rfl (fun ls hl => ?_)
                refine lv_goto (pc := 84) (tgt := 5) hx hb dX4_extremeOf_84 (by decide) ?_
                exact h d hd p e s m args below meth c hcx H locs _ hW hS (lv_sub hl [4, 5, 6, 1, 0] rfl)
              · have h := h.2 c13
                refine lv_iload (pc := 74) hx hb dX4_extremeOf_74 (lv_at hl 6 rfl) ?_
                refine lv_goto (pc := 76) (tgt := 80) hx hb dX4_extremeOf_76 (by decide) ?_
                refine lv_istore_n (pc := 80) (lv' := [(3, .int x4), (6, .int (0 : Int32)), (5, .int (mj_A σ 34 (((100 : Int32) * x1) + x4).toNatClampNeg)), (0, .ref (mj_o E)), (1, .int x1), (2, .int x2), (4, .int x4)]) hx hb dX4_extremeOf_80 rfl hl (by decide) rfl (fun ls hl => ?_)
                refine lv_iinc (pc := 81) (v := (x4 + (1 : Int32))) (lv' := [(4, .int (x4 + (1 : Int32))), (3, .int x4), (6, .int (0 : Int32)), (5, .int (mj_A σ 34 (((100 : Int32) * x1) + x4).toNatClampNeg)), (0, .ref (mj_o E)), (1, .int x1), (2, .int x2)]) hx hb dX4_extremeOf_81 hl (k := 6) rfl rfl (by decide) rfl (fun ls hl => ?_)
                refine lv_goto (pc := 84) (tgt := 5) hx hb dX4_extremeOf_84 (by decide) ?_
                exact h d hd p e s m args below meth c hcx H locs _ hW hS (lv_sub hl [4, 5, 6, 1, 0] rfl)
            · have h := h.2 c12
              refine lv_iconst (pc := 62) (v := (1 : Int32)) hx hb dX4_extremeOf_62 (by decide) ?_
              refine lv_goto (pc := 63) (tgt := 67) hx hb dX4_extremeOf_63 (by decide) ?_
              refine lv_istore (pc := 67) (lv' := [(6, .int (1 : Int32)), (5, .int (mj_A σ 34 (((100 : Int32) * x1) + x4).toNatClampNeg)), (0, .ref (mj_o E)), (1, .int x1), (2, .int x2), (3, .int x3), (4, .int x4)]) hx hb dX4_extremeOf_67 hl (by decide) rfl (fun ls hl => ?_)
              refine lv_iload (pc := 69) hx hb dX4_extremeOf_69 (lv_at hl 0 rfl) ?_
              refine lv_if_eq (pc := 71) (tgt := 79) hx hb dX4_extremeOf_71 (by decide) (fun c14 => ?_) (fun c14 => ?_)
              · have h := h.1 c14
                refine lv_iload_n (pc := 79) hx hb dX4_extremeOf_79 rfl (lv_at hl 5 rfl) ?_
                refine lv_istore_n (pc := 80) (lv' := [(3, .int x3), (6, .int (1 : Int32)), (5, .int (mj_A σ 34 (((100 : Int32) * x1) + x4).toNatClampNeg)), (0, .ref (mj_o E)), (1, .int x1), (2, .int x2), (4, .int x4)]) hx hb dX4_extremeOf_80 rfl hl (by decide) rfl (fun ls hl => ?_)
                refine lv_iinc (pc := 81) (v := (x4 + (1 : Int32))) (lv' := [(4, .int (x4 + (1 : Int32))), (3, .int x3), (6, .int (1 : Int32)), (5, .int (mj_A σ 34 (((100 : Int32) * x1) + x4).toNatClampNeg)), (0, .ref (mj_o E)), (1, .int x1), (2, .int x2)]) hx hb dX4_extremeOf_81 hl (k := 6) rfl rfl (by decide) rfl (fun ls hl => ?_)
                refine lv_goto (pc := 84) (tgt := 5) hx hb dX4_extremeOf_84 (by decide) ?_
                exact h d hd p e s m args below meth c hcx H locs _ hW hS (lv_sub hl [4, 5, 6, 1, 0] rfl)
              · have h := h.2 c14
                refine lv_iload (pc := 74) hx hb dX4_extremeOf_74 (lv_at hl 6 rfl) ?_
                refine lv_goto (pc := 76) (tgt := 80) hx hb dX4_extremeOf_76 (by decide) ?_
                refine lv_istore_n (pc := 80) (lv' := [(3, .int x4), (6, .int (1 : Int32)), (5, .int (mj_A σ 34 (((100 : Int32) * x1) + x4).toNatClampNeg)), (0, .ref (mj_o E)), (1, .int x1), (2, .int x2), (4, .int x4)]) hx hb dX4_extremeOf_80 rfl hl (by decide) rfl (fun ls hl => ?_)
                refine lv_iinc (pc := 81) (v := (x4 + (1 : Int32))) (lv' := [(4, .int (x4 + (1 : Int32))), (3, .int x4), (6, .int (1 : Int32)), (5, .int (mj_A σ 34 (((100 : Int32) * x1) + x4).toNatClampNeg)), (0, .ref (mj_o E)), (1, .int x1), (2, .int x2)]) hx hb dX4_extremeOf_81 hl (k := 6) rfl rfl (by decide) rfl (fun ls hl => ?_)
                refine lv_goto (pc := 84) (tgt := 5) hx hb dX4_extremeOf_84 (by decide) ?_
                exact h d hd p e s m args below meth c hcx H locs _ hW hS (lv_sub hl [4, 5, 6, 1, 0] rfl)
set_option maxHeartbeats 4000000 in
set_option maxRecDepth 100000 in
theorem mb_extremeOf {E : mj_E} {σ : mj_S} {x1 : Int32} {x2 : Int32} {P : Int32 → mj_S → Prop} (hE : mj_ok E) (h : mg_extremeOf_5 E σ x1 x2 (-1 : Int32) (0 : Int32) P) : ms_extremeOf E σ x1 x2 P :=
  mj_enter (k := 0) (lv := [(0, .ref (mj_o E)), (1, .int x1), (2, .int x2)]) hE rfl (Nat.le_of_ble_eq_true rfl) rfl (by
    intro d hd p e s m args below meth c hcx H locs ls hW hS hl
    have hx := hcx.1
    have hb := hcx.2.1
    have hown := hcx.2.2.2.2.2.1
    have hts := hcx.2.2.2.2.2.2.1
    refine lv_iconst (pc := 0) (v := (-1 : Int32)) hx hb dX4_extremeOf_0 (by decide) ?_
    refine lv_istore_n (pc := 1) (lv' := [(3, .int (-1 : Int32)), (0, .ref (mj_o E)), (1, .int x1), (2, .int x2)]) hx hb dX4_extremeOf_1 rfl hl (by decide) rfl (fun ls hl => ?_)
    refine lv_iconst (pc := 2) (v := (0 : Int32)) hx hb dX4_extremeOf_2 (by decide) ?_
    refine lv_istore (pc := 3) (lv' := [(4, .int (0 : Int32)), (3, .int (-1 : Int32)), (0, .ref (mj_o E)), (1, .int x1), (2, .int x2)]) hx hb dX4_extremeOf_3 hl (by decide) rfl (fun ls hl => ?_)
    exact h d hd p e s m args below meth c hcx H locs _ hW hS (lv_sub hl [2, 3, 4, 1, 0] rfl))
/-! has -/
set_option maxHeartbeats 4000000 in
set_option maxRecDepth 100000 in
theorem mb_has {E : mj_E} {σ : mj_S} {x0 : Int32} {x1 : Int32} {P : Int32 → mj_S → Prop} (hE : mj_ok E) (h : ((((x0 >>> (x1 &&& 31)) &&& (1 : Int32)) = (1 : Int32) → P (1 : Int32) σ) ∧ (¬ ((x0 >>> (x1 &&& 31)) &&& (1 : Int32)) = (1 : Int32) → P (0 : Int32) σ))) : ms_has E σ x0 x1 P :=
  mj_enter (k := 0) (lv := [(0, .int x0), (1, .int x1)]) hE rfl (Nat.le_of_ble_eq_true rfl) rfl (by
    intro d hd p e s m args below meth c hcx H locs ls hW hS hl
    have hx := hcx.1
    have hb := hcx.2.1
    have hown := hcx.2.2.2.2.2.1
    have hts := hcx.2.2.2.2.2.2.1
    refine lv_iload_n (pc := 0) hx hb dX4_has_0 rfl (lv_at hl 0 rfl) ?_
    refine lv_iload_n (pc := 1) hx hb dX4_has_1 rfl (lv_at hl 1 rfl) ?_
    refine lv_ishr (pc := 2) hx hb dX4_has_2 ?_
    refine lv_iconst (pc := 3) (v := (1 : Int32)) hx hb dX4_has_3 (by decide) ?_
    refine lv_iand (pc := 4) hx hb dX4_has_4 ?_
    refine lv_iconst (pc := 5) (v := (1 : Int32)) hx hb dX4_has_5 (by decide) ?_
    refine lv_icmp_ne (pc := 6) (tgt := 13) hx hb dX4_has_6 (by decide) (fun c1 => ?_) (fun c1 => ?_)
    · have h := h.2 c1
      refine lv_iconst (pc := 13) (v := (0 : Int32)) hx hb dX4_has_13 (by decide) ?_
      exact mj_reti (pc := 14) hcx hW hS rfl h dX4_has_14
    · have h := h.1 c1
      refine lv_iconst (pc := 9) (v := (1 : Int32)) hx hb dX4_has_9 (by decide) ?_
      refine lv_goto (pc := 10) (tgt := 14) hx hb dX4_has_10 (by decide) ?_
      exact mj_reti (pc := 14) hcx hW hS rfl h dX4_has_14)
/-! here -/
set_option maxHeartbeats 4000000 in
set_option maxRecDepth 100000 in
theorem mb_here {E : mj_E} {σ : mj_S} {P : Int32 → mj_S → Prop} (hE : mj_ok E) (h : (((mj_F σ 2) ≤ (mj_F σ 3) → P (-1 : Int32) σ) ∧ (¬ (mj_F σ 2) ≤ (mj_F σ 3) → (vp_in (mj_F σ 3) 400 ∧ P (mj_A σ 1 (mj_F σ 3).toNatClampNeg) σ)))) : ms_here E σ P :=
  mj_enter (k := 0) (lv := [(0, .ref (mj_o E))]) hE rfl (Nat.le_of_ble_eq_true rfl) rfl (by
    intro d hd p e s m args below meth c hcx H locs ls hW hS hl
    have hx := hcx.1
    have hb := hcx.2.1
    have hown := hcx.2.2.2.2.2.1
    have hts := hcx.2.2.2.2.2.2.1
    refine lv_aload_n (pc := 0) hx hb dX4_here_0 rfl (lv_at hl 0 rfl) ?_
    refine mj_geti (pc := 1) hcx hW 3 (by decide) rfl q1258 dX4_here_1 ?_
    refine lv_aload_n (pc := 4) hx hb dX4_here_4 rfl (lv_at hl 0 rfl) ?_
    refine mj_geti (pc := 5) hcx hW 2 (by decide) rfl q1257 dX4_here_5 ?_
    refine lv_icmp_ge (pc := 8) (tgt := 23) hx hb dX4_here_8 (by decide) (fun c1 => ?_) (fun c1 => ?_)
    · have h := h.1 c1
      refine lv_iconst (pc := 23) (v := (-1 : Int32)) hx hb dX4_here_23 (by decide) ?_
      exact mj_reti (pc := 24) hcx hW hS rfl h dX4_here_24
    · have h := h.2 c1
      refine lv_aload_n (pc := 11) hx hb dX4_here_11 rfl (lv_at hl 0 rfl) ?_
      refine mj_geta (pc := 12) hcx hW 1 (by decide) rfl q1256 dX4_here_12 ?_
      refine lv_aload_n (pc := 15) hx hb dX4_here_15 rfl (lv_at hl 0 rfl) ?_
      refine mj_geti (pc := 16) hcx hW 3 (by decide) rfl q1258 dX4_here_16 ?_
      obtain ⟨g2, h⟩ := h
      refine mj_ald (pc := 19) hcx hW 1 rfl rfl g2 dX4_here_19 ?_
      refine lv_goto (pc := 20) (tgt := 24) hx hb dX4_here_20 (by decide) ?_
      exact mj_reti (pc := 24) hcx hW hS rfl h dX4_here_24)
/-! in -/
set_option maxHeartbeats 4000000 in
set_option maxRecDepth 100000 in
theorem mb_in {E : mj_E} {σ : mj_S} {x0 : Int32} {x1 : Int32} {x2 : Int32} {P : Int32 → mj_S → Prop} (hE : mj_ok E) (h : ((x0 < x1 → P (0 : Int32) σ) ∧ (¬ x0 < x1 → ((x2 < x0 → P (0 : Int32) σ) ∧ (¬ x2 < x0 → P (1 : Int32) σ))))) : ms_in E σ x0 x1 x2 P :=
  mj_enter (k := 0) (lv := [(0, .int x0), (1, .int x1), (2, .int x2)]) hE rfl (Nat.le_of_ble_eq_true rfl) rfl (by
    intro d hd p e s m args below meth c hcx H locs ls hW hS hl
    have hx := hcx.1
    have hb := hcx.2.1
    have hown := hcx.2.2.2.2.2.1
    have hts := hcx.2.2.2.2.2.2.1
    refine lv_iload_n (pc := 0) hx hb dX4_in_0 rfl (lv_at hl 0 rfl) ?_
    refine lv_iload_n (pc := 1) hx hb dX4_in_1 rfl (lv_at hl 1 rfl) ?_
    refine lv_icmp_lt (pc := 2) (tgt := 14) hx hb dX4_in_2 (by decide) (fun c1 => ?_) (fun c1 => ?_)
    · have h := h.1 c1
      refine lv_iconst (pc := 14) (v := (0 : Int32)) hx hb dX4_in_14 (by decide) ?_
      exact mj_reti (pc := 15) hcx hW hS rfl h dX4_in_15
    · have h := h.2 c1
      refine lv_iload_n (pc := 5) hx hb dX4_in_5 rfl (lv_at hl 0 rfl) ?_
      refine lv_iload_n (pc := 6) hx hb dX4_in_6 rfl (lv_at hl 2 rfl) ?_
      refine lv_icmp_gt (pc := 7) (tgt := 14) hx hb dX4_in_7 (by decide) (fun c2 => ?_) (fun c2 => ?_)
      · have h := h.1 c2
        refine lv_iconst (pc := 14) (v := (0 : Int32)) hx hb dX4_in_14 (by decide) ?_
        exact mj_reti (pc := 15) hcx hW hS rfl h dX4_in_15
      · have h := h.2 c2
        refine lv_iconst (pc := 10) (v := (1 : Int32)) hx hb dX4_in_10 (by decide) ?_
        refine lv_goto (pc := 11) (tgt := 15) hx hb dX4_in_11 (by decide) ?_
        exact mj_reti (pc := 15) hcx hW hS rfl h dX4_in_15)
/-! isDigit -/
set_option maxHeartbeats 4000000 in
set_option maxRecDepth 100000 in
theorem mb_isDigit {E : mj_E} {σ : mj_S} {x0 : Int32} {P : Int32 → mj_S → Prop} (hE : mj_ok E) (h : ((x0 < (48 : Int32) → P (0 : Int32) σ) ∧ (¬ x0 < (48 : Int32) → (((57 : Int32) < x0 → P (0 : Int32) σ) ∧ (¬ (57 : Int32) < x0 → P (1 : Int32) σ))))) : ms_isDigit E σ x0 P :=
  mj_enter (k := 0) (lv := [(0, .int x0)]) hE rfl (Nat.le_of_ble_eq_true rfl) rfl (by
    intro d hd p e s m args below meth c hcx H locs ls hW hS hl
    have hx := hcx.1
    have hb := hcx.2.1
    have hown := hcx.2.2.2.2.2.1
    have hts := hcx.2.2.2.2.2.2.1
    refine lv_iload_n (pc := 0) hx hb dX4_isDigit_0 rfl (lv_at hl 0 rfl) ?_
    refine lv_bipush (pc := 1) (v := (48 : Int32)) hx hb dX4_isDigit_1 (by decide) ?_
    refine lv_icmp_lt (pc := 3) (tgt := 16) hx hb dX4_isDigit_3 (by decide) (fun c1 => ?_) (fun c1 => ?_)
    · have h := h.1 c1
      refine lv_iconst (pc := 16) (v := (0 : Int32)) hx hb dX4_isDigit_16 (by decide) ?_
      exact mj_reti (pc := 17) hcx hW hS rfl h dX4_isDigit_17
    · have h := h.2 c1
      refine lv_iload_n (pc := 6) hx hb dX4_isDigit_6 rfl (lv_at hl 0 rfl) ?_
      refine lv_bipush (pc := 7) (v := (57 : Int32)) hx hb dX4_isDigit_7 (by decide) ?_
      refine lv_icmp_gt (pc := 9) (tgt := 16) hx hb dX4_isDigit_9 (by decide) (fun c2 => ?_) (fun c2 => ?_)
      · have h := h.1 c2
        refine lv_iconst (pc := 16) (v := (0 : Int32)) hx hb dX4_isDigit_16 (by decide) ?_
        exact mj_reti (pc := 17) hcx hW hS rfl h dX4_isDigit_17
      · have h := h.2 c2
        refine lv_iconst (pc := 12) (v := (1 : Int32)) hx hb dX4_isDigit_12 (by decide) ?_
        refine lv_goto (pc := 13) (tgt := 17) hx hb dX4_isDigit_13 (by decide) ?_
        exact mj_reti (pc := 17) hcx hW hS rfl h dX4_isDigit_17)
/-! isLetter -/
set_option maxHeartbeats 4000000 in
set_option maxRecDepth 100000 in
theorem mb_isLetter {E : mj_E} {σ : mj_S} {x1 : Int32} {P : Int32 → mj_S → Prop} (hE : mj_ok E) (h : ((x1 < (97 : Int32) → P (0 : Int32) σ) ∧ (¬ x1 < (97 : Int32) → (((100 : Int32) < x1 → P (0 : Int32) σ) ∧ (¬ (100 : Int32) < x1 → P (1 : Int32) σ))))) : ms_isLetter E σ x1 P :=
  mj_enter (k := 0) (lv := [(0, .ref (mj_o E)), (1, .int x1)]) hE rfl (Nat.le_of_ble_eq_true rfl) rfl (by
    intro d hd p e s m args below meth c hcx H locs ls hW hS hl
    have hx := hcx.1
    have hb := hcx.2.1
    have hown := hcx.2.2.2.2.2.1
    have hts := hcx.2.2.2.2.2.2.1
    refine lv_iload_n (pc := 0) hx hb dX4_isLetter_0 rfl (lv_at hl 1 rfl) ?_
    refine lv_bipush (pc := 1) (v := (97 : Int32)) hx hb dX4_isLetter_1 (by decide) ?_
    refine lv_icmp_lt (pc := 3) (tgt := 16) hx hb dX4_isLetter_3 (by decide) (fun c1 => ?_) (fun c1 => ?_)
    · have h := h.1 c1
      refine lv_iconst (pc := 16) (v := (0 : Int32)) hx hb dX4_isLetter_16 (by decide) ?_
      exact mj_reti (pc := 17) hcx hW hS rfl h dX4_isLetter_17
    · have h := h.2 c1
      refine lv_iload_n (pc := 6) hx hb dX4_isLetter_6 rfl (lv_at hl 1 rfl) ?_
      refine lv_bipush (pc := 7) (v := (100 : Int32)) hx hb dX4_isLetter_7 (by decide) ?_
      refine lv_icmp_gt (pc := 9) (tgt := 16) hx hb dX4_isLetter_9 (by decide) (fun c2 => ?_) (fun c2 => ?_)
      · have h := h.1 c2
        refine lv_iconst (pc := 16) (v := (0 : Int32)) hx hb dX4_isLetter_16 (by decide) ?_
        exact mj_reti (pc := 17) hcx hW hS rfl h dX4_isLetter_17
      · have h := h.2 c2
        refine lv_iconst (pc := 12) (v := (1 : Int32)) hx hb dX4_isLetter_12 (by decide) ?_
        refine lv_goto (pc := 13) (tgt := 17) hx hb dX4_isLetter_13 (by decide) ?_
        exact mj_reti (pc := 17) hcx hW hS rfl h dX4_isLetter_17)
/-! keep -/
set_option maxHeartbeats 4000000 in
set_option maxRecDepth 100000 in
theorem mb_keep_54 {E : mj_E} {σ : mj_S} {x1 : Int32} {P : mj_S → Prop} (h : (((331 : Int32) ≤ x1 → P (mj_sF σ 29 ((mj_F σ 29) + (1 : Int32)))) ∧ (¬ (331 : Int32) ≤ x1 → (vp_in x1 331 ∧ (vp_in (((331 : Int32) * (mj_F σ 29)) + x1) 13240 ∧ mg_keep_54 E (mj_sA σ 28 (((331 : Int32) * (mj_F σ 29)) + x1).toNatClampNeg (mj_A σ 13 x1.toNatClampNeg)) (x1 + (1 : Int32)) P))))) : mg_keep_54 E σ x1 P := by
  intro d hd p e s m args below meth c hcx H locs ls hW hS hl
  have hx := hcx.1
  have hb := hcx.2.1
  have hown := hcx.2.2.2.2.2.1
  have hts := hcx.2.2.2.2.2.2.1
  refine lv_iload_n (pc := 54) hx hb dX4_keep_54 rfl (lv_at hl 1 rfl) ?_
  refine lv_sipush (pc := 55) (v := (331 : Int32)) hx hb dX4_keep_55 (by decide) ?_
  refine lv_icmp_ge (pc := 58) (tgt := 88) hx hb dX4_keep_58 (by decide) (fun c1 => ?_) (fun c1 => ?_)
  · have h := h.1 c1
    refine lv_aload_n (pc := 88) hx hb dX4_keep_88 rfl (lv_at hl 0 rfl) ?_
    refine lv_dup (pc := 89) hx hb dX4_keep_89 rfl ?_
    refine mj_geti (pc := 90) hcx hW 29 (by decide) rfl q1284 dX4_keep_90 ?_
    refine lv_iconst (pc := 93) (v := (1 : Int32)) hx hb dX4_keep_93 (by decide) ?_
    refine lv_iadd (pc := 94) hx hb dX4_keep_94 ?_
    refine mj_puti (pc := 95) hcx hW hS 29 (by decide) rfl rfl rfl rfl q1284 dX4_keep_95 (fun H locs hW hS => ?_)
    exact mj_retv (pc := 98) hcx hW hS h dX4_keep_98
  · have h := h.2 c1
    refine lv_aload_n (pc := 61) hx hb dX4_keep_61 rfl (lv_at hl 0 rfl) ?_
    refine mj_geta (pc := 62) hcx hW 28 (by decide) rfl q1283 dX4_keep_62 ?_
    refine lv_sipush (pc := 65) (v := (331 : Int32)) hx hb dX4_keep_65 (by decide) ?_
    refine lv_aload_n (pc := 68) hx hb dX4_keep_68 rfl (lv_at hl 0 rfl) ?_
    refine mj_geti (pc := 69) hcx hW 29 (by decide) rfl q1284 dX4_keep_69 ?_
    refine lv_imul (pc := 72) hx hb dX4_keep_72 ?_
    refine lv_iload_n (pc := 73) hx hb dX4_keep_73 rfl (lv_at hl 1 rfl) ?_
    refine lv_iadd (pc := 74) hx hb dX4_keep_74 ?_
    refine lv_aload_n (pc := 75) hx hb dX4_keep_75 rfl (lv_at hl 0 rfl) ?_
    refine mj_geta (pc := 76) hcx hW 13 (by decide) rfl q1268 dX4_keep_76 ?_
    refine lv_iload_n (pc := 79) hx hb dX4_keep_79 rfl (lv_at hl 1 rfl) ?_
    obtain ⟨g2, h⟩ := h
    refine mj_ald (pc := 80) hcx hW 13 rfl rfl g2 dX4_keep_80 ?_
    obtain ⟨g3, h⟩ := h
    refine mj_ast (pc := 81) hcx hW hS 28 rfl rfl g3 dX4_keep_81 (fun H locs hW hS => ?_)
    refine lv_iinc (pc := 82) (v := (x1 + (1 : Int32))) (lv' := [(1, .int (x1 + (1 : Int32))), (0, .ref (mj_o E))]) hx hb dX4_keep_82 hl (k := 1) rfl rfl (by decide) rfl (fun ls hl => ?_)
    refine lv_goto (pc := 85) (tgt := 54) hx hb dX4_keep_85 (by decide) ?_
    exact h d hd p e s m args below meth c hcx H locs _ hW hS (lv_sub hl [1, 0] rfl)
set_option maxHeartbeats 4000000 in
set_option maxRecDepth 100000 in
theorem mb_keep_13 {E : mj_E} {σ : mj_S} {x1 : Int32} {P : mj_S → Prop} (h : (((13240 : Int32) ≤ x1 → mg_keep_54 E (mj_sF σ 29 ((mj_F σ 29) - (1 : Int32))) (0 : Int32) P) ∧ (¬ (13240 : Int32) ≤ x1 → (vp_in x1 13240 ∧ (vp_in (x1 - (331 : Int32)) 13240 ∧ mg_keep_13 E (mj_sA σ 28 (x1 - (331 : Int32)).toNatClampNeg (mj_A σ 28 x1.toNatClampNeg)) (x1 + (1 : Int32)) P))))) : mg_keep_13 E σ x1 P := by
  intro d hd p e s m args below meth c hcx H locs ls hW hS hl
  have hx := hcx.1
  have hb := hcx.2.1
  have hown := hcx.2.2.2.2.2.1
  have hts := hcx.2.2.2.2.2.2.1
  refine lv_iload_n (pc := 13) hx hb dX4_keep_13 rfl (lv_at hl 1 rfl) ?_
  refine lv_sipush (pc := 14) (v := (13240 : Int32)) hx hb dX4_keep_14 (by decide) ?_
  refine lv_icmp_ge (pc := 17) (tgt := 42) hx hb dX4_keep_17 (by decide) (fun c1 => ?_) (fun c1 => ?_)
  · have h := h.1 c1
    refine lv_aload_n (pc := 42) hx hb dX4_keep_42 rfl (lv_at hl 0 rfl) ?_
    refine lv_dup (pc := 43) hx hb dX4_keep_43 rfl ?_
    refine mj_geti (pc := 44) hcx hW 29 (by decide) rfl q1284 dX4_keep_44 ?_
    refine lv_iconst (pc := 47) (v := (1 : Int32)) hx hb dX4_keep_47 (by decide) ?_
    refine lv_isub (pc := 48) hx hb dX4_keep_48 ?_
    refine mj_puti (pc := 49) hcx hW hS 29 (by decide) rfl rfl rfl rfl q1284 dX4_keep_49 (fun H locs hW hS => ?_)
    refine lv_iconst (pc := 52) (v := (0 : Int32)) hx hb dX4_keep_52 (by decide) ?_
    refine lv_istore_n (pc := 53) (lv' := [(1, .int (0 : Int32)), (0, .ref (mj_o E))]) hx hb dX4_keep_53 rfl hl (by decide) rfl (fun ls hl => ?_)
    exact h d hd p e s m args below meth c hcx H locs _ hW hS (lv_sub hl [1, 0] rfl)
  · have h := h.2 c1
    refine lv_aload_n (pc := 20) hx hb dX4_keep_20 rfl (lv_at hl 0 rfl) ?_
    refine mj_geta (pc := 21) hcx hW 28 (by decide) rfl q1283 dX4_keep_21 ?_
    refine lv_iload_n (pc := 24) hx hb dX4_keep_24 rfl (lv_at hl 1 rfl) ?_
    refine lv_sipush (pc := 25) (v := (331 : Int32)) hx hb dX4_keep_25 (by decide) ?_
    refine lv_isub (pc := 28) hx hb dX4_keep_28 ?_
    refine lv_aload_n (pc := 29) hx hb dX4_keep_29 rfl (lv_at hl 0 rfl) ?_
    refine mj_geta (pc := 30) hcx hW 28 (by decide) rfl q1283 dX4_keep_30 ?_
    refine lv_iload_n (pc := 33) hx hb dX4_keep_33 rfl (lv_at hl 1 rfl) ?_
    obtain ⟨g2, h⟩ := h
    refine mj_ald (pc := 34) hcx hW 28 rfl rfl g2 dX4_keep_34 ?_
    obtain ⟨g3, h⟩ := h
    refine mj_ast (pc := 35) hcx hW hS 28 rfl rfl g3 dX4_keep_35 (fun H locs hW hS => ?_)
    refine lv_iinc (pc := 36) (v := (x1 + (1 : Int32))) (lv' := [(1, .int (x1 + (1 : Int32))), (0, .ref (mj_o E))]) hx hb dX4_keep_36 hl (k := 1) rfl rfl (by decide) rfl (fun ls hl => ?_)
    refine lv_goto (pc := 39) (tgt := 13) hx hb dX4_keep_39 (by decide) ?_
    exact h d hd p e s m args below meth c hcx H locs _ hW hS (lv_sub hl [1, 0] rfl)
set_option maxHeartbeats 4000000 in
set_option maxRecDepth 100000 in
theorem mb_keep {E : mj_E} {σ : mj_S} {P : mj_S → Prop} (hE : mj_ok E) (h : (((mj_F σ 29) = (40 : Int32) → mg_keep_13 E σ (331 : Int32) P) ∧ (¬ (mj_F σ 29) = (40 : Int32) → mg_keep_54 E σ (0 : Int32) P))) : ms_keep E σ P :=
  mj_enter (k := 0) (lv := [(0, .ref (mj_o E))]) hE rfl (Nat.le_of_ble_eq_true rfl) rfl (by
    intro d hd p e s m args below meth c hcx H locs ls hW hS hl
    have hx := hcx.1
    have hb := hcx.2.1
    have hown := hcx.2.2.2.2.2.1
    have hts := hcx.2.2.2.2.2.2.1
    refine lv_aload_n (pc := 0) hx hb dX4_keep_0 rfl (lv_at hl 0 rfl) ?_
    refine mj_geti (pc := 1) hcx hW 29 (by decide) rfl q1284 dX4_keep_1 ?_
    refine lv_bipush (pc := 4) (v := (40 : Int32)) hx hb dX4_keep_4 (by decide) ?_
    refine lv_icmp_ne (pc := 6) (tgt := 52) hx hb dX4_keep_6 (by decide) (fun c1 => ?_) (fun c1 => ?_)
    · have h := h.2 c1
      refine lv_iconst (pc := 52) (v := (0 : Int32)) hx hb dX4_keep_52 (by decide) ?_
      refine lv_istore_n (pc := 53) (lv' := [(1, .int (0 : Int32)), (0, .ref (mj_o E))]) hx hb dX4_keep_53 rfl hl (by decide) rfl (fun ls hl => ?_)
      exact h d hd p e s m args below meth c hcx H locs _ hW hS (lv_sub hl [1, 0] rfl)
    · have h := h.1 c1
      refine lv_sipush (pc := 9) (v := (331 : Int32)) hx hb dX4_keep_9 (by decide) ?_
      refine lv_istore_n (pc := 12) (lv' := [(1, .int (331 : Int32)), (0, .ref (mj_o E))]) hx hb dX4_keep_12 rfl hl (by decide) rfl (fun ls hl => ?_)
      exact h d hd p e s m args below meth c hcx H locs _ hW hS (lv_sub hl [1, 0] rfl))
/-! keyAt -/
set_option maxHeartbeats 4000000 in
set_option maxRecDepth 100000 in
theorem mb_keyAt {E : mj_E} {σ : mj_S} {x1 : Int32} {x2 : Int32} {P : Int32 → mj_S → Prop} (hE : mj_ok E) (h : (vp_in (((4 : Int32) * x1) + x2) 16 ∧ (vp_in (((12 : Int32) * (((4 : Int32) * x1) + x2)) + (mj_A σ 23 (((4 : Int32) * x1) + x2).toNatClampNeg)) 192 ∧ P (mj_A σ 21 (((12 : Int32) * (((4 : Int32) * x1) + x2)) + (mj_A σ 23 (((4 : Int32) * x1) + x2).toNatClampNeg)).toNatClampNeg) σ))) : ms_keyAt E σ x1 x2 P :=
  mj_enter (k := 0) (lv := [(0, .ref (mj_o E)), (1, .int x1), (2, .int x2)]) hE rfl (Nat.le_of_ble_eq_true rfl) rfl (by
    intro d hd p e s m args below meth c hcx H locs ls hW hS hl
    have hx := hcx.1
    have hb := hcx.2.1
    have hown := hcx.2.2.2.2.2.1
    have hts := hcx.2.2.2.2.2.2.1
    refine lv_iconst (pc := 0) (v := (4 : Int32)) hx hb dX4_keyAt_0 (by decide) ?_
    refine lv_iload_n (pc := 1) hx hb dX4_keyAt_1 rfl (lv_at hl 1 rfl) ?_
    refine lv_imul (pc := 2) hx hb dX4_keyAt_2 ?_
    refine lv_iload_n (pc := 3) hx hb dX4_keyAt_3 rfl (lv_at hl 2 rfl) ?_
    refine lv_iadd (pc := 4) hx hb dX4_keyAt_4 ?_
    refine lv_istore_n (pc := 5) (lv' := [(3, .int (((4 : Int32) * x1) + x2)), (0, .ref (mj_o E)), (1, .int x1), (2, .int x2)]) hx hb dX4_keyAt_5 rfl hl (by decide) rfl (fun ls hl => ?_)
    refine lv_aload_n (pc := 6) hx hb dX4_keyAt_6 rfl (lv_at hl 1 rfl) ?_
    refine mj_geta (pc := 7) hcx hW 21 (by decide) rfl q1276 dX4_keyAt_7 ?_
    refine lv_bipush (pc := 10) (v := (12 : Int32)) hx hb dX4_keyAt_10 (by decide) ?_
    refine lv_iload_n (pc := 12) hx hb dX4_keyAt_12 rfl (lv_at hl 0 rfl) ?_
    refine lv_imul (pc := 13) hx hb dX4_keyAt_13 ?_
    refine lv_aload_n (pc := 14) hx hb dX4_keyAt_14 rfl (lv_at hl 1 rfl) ?_
    refine mj_geta (pc := 15) hcx hW 23 (by decide) rfl q1278 dX4_keyAt_15 ?_
    refine lv_iload_n (pc := 18) hx hb dX4_keyAt_18 rfl (lv_at hl 0 rfl) ?_
    obtain ⟨g1, h⟩ := h
    refine mj_ald (pc := 19) hcx hW 23 rfl rfl g1 dX4_keyAt_19 ?_
    refine lv_iadd (pc := 20) hx hb dX4_keyAt_20 ?_
    obtain ⟨g2, h⟩ := h
    refine mj_ald (pc := 21) hcx hW 21 rfl rfl g2 dX4_keyAt_21 ?_
    exact mj_reti (pc := 22) hcx hW hS rfl h dX4_keyAt_22)
/-! leaps -/
set_option maxHeartbeats 4000000 in
set_option maxRecDepth 100000 in
theorem mb_leaps_17 {E : mj_E} {σ : mj_S} {x3 : Int32} {x4 : Int32} {P : Int32 → mj_S → Prop} (h : (vp_in x4 16 ∧ (vp_in x4 16 ∧ (((mj_A σ 22 x4.toNatClampNeg) ≤ (mj_A σ 23 x4.toNatClampNeg) → (vp_in x4 16 ∧ (vp_in x4 16 ∧ (((mj_A σ 22 x4.toNatClampNeg) ≤ (mj_A σ 23 x4.toNatClampNeg) → P (0 : Int32) σ) ∧ (¬ (mj_A σ 22 x4.toNatClampNeg) ≤ (mj_A σ 23 x4.toNatClampNeg) → P (1 : Int32) σ))))) ∧ (¬ (mj_A σ 22 x4.toNatClampNeg) ≤ (mj_A σ 23 x4.toNatClampNeg) → (vp_in x4 16 ∧ (vp_in (((12 : Int32) * x4) + (mj_A σ 23 x4.toNatClampNeg)) 192 ∧ ((x3 ≤ (mj_A σ 21 (((12 : Int32) * x4) + (mj_A σ 23 x4.toNatClampNeg)).toNatClampNeg) → (vp_in x4 16 ∧ (vp_in x4 16 ∧ (((mj_A σ 22 x4.toNatClampNeg) ≤ (mj_A σ 23 x4.toNatClampNeg) → P (0 : Int32) σ) ∧ (¬ (mj_A σ 22 x4.toNatClampNeg) ≤ (mj_A σ 23 x4.toNatClampNeg) → P (1 : Int32) σ))))) ∧ (¬ x3 ≤ (mj_A σ 21 (((12 : Int32) * x4) + (mj_A σ 23 x4.toNatClampNeg)).toNatClampNeg) → (vp_in x4 16 ∧ (vp_in x4 16 ∧ mg_leaps_17 E (mj_sA σ 23 x4.toNatClampNeg ((mj_A σ 23 x4.toNatClampNeg) + (1 : Int32))) x3 x4 P))))))))))) : mg_leaps_17 E σ x3 x4 P := by
  intro d hd p e s m args below meth c hcx H locs ls hW hS hl
  have hx := hcx.1
  have hb := hcx.2.1
  have hown := hcx.2.2.2.2.2.1
  have hts := hcx.2.2.2.2.2.2.1
  refine lv_aload_n (pc := 17) hx hb dX4_leaps_17 rfl (lv_at hl 0 rfl) ?_
  refine mj_geta (pc := 18) hcx hW 23 (by decide) rfl q1278 dX4_leaps_18 ?_
  refine lv_iload (pc := 21) hx hb dX4_leaps_21 (lv_at hl 2 rfl) ?_
  obtain ⟨g1, h⟩ := h
  refine mj_ald (pc := 23) hcx hW 23 rfl rfl g1 dX4_leaps_23 ?_
  refine lv_aload_n (pc := 24) hx hb dX4_leaps_24 rfl (lv_at hl 0 rfl) ?_
  refine mj_geta (pc := 25) hcx hW 22 (by decide) rfl q1277 dX4_leaps_25 ?_
  refine lv_iload (pc := 28) hx hb dX4_leaps_28 (lv_at hl 2 rfl) ?_
  obtain ⟨g2, h⟩ := h
  refine mj_ald (pc := 30) hcx hW 22 rfl rfl g2 dX4_leaps_30 ?_
  refine lv_icmp_ge (pc := 31) (tgt := 70) hx hb dX4_leaps_31 (by decide) (fun c3 => ?_) (fun c3 => ?_)
  · have h := h.1 c3
    refine lv_aload_n (pc := 70) hx hb dX4_leaps_70 rfl (lv_at hl 0 rfl) ?_
    refine mj_geta (pc := 71) hcx hW 23 (by decide) rfl q1278 dX4_leaps_71 ?_
    refine lv_iload (pc := 74) hx hb dX4_leaps_74 (lv_at hl 2 rfl) ?_
    obtain ⟨g4, h⟩ := h
    refine mj_ald (pc := 76) hcx hW 23 rfl rfl g4 dX4_leaps_76 ?_
    refine lv_aload_n (pc := 77) hx hb dX4_leaps_77 rfl (lv_at hl 0 rfl) ?_
    refine mj_geta (pc := 78) hcx hW 22 (by decide) rfl q1277 dX4_leaps_78 ?_
    refine lv_iload (pc := 81) hx hb dX4_leaps_81 (lv_at hl 2 rfl) ?_
    obtain ⟨g5, h⟩ := h
    refine mj_ald (pc := 83) hcx hW 22 rfl rfl g5 dX4_leaps_83 ?_
    refine lv_icmp_ge (pc := 84) (tgt := 91) hx hb dX4_leaps_84 (by decide) (fun c6 => ?_) (fun c6 => ?_)
    · have h := h.1 c6
      refine lv_iconst (pc := 91) (v := (0 : Int32)) hx hb dX4_leaps_91 (by decide) ?_
      exact mj_reti (pc := 92) hcx hW hS rfl h dX4_leaps_92
    · have h := h.2 c6
      refine lv_iconst (pc := 87) (v := (1 : Int32)) hx hb dX4_leaps_87 (by decide) ?_
      refine lv_goto (pc := 88) (tgt := 92) hx hb dX4_leaps_88 (by decide) ?_
      exact mj_reti (pc := 92) hcx hW hS rfl h dX4_leaps_92
  · have h := h.2 c3
    refine lv_aload_n (pc := 34) hx hb dX4_leaps_34 rfl (lv_at hl 0 rfl) ?_
    refine mj_geta (pc := 35) hcx hW 21 (by decide) rfl q1276 dX4_leaps_35 ?_
    refine lv_bipush (pc := 38) (v := (12 : Int32)) hx hb dX4_leaps_38 (by decide) ?_
    refine lv_iload (pc := 40) hx hb dX4_leaps_40 (lv_at hl 2 rfl) ?_
    refine lv_imul (pc := 42) hx hb dX4_leaps_42 ?_
    refine lv_aload_n (pc := 43) hx hb dX4_leaps_43 rfl (lv_at hl 0 rfl) ?_
    refine mj_geta (pc := 44) hcx hW 23 (by decide) rfl q1278 dX4_leaps_44 ?_
    refine lv_iload (pc := 47) hx hb dX4_leaps_47 (lv_at hl 2 rfl) ?_
    obtain ⟨g7, h⟩ := h
    refine mj_ald (pc := 49) hcx hW 23 rfl rfl g7 dX4_leaps_49 ?_
    refine lv_iadd (pc := 50) hx hb dX4_leaps_50 ?_
    obtain ⟨g8, h⟩ := h
    refine mj_ald (pc := 51) hcx hW 21 rfl rfl g8 dX4_leaps_51 ?_
    refine lv_iload_n (pc := 52) hx hb dX4_leaps_52 rfl (lv_at hl 1 rfl) ?_
    refine lv_icmp_ge (pc := 53) (tgt := 70) hx hb dX4_leaps_53 (by decide) (fun c9 => ?_) (fun c9 => ?_)
    · have h := h.1 c9
      refine lv_aload_n (pc := 70) hx hb dX4_leaps_70 rfl (lv_at hl 0 rfl) ?_
      refine mj_geta (pc := 71) hcx hW 23 (by decide) rfl q1278 dX4_leaps_71 ?_
      refine lv_iload (pc := 74) hx hb dX4_leaps_74 (lv_at hl 2 rfl) ?_
      obtain ⟨g10, h⟩ := h
      refine mj_ald (pc := 76) hcx hW 23 rfl rfl g10 dX4_leaps_76 ?_
      refine lv_aload_n (pc := 77) hx hb dX4_leaps_77 rfl (lv_at hl 0 rfl) ?_
      refine mj_geta (pc := 78) hcx hW 22 (by decide) rfl q1277 dX4_leaps_78 ?_
      refine lv_iload (pc := 81) hx hb dX4_leaps_81 (lv_at hl 2 rfl) ?_
      obtain ⟨g11, h⟩ := h
      refine mj_ald (pc := 83) hcx hW 22 rfl rfl g11 dX4_leaps_83 ?_
      refine lv_icmp_ge (pc := 84) (tgt := 91) hx hb dX4_leaps_84 (by decide) (fun c12 => ?_) (fun c12 => ?_)
      · have h := h.1 c12
        refine lv_iconst (pc := 91) (v := (0 : Int32)) hx hb dX4_leaps_91 (by decide) ?_
        exact mj_reti (pc := 92) hcx hW hS rfl h dX4_leaps_92
      · have h := h.2 c12
        refine lv_iconst (pc := 87) (v := (1 : Int32)) hx hb dX4_leaps_87 (by decide) ?_
        refine lv_goto (pc := 88) (tgt := 92) hx hb dX4_leaps_88 (by decide) ?_
        exact mj_reti (pc := 92) hcx hW hS rfl h dX4_leaps_92
    · have h := h.2 c9
      refine lv_aload_n (pc := 56) hx hb dX4_leaps_56 rfl (lv_at hl 0 rfl) ?_
      refine mj_geta (pc := 57) hcx hW 23 (by decide) rfl q1278 dX4_leaps_57 ?_
      refine lv_iload (pc := 60) hx hb dX4_leaps_60 (lv_at hl 2 rfl) ?_
      refine lv_dup2_11 (pc := 62) hx hb dX4_leaps_62 rfl rfl ?_
      obtain ⟨g13, h⟩ := h
      refine mj_ald (pc := 63) hcx hW 23 rfl rfl g13 dX4_leaps_63 ?_
      refine lv_iconst (pc := 64) (v := (1 : Int32)) hx hb dX4_leaps_64 (by decide) ?_
      refine lv_iadd (pc := 65) hx hb dX4_leaps_65 ?_
      obtain ⟨g14, h⟩ := h
      refine mj_ast (pc := 66) hcx hW hS 23 rfl rfl g14 dX4_leaps_66 (fun H locs hW hS => ?_)
      refine lv_goto (pc := 67) (tgt := 17) hx hb dX4_leaps_67 (by decide) ?_
      exact h d hd p e s m args below meth c hcx H locs _ hW hS (lv_sub hl [0, 1, 2] rfl)
set_option maxHeartbeats 4000000 in
set_option maxRecDepth 100000 in
theorem mb_leaps {E : mj_E} {σ : mj_S} {x1 : Int32} {x2 : Int32} {x3 : Int32} {P : Int32 → mj_S → Prop} (hE : mj_ok E) (h : mg_leaps_17 E (mj_sF σ 27 ((mj_F σ 27) + (1 : Int32))) x3 (((4 : Int32) * x1) + x2) P) : ms_leaps E σ x1 x2 x3 P :=
  mj_enter (k := 0) (lv := [(0, .ref (mj_o E)), (1, .int x1), (2, .int x2), (3, .int x3)]) hE rfl (Nat.le_of_ble_eq_true rfl) rfl (by
    intro d hd p e s m args below meth c hcx H locs ls hW hS hl
    have hx := hcx.1
    have hb := hcx.2.1
    have hown := hcx.2.2.2.2.2.1
    have hts := hcx.2.2.2.2.2.2.1
    refine lv_iconst (pc := 0) (v := (4 : Int32)) hx hb dX4_leaps_0 (by decide) ?_
    refine lv_iload_n (pc := 1) hx hb dX4_leaps_1 rfl (lv_at hl 1 rfl) ?_
    refine lv_imul (pc := 2) hx hb dX4_leaps_2 ?_
    refine lv_iload_n (pc := 3) hx hb dX4_leaps_3 rfl (lv_at hl 2 rfl) ?_
    refine lv_iadd (pc := 4) hx hb dX4_leaps_4 ?_
    refine lv_istore (pc := 5) (lv' := [(4, .int (((4 : Int32) * x1) + x2)), (0, .ref (mj_o E)), (1, .int x1), (2, .int x2), (3, .int x3)]) hx hb dX4_leaps_5 hl (by decide) rfl (fun ls hl => ?_)
    refine lv_aload_n (pc := 7) hx hb dX4_leaps_7 rfl (lv_at hl 1 rfl) ?_
    refine lv_dup (pc := 8) hx hb dX4_leaps_8 rfl ?_
    refine mj_geti (pc := 9) hcx hW 27 (by decide) rfl q1282 dX4_leaps_9 ?_
    refine lv_iconst (pc := 12) (v := (1 : Int32)) hx hb dX4_leaps_12 (by decide) ?_
    refine lv_iadd (pc := 13) hx hb dX4_leaps_13 ?_
    refine mj_puti (pc := 14) hcx hW hS 27 (by decide) rfl rfl rfl rfl q1282 dX4_leaps_14 (fun H locs hW hS => ?_)
    exact h d hd p e s m args below meth c hcx H locs _ hW hS (lv_sub hl [1, 4, 0] rfl))
/-! lettersOf -/
set_option maxHeartbeats 4000000 in
set_option maxRecDepth 100000 in
theorem mb_lettersOf_4 {E : mj_E} {σ : mj_S} {x1 : Int32} {x2 : Int32} {x3 : Int32} {P : Int32 → mj_S → Prop} (h : (vp_in x1 4 ∧ (((mj_A σ 15 x1.toNatClampNeg) ≤ x3 → P x2 σ) ∧ (¬ (mj_A σ 15 x1.toNatClampNeg) ≤ x3 → (vp_in (((3 : Int32) * x1) + x3) 12 ∧ mg_lettersOf_4 E σ x1 (x2 ||| ((1 : Int32) <<< ((mj_A σ 16 (((3 : Int32) * x1) + x3).toNatClampNeg) &&& 31))) (x3 + (1 : Int32)) P))))) : mg_lettersOf_4 E σ x1 x2 x3 P := by
  intro d hd p e s m args below meth c hcx H locs ls hW hS hl
  have hx := hcx.1
  have hb := hcx.2.1
  have hown := hcx.2.2.2.2.2.1
  have hts := hcx.2.2.2.2.2.2.1
  refine lv_iload_n (pc := 4) hx hb dX4_lettersOf_4 rfl (lv_at hl 3 rfl) ?_
  refine lv_aload_n (pc := 5) hx hb dX4_lettersOf_5 rfl (lv_at hl 0 rfl) ?_
  refine mj_geta (pc := 6) hcx hW 15 (by decide) rfl q1270 dX4_lettersOf_6 ?_
  refine lv_iload_n (pc := 9) hx hb dX4_lettersOf_9 rfl (lv_at hl 1 rfl) ?_
  obtain ⟨g1, h⟩ := h
  refine mj_ald (pc := 10) hcx hW 15 rfl rfl g1 dX4_lettersOf_10 ?_
  refine lv_icmp_ge (pc := 11) (tgt := 35) hx hb dX4_lettersOf_11 (by decide) (fun c2 => ?_) (fun c2 => ?_)
  · have h := h.1 c2
    refine lv_iload_n (pc := 35) hx hb dX4_lettersOf_35 rfl (lv_at hl 2 rfl) ?_
    exact mj_reti (pc := 36) hcx hW hS rfl h dX4_lettersOf_36
  · have h := h.2 c2
    refine lv_iload_n (pc := 14) hx hb dX4_lettersOf_14 rfl (lv_at hl 2 rfl) ?_
    refine lv_iconst (pc := 15) (v := (1 : Int32)) hx hb dX4_lettersOf_15 (by decide) ?_
    refine lv_aload_n (pc := 16) hx hb dX4_lettersOf_16 rfl (lv_at hl 0 rfl) ?_
    refine mj_geta (pc := 17) hcx hW 16 (by decide) rfl q1271 dX4_lettersOf_17 ?_
    refine lv_iconst (pc := 20) (v := (3 : Int32)) hx hb dX4_lettersOf_20 (by decide) ?_
    refine lv_iload_n (pc := 21) hx hb dX4_lettersOf_21 rfl (lv_at hl 1 rfl) ?_
    refine lv_imul (pc := 22) hx hb dX4_lettersOf_22 ?_
    refine lv_iload_n (pc := 23) hx hb dX4_lettersOf_23 rfl (lv_at hl 3 rfl) ?_
    refine lv_iadd (pc := 24) hx hb dX4_lettersOf_24 ?_
    obtain ⟨g3, h⟩ := h
    refine mj_ald (pc := 25) hcx hW 16 rfl rfl g3 dX4_lettersOf_25 ?_
    refine lv_ishl (pc := 26) hx hb dX4_lettersOf_26 ?_
    refine lv_ior (pc := 27) hx hb dX4_lettersOf_27 ?_
    refine lv_istore_n (pc := 28) (lv' := [(2, .int (x2 ||| ((1 : Int32) <<< ((mj_A σ 16 (((3 : Int32) * x1) + x3).toNatClampNeg) &&& 31)))), (0, .ref (mj_o E)), (1, .int x1), (3, .int x3)]) hx hb dX4_lettersOf_28 rfl hl (by decide) rfl (fun ls hl => ?_)
    refine lv_iinc (pc := 29) (v := (x3 + (1 : Int32))) (lv' := [(3, .int (x3 + (1 : Int32))), (2, .int (x2 ||| ((1 : Int32) <<< ((mj_A σ 16 (((3 : Int32) * x1) + x3).toNatClampNeg) &&& 31)))), (0, .ref (mj_o E)), (1, .int x1)]) hx hb dX4_lettersOf_29 hl (k := 3) rfl rfl (by decide) rfl (fun ls hl => ?_)
    refine lv_goto (pc := 32) (tgt := 4) hx hb dX4_lettersOf_32 (by decide) ?_
    exact h d hd p e s m args below meth c hcx H locs _ hW hS (lv_sub hl [2, 3, 1, 0] rfl)
set_option maxHeartbeats 4000000 in
set_option maxRecDepth 100000 in
theorem mb_lettersOf {E : mj_E} {σ : mj_S} {x1 : Int32} {P : Int32 → mj_S → Prop} (hE : mj_ok E) (h : mg_lettersOf_4 E σ x1 (0 : Int32) (0 : Int32) P) : ms_lettersOf E σ x1 P :=
  mj_enter (k := 0) (lv := [(0, .ref (mj_o E)), (1, .int x1)]) hE rfl (Nat.le_of_ble_eq_true rfl) rfl (by
    intro d hd p e s m args below meth c hcx H locs ls hW hS hl
    have hx := hcx.1
    have hb := hcx.2.1
    have hown := hcx.2.2.2.2.2.1
    have hts := hcx.2.2.2.2.2.2.1
    refine lv_iconst (pc := 0) (v := (0 : Int32)) hx hb dX4_lettersOf_0 (by decide) ?_
    refine lv_istore_n (pc := 1) (lv' := [(2, .int (0 : Int32)), (0, .ref (mj_o E)), (1, .int x1)]) hx hb dX4_lettersOf_1 rfl hl (by decide) rfl (fun ls hl => ?_)
    refine lv_iconst (pc := 2) (v := (0 : Int32)) hx hb dX4_lettersOf_2 (by decide) ?_
    refine lv_istore_n (pc := 3) (lv' := [(3, .int (0 : Int32)), (2, .int (0 : Int32)), (0, .ref (mj_o E)), (1, .int x1)]) hx hb dX4_lettersOf_3 rfl hl (by decide) rfl (fun ls hl => ?_)
    exact h d hd p e s m args below meth c hcx H locs _ hW hS (lv_sub hl [2, 3, 1, 0] rfl))
/-! many -/
set_option maxHeartbeats 4000000 in
set_option maxRecDepth 100000 in
theorem mb_many {E : mj_E} {σ : mj_S} {x1 : Int32} {P : Int32 → mj_S → Prop} (hE : mj_ok E) (h : (vp_in ((2 : Int32) + x1) 331 ∧ P (mj_A σ 13 ((2 : Int32) + x1).toNatClampNeg) σ)) : ms_many E σ x1 P :=
  mj_enter (k := 0) (lv := [(0, .ref (mj_o E)), (1, .int x1)]) hE rfl (Nat.le_of_ble_eq_true rfl) rfl (by
    intro d hd p e s m args below meth c hcx H locs ls hW hS hl
    have hx := hcx.1
    have hb := hcx.2.1
    have hown := hcx.2.2.2.2.2.1
    have hts := hcx.2.2.2.2.2.2.1
    refine lv_aload_n (pc := 0) hx hb dX4_many_0 rfl (lv_at hl 0 rfl) ?_
    refine mj_geta (pc := 1) hcx hW 13 (by decide) rfl q1268 dX4_many_1 ?_
    refine lv_iconst (pc := 4) (v := (2 : Int32)) hx hb dX4_many_4 (by decide) ?_
    refine lv_iload_n (pc := 5) hx hb dX4_many_5 rfl (lv_at hl 1 rfl) ?_
    refine lv_iadd (pc := 6) hx hb dX4_many_6 ?_
    obtain ⟨g1, h⟩ := h
    refine mj_ald (pc := 7) hcx hW 13 rfl rfl g1 dX4_many_7 ?_
    exact mj_reti (pc := 8) hcx hW hS rfl h dX4_many_8)
/-! numberOf -/
set_option maxHeartbeats 4000000 in
set_option maxRecDepth 100000 in
theorem mb_numberOf {E : mj_E} {σ : mj_S} {x1 : Int32} {x2 : Int32} {P : Int32 → mj_S → Prop} (hE : mj_ok E) (h : (vp_in (((4 : Int32) * x1) + x2) 82944 ∧ P (mj_A σ 25 (((4 : Int32) * x1) + x2).toNatClampNeg) σ)) : ms_numberOf E σ x1 x2 P :=
  mj_enter (k := 0) (lv := [(0, .ref (mj_o E)), (1, .int x1), (2, .int x2)]) hE rfl (Nat.le_of_ble_eq_true rfl) rfl (by
    intro d hd p e s m args below meth c hcx H locs ls hW hS hl
    have hx := hcx.1
    have hb := hcx.2.1
    have hown := hcx.2.2.2.2.2.1
    have hts := hcx.2.2.2.2.2.2.1
    refine lv_aload_n (pc := 0) hx hb dX4_numberOf_0 rfl (lv_at hl 0 rfl) ?_
    refine mj_geta (pc := 1) hcx hW 25 (by decide) rfl q1280 dX4_numberOf_1 ?_
    refine lv_iconst (pc := 4) (v := (4 : Int32)) hx hb dX4_numberOf_4 (by decide) ?_
    refine lv_iload_n (pc := 5) hx hb dX4_numberOf_5 rfl (lv_at hl 1 rfl) ?_
    refine lv_imul (pc := 6) hx hb dX4_numberOf_6 ?_
    refine lv_iload_n (pc := 7) hx hb dX4_numberOf_7 rfl (lv_at hl 2 rfl) ?_
    refine lv_iadd (pc := 8) hx hb dX4_numberOf_8 ?_
    obtain ⟨g1, h⟩ := h
    refine mj_ald (pc := 9) hcx hW 25 rfl rfl g1 dX4_numberOf_9 ?_
    exact mj_reti (pc := 10) hcx hW hS rfl h dX4_numberOf_10)
/-! putAside -/
set_option maxHeartbeats 4000000 in
set_option maxRecDepth 100000 in
theorem mb_putAside_2 {E : mj_E} {σ : mj_S} {x1 : Int32} {P : mj_S → Prop} (h : (((150 : Int32) ≤ x1 → P σ) ∧ (¬ (150 : Int32) ≤ x1 → (vp_in x1 331 ∧ (vp_in x1 150 ∧ mg_putAside_2 E (mj_sA σ 40 x1.toNatClampNeg (mj_A σ 13 x1.toNatClampNeg)) (x1 + (1 : Int32)) P))))) : mg_putAside_2 E σ x1 P := by
  intro d hd p e s m args below meth c hcx H locs ls hW hS hl
  have hx := hcx.1
  have hb := hcx.2.1
  have hown := hcx.2.2.2.2.2.1
  have hts := hcx.2.2.2.2.2.2.1
  refine lv_iload_n (pc := 2) hx hb dX4_putAside_2 rfl (lv_at hl 1 rfl) ?_
  refine lv_sipush (pc := 3) (v := (150 : Int32)) hx hb dX4_putAside_3 (by decide) ?_
  refine lv_icmp_ge (pc := 6) (tgt := 27) hx hb dX4_putAside_6 (by decide) (fun c1 => ?_) (fun c1 => ?_)
  · have h := h.1 c1
    exact mj_retv (pc := 27) hcx hW hS h dX4_putAside_27
  · have h := h.2 c1
    refine lv_aload_n (pc := 9) hx hb dX4_putAside_9 rfl (lv_at hl 0 rfl) ?_
    refine mj_geta (pc := 10) hcx hW 40 (by decide) rfl q1295 dX4_putAside_10 ?_
    refine lv_iload_n (pc := 13) hx hb dX4_putAside_13 rfl (lv_at hl 1 rfl) ?_
    refine lv_aload_n (pc := 14) hx hb dX4_putAside_14 rfl (lv_at hl 0 rfl) ?_
    refine mj_geta (pc := 15) hcx hW 13 (by decide) rfl q1268 dX4_putAside_15 ?_
    refine lv_iload_n (pc := 18) hx hb dX4_putAside_18 rfl (lv_at hl 1 rfl) ?_
    obtain ⟨g2, h⟩ := h
    refine mj_ald (pc := 19) hcx hW 13 rfl rfl g2 dX4_putAside_19 ?_
    obtain ⟨g3, h⟩ := h
    refine mj_ast (pc := 20) hcx hW hS 40 rfl rfl g3 dX4_putAside_20 (fun H locs hW hS => ?_)
    refine lv_iinc (pc := 21) (v := (x1 + (1 : Int32))) (lv' := [(1, .int (x1 + (1 : Int32))), (0, .ref (mj_o E))]) hx hb dX4_putAside_21 hl (k := 1) rfl rfl (by decide) rfl (fun ls hl => ?_)
    refine lv_goto (pc := 24) (tgt := 2) hx hb dX4_putAside_24 (by decide) ?_
    exact h d hd p e s m args below meth c hcx H locs _ hW hS (lv_sub hl [1, 0] rfl)
set_option maxHeartbeats 4000000 in
set_option maxRecDepth 100000 in
theorem mb_putAside {E : mj_E} {σ : mj_S} {P : mj_S → Prop} (hE : mj_ok E) (h : mg_putAside_2 E σ (0 : Int32) P) : ms_putAside E σ P :=
  mj_enter (k := 0) (lv := [(0, .ref (mj_o E))]) hE rfl (Nat.le_of_ble_eq_true rfl) rfl (by
    intro d hd p e s m args below meth c hcx H locs ls hW hS hl
    have hx := hcx.1
    have hb := hcx.2.1
    have hown := hcx.2.2.2.2.2.1
    have hts := hcx.2.2.2.2.2.2.1
    refine lv_iconst (pc := 0) (v := (0 : Int32)) hx hb dX4_putAside_0 (by decide) ?_
    refine lv_istore_n (pc := 1) (lv' := [(1, .int (0 : Int32)), (0, .ref (mj_o E))]) hx hb dX4_putAside_1 rfl hl (by decide) rfl (fun ls hl => ?_)
    exact h d hd p e s m args below meth c hcx H locs _ hW hS (lv_sub hl [1, 0] rfl))
/-! rowAt -/
set_option maxHeartbeats 4000000 in
set_option maxRecDepth 100000 in
theorem mb_rowAt {E : mj_E} {σ : mj_S} {x0 : Int32} {x1 : Int32} {P : Int32 → mj_S → Prop} (hE : mj_ok E) (h : P ((6 : Int32) + ((3 : Int32) * (((12 : Int32) * x0) + x1))) σ) : ms_rowAt E σ x0 x1 P :=
  mj_enter (k := 0) (lv := [(0, .int x0), (1, .int x1)]) hE rfl (Nat.le_of_ble_eq_true rfl) rfl (by
    intro d hd p e s m args below meth c hcx H locs ls hW hS hl
    have hx := hcx.1
    have hb := hcx.2.1
    have hown := hcx.2.2.2.2.2.1
    have hts := hcx.2.2.2.2.2.2.1
    refine lv_bipush (pc := 0) (v := (6 : Int32)) hx hb dX4_rowAt_0 (by decide) ?_
    refine lv_iconst (pc := 2) (v := (3 : Int32)) hx hb dX4_rowAt_2 (by decide) ?_
    refine lv_bipush (pc := 3) (v := (12 : Int32)) hx hb dX4_rowAt_3 (by decide) ?_
    refine lv_iload_n (pc := 5) hx hb dX4_rowAt_5 rfl (lv_at hl 0 rfl) ?_
    refine lv_imul (pc := 6) hx hb dX4_rowAt_6 ?_
    refine lv_iload_n (pc := 7) hx hb dX4_rowAt_7 rfl (lv_at hl 1 rfl) ?_
    refine lv_iadd (pc := 8) hx hb dX4_rowAt_8 ?_
    refine lv_imul (pc := 9) hx hb dX4_rowAt_9 ?_
    refine lv_iadd (pc := 10) hx hb dX4_rowAt_10 ?_
    exact mj_reti (pc := 11) hcx hW hS rfl h dX4_rowAt_11)
/-! takesFour -/
set_option maxHeartbeats 4000000 in
set_option maxRecDepth 100000 in
theorem mb_takesFour {E : mj_E} {σ : mj_S} {x1 : Int32} {x2 : Int32} {x3 : Int32} {x4 : Int32} {P : mj_S → Prop} (hE : mj_ok E) (h : (vp_in (0 : Int32) 4 ∧ (vp_in (1 : Int32) 4 ∧ (vp_in (2 : Int32) 4 ∧ (vp_in (3 : Int32) 4 ∧ P (mj_sA (mj_sA (mj_sA (mj_sA σ 39 (0 : Int32).toNatClampNeg x1) 39 (1 : Int32).toNatClampNeg x2) 39 (2 : Int32).toNatClampNeg x3) 39 (3 : Int32).toNatClampNeg x4)))))) : ms_takesFour E σ x1 x2 x3 x4 P :=
  mj_enter (k := 0) (lv := [(0, .ref (mj_o E)), (1, .int x1), (2, .int x2), (3, .int x3), (4, .int x4)]) hE rfl (Nat.le_of_ble_eq_true rfl) rfl (by
    intro d hd p e s m args below meth c hcx H locs ls hW hS hl
    have hx := hcx.1
    have hb := hcx.2.1
    have hown := hcx.2.2.2.2.2.1
    have hts := hcx.2.2.2.2.2.2.1
    refine lv_aload_n (pc := 0) hx hb dX4_takesFour_0 rfl (lv_at hl 0 rfl) ?_
    refine mj_geta (pc := 1) hcx hW 39 (by decide) rfl q1294 dX4_takesFour_1 ?_
    refine lv_iconst (pc := 4) (v := (0 : Int32)) hx hb dX4_takesFour_4 (by decide) ?_
    refine lv_iload_n (pc := 5) hx hb dX4_takesFour_5 rfl (lv_at hl 1 rfl) ?_
    obtain ⟨g1, h⟩ := h
    refine mj_ast (pc := 6) hcx hW hS 39 rfl rfl g1 dX4_takesFour_6 (fun H locs hW hS => ?_)
    refine lv_aload_n (pc := 7) hx hb dX4_takesFour_7 rfl (lv_at hl 0 rfl) ?_
    refine mj_geta (pc := 8) hcx hW 39 (by decide) rfl q1294 dX4_takesFour_8 ?_
    refine lv_iconst (pc := 11) (v := (1 : Int32)) hx hb dX4_takesFour_11 (by decide) ?_
    refine lv_iload_n (pc := 12) hx hb dX4_takesFour_12 rfl (lv_at hl 2 rfl) ?_
    obtain ⟨g2, h⟩ := h
    refine mj_ast (pc := 13) hcx hW hS 39 rfl rfl g2 dX4_takesFour_13 (fun H locs hW hS => ?_)
    refine lv_aload_n (pc := 14) hx hb dX4_takesFour_14 rfl (lv_at hl 0 rfl) ?_
    refine mj_geta (pc := 15) hcx hW 39 (by decide) rfl q1294 dX4_takesFour_15 ?_
    refine lv_iconst (pc := 18) (v := (2 : Int32)) hx hb dX4_takesFour_18 (by decide) ?_
    refine lv_iload_n (pc := 19) hx hb dX4_takesFour_19 rfl (lv_at hl 3 rfl) ?_
    obtain ⟨g3, h⟩ := h
    refine mj_ast (pc := 20) hcx hW hS 39 rfl rfl g3 dX4_takesFour_20 (fun H locs hW hS => ?_)
    refine lv_aload_n (pc := 21) hx hb dX4_takesFour_21 rfl (lv_at hl 0 rfl) ?_
    refine mj_geta (pc := 22) hcx hW 39 (by decide) rfl q1294 dX4_takesFour_22 ?_
    refine lv_iconst (pc := 25) (v := (3 : Int32)) hx hb dX4_takesFour_25 (by decide) ?_
    refine lv_iload (pc := 26) hx hb dX4_takesFour_26 (lv_at hl 4 rfl) ?_
    obtain ⟨g4, h⟩ := h
    refine mj_ast (pc := 28) hcx hW hS 39 rfl rfl g4 dX4_takesFour_28 (fun H locs hW hS => ?_)
    exact mj_retv (pc := 29) hcx hW hS h dX4_takesFour_29)
/-! takesKey -/
set_option maxHeartbeats 4000000 in
set_option maxRecDepth 100000 in
theorem mb_takesKey_10 {E : mj_E} {σ : mj_S} {x1 : Int32} {x2 : Int32} {x3 : Int32} {x4 : Int32} {P : mj_S → Prop} (h : ((x4 ≤ 0 → mg_takesKey_39 E σ x1 x2 x3 x4 P) ∧ (¬ x4 ≤ 0 → (vp_in ((((12 : Int32) * x1) + x4) - (1 : Int32)) 192 ∧ (((mj_A σ 21 ((((12 : Int32) * x1) + x4) - (1 : Int32)).toNatClampNeg) ≤ x2 → mg_takesKey_39 E σ x1 x2 x3 x4 P) ∧ (¬ (mj_A σ 21 ((((12 : Int32) * x1) + x4) - (1 : Int32)).toNatClampNeg) ≤ x2 → mg_takesKey_10 E σ x1 x2 x3 (x4 + (-1 : Int32)) P)))))) : mg_takesKey_10 E σ x1 x2 x3 x4 P := by
  intro d hd p e s m args below meth c hcx H locs ls hW hS hl
  have hx := hcx.1
  have hb := hcx.2.1
  have hown := hcx.2.2.2.2.2.1
  have hts := hcx.2.2.2.2.2.2.1
  refine lv_iload (pc := 10) hx hb dX4_takesKey_10 (lv_at hl 4 rfl) ?_
  refine lv_if_le (pc := 12) (tgt := 39) hx hb dX4_takesKey_12 (by decide) (fun c1 => ?_) (fun c1 => ?_)
  · have h := h.1 c1
    exact h d hd p e s m args below meth c hcx H locs _ hW hS (lv_sub hl [0, 1, 2, 3, 4] rfl)
  · have h := h.2 c1
    refine lv_aload_n (pc := 15) hx hb dX4_takesKey_15 rfl (lv_at hl 0 rfl) ?_
    refine mj_geta (pc := 16) hcx hW 21 (by decide) rfl q1276 dX4_takesKey_16 ?_
    refine lv_bipush (pc := 19) (v := (12 : Int32)) hx hb dX4_takesKey_19 (by decide) ?_
    refine lv_iload_n (pc := 21) hx hb dX4_takesKey_21 rfl (lv_at hl 1 rfl) ?_
    refine lv_imul (pc := 22) hx hb dX4_takesKey_22 ?_
    refine lv_iload (pc := 23) hx hb dX4_takesKey_23 (lv_at hl 4 rfl) ?_
    refine lv_iadd (pc := 25) hx hb dX4_takesKey_25 ?_
    refine lv_iconst (pc := 26) (v := (1 : Int32)) hx hb dX4_takesKey_26 (by decide) ?_
    refine lv_isub (pc := 27) hx hb dX4_takesKey_27 ?_
    obtain ⟨g2, h⟩ := h
    refine mj_ald (pc := 28) hcx hW 21 rfl rfl g2 dX4_takesKey_28 ?_
    refine lv_iload_n (pc := 29) hx hb dX4_takesKey_29 rfl (lv_at hl 2 rfl) ?_
    refine lv_icmp_le (pc := 30) (tgt := 39) hx hb dX4_takesKey_30 (by decide) (fun c3 => ?_) (fun c3 => ?_)
    · have h := h.1 c3
      exact h d hd p e s m args below meth c hcx H locs _ hW hS (lv_sub hl [0, 1, 2, 3, 4] rfl)
    · have h := h.2 c3
      refine lv_iinc (pc := 33) (v := (x4 + (-1 : Int32))) (lv' := [(4, .int (x4 + (-1 : Int32))), (0, .ref (mj_o E)), (1, .int x1), (2, .int x2), (3, .int x3)]) hx hb dX4_takesKey_33 hl (k := 4) rfl rfl (by decide) rfl (fun ls hl => ?_)
      refine lv_goto (pc := 36) (tgt := 10) hx hb dX4_takesKey_36 (by decide) ?_
      exact h d hd p e s m args below meth c hcx H locs _ hW hS (lv_sub hl [1, 2, 3, 4, 0] rfl)
set_option maxHeartbeats 4000000 in
set_option maxRecDepth 100000 in
theorem mb_takesKey_39 {E : mj_E} {σ : mj_S} {x1 : Int32} {x2 : Int32} {x3 : Int32} {x4 : Int32} {P : mj_S → Prop} (h : ((x4 ≤ 0 → mg_takesKey_66 E σ x1 x2 x4 x3 P) ∧ (¬ x4 ≤ 0 → (vp_in ((((12 : Int32) * x1) + x4) - (1 : Int32)) 192 ∧ (((mj_A σ 21 ((((12 : Int32) * x1) + x4) - (1 : Int32)).toNatClampNeg) = x2 → P σ) ∧ (¬ (mj_A σ 21 ((((12 : Int32) * x1) + x4) - (1 : Int32)).toNatClampNeg) = x2 → mg_takesKey_66 E σ x1 x2 x4 x3 P)))))) : mg_takesKey_39 E σ x1 x2 x3 x4 P := by
  intro d hd p e s m args below meth c hcx H locs ls hW hS hl
  have hx := hcx.1
  have hb := hcx.2.1
  have hown := hcx.2.2.2.2.2.1
  have hts := hcx.2.2.2.2.2.2.1
  refine lv_iload (pc := 39) hx hb dX4_takesKey_39 (lv_at hl 4 rfl) ?_
  refine lv_if_le (pc := 41) (tgt := 63) hx hb dX4_takesKey_41 (by decide) (fun c1 => ?_) (fun c1 => ?_)
  · have h := h.1 c1
    refine lv_iload_n (pc := 63) hx hb dX4_takesKey_63 rfl (lv_at hl 3 rfl) ?_
    refine lv_istore (pc := 64) (lv' := [(5, .int x3), (0, .ref (mj_o E)), (1, .int x1), (2, .int x2), (3, .int x3), (4, .int x4)]) hx hb dX4_takesKey_64 hl (by decide) rfl (fun ls hl => ?_)
    exact h d hd p e s m args below meth c hcx H locs _ hW hS (lv_sub hl [1, 2, 3, 5, 0] rfl)
  · have h := h.2 c1
    refine lv_aload_n (pc := 44) hx hb dX4_takesKey_44 rfl (lv_at hl 0 rfl) ?_
    refine mj_geta (pc := 45) hcx hW 21 (by decide) rfl q1276 dX4_takesKey_45 ?_
    refine lv_bipush (pc := 48) (v := (12 : Int32)) hx hb dX4_takesKey_48 (by decide) ?_
    refine lv_iload_n (pc := 50) hx hb dX4_takesKey_50 rfl (lv_at hl 1 rfl) ?_
    refine lv_imul (pc := 51) hx hb dX4_takesKey_51 ?_
    refine lv_iload (pc := 52) hx hb dX4_takesKey_52 (lv_at hl 4 rfl) ?_
    refine lv_iadd (pc := 54) hx hb dX4_takesKey_54 ?_
    refine lv_iconst (pc := 55) (v := (1 : Int32)) hx hb dX4_takesKey_55 (by decide) ?_
    refine lv_isub (pc := 56) hx hb dX4_takesKey_56 ?_
    obtain ⟨g2, h⟩ := h
    refine mj_ald (pc := 57) hcx hW 21 rfl rfl g2 dX4_takesKey_57 ?_
    refine lv_iload_n (pc := 58) hx hb dX4_takesKey_58 rfl (lv_at hl 2 rfl) ?_
    refine lv_icmp_ne (pc := 59) (tgt := 63) hx hb dX4_takesKey_59 (by decide) (fun c3 => ?_) (fun c3 => ?_)
    · have h := h.2 c3
      refine lv_iload_n (pc := 63) hx hb dX4_takesKey_63 rfl (lv_at hl 3 rfl) ?_
      refine lv_istore (pc := 64) (lv' := [(5, .int x3), (0, .ref (mj_o E)), (1, .int x1), (2, .int x2), (3, .int x3), (4, .int x4)]) hx hb dX4_takesKey_64 hl (by decide) rfl (fun ls hl => ?_)
      exact h d hd p e s m args below meth c hcx H locs _ hW hS (lv_sub hl [1, 2, 3, 5, 0] rfl)
    · have h := h.1 c3
      exact mj_retv (pc := 62) hcx hW hS h dX4_takesKey_62
set_option maxHeartbeats 4000000 in
set_option maxRecDepth 100000 in
theorem mb_takesKey_66 {E : mj_E} {σ : mj_S} {x1 : Int32} {x2 : Int32} {x4 : Int32} {x5 : Int32} {P : mj_S → Prop} (h : ((x5 ≤ x4 → (vp_in (((12 : Int32) * x1) + x4) 192 ∧ (vp_in x1 16 ∧ (vp_in x1 16 ∧ P (mj_sA (mj_sA σ 21 (((12 : Int32) * x1) + x4).toNatClampNeg x2) 22 x1.toNatClampNeg ((mj_A (mj_sA σ 21 (((12 : Int32) * x1) + x4).toNatClampNeg x2) 22 x1.toNatClampNeg) + (1 : Int32))))))) ∧ (¬ x5 ≤ x4 → (vp_in ((((12 : Int32) * x1) + x5) - (1 : Int32)) 192 ∧ (vp_in (((12 : Int32) * x1) + x5) 192 ∧ mg_takesKey_66 E (mj_sA σ 21 (((12 : Int32) * x1) + x5).toNatClampNeg (mj_A σ 21 ((((12 : Int32) * x1) + x5) - (1 : Int32)).toNatClampNeg)) x1 x2 x4 (x5 + (-1 : Int32)) P))))) : mg_takesKey_66 E σ x1 x2 x4 x5 P := by
  intro d hd p e s m args below meth c hcx H locs ls hW hS hl
  have hx := hcx.1
  have hb := hcx.2.1
  have hown := hcx.2.2.2.2.2.1
  have hts := hcx.2.2.2.2.2.2.1
  refine lv_iload (pc := 66) hx hb dX4_takesKey_66 (lv_at hl 4 rfl) ?_
  refine lv_iload (pc := 68) hx hb dX4_takesKey_68 (lv_at hl 3 rfl) ?_
  refine lv_icmp_le (pc := 70) (tgt := 105) hx hb dX4_takesKey_70 (by decide) (fun c1 => ?_) (fun c1 => ?_)
  · have h := h.1 c1
    refine lv_aload_n (pc := 105) hx hb dX4_takesKey_105 rfl (lv_at hl 0 rfl) ?_
    refine mj_geta (pc := 106) hcx hW 21 (by decide) rfl q1276 dX4_takesKey_106 ?_
    refine lv_bipush (pc := 109) (v := (12 : Int32)) hx hb dX4_takesKey_109 (by decide) ?_
    refine lv_iload_n (pc := 111) hx hb dX4_takesKey_111 rfl (lv_at hl 1 rfl) ?_
    refine lv_imul (pc := 112) hx hb dX4_takesKey_112 ?_
    refine lv_iload (pc := 113) hx hb dX4_takesKey_113 (lv_at hl 3 rfl) ?_
    refine lv_iadd (pc := 115) hx hb dX4_takesKey_115 ?_
    refine lv_iload_n (pc := 116) hx hb dX4_takesKey_116 rfl (lv_at hl 2 rfl) ?_
    obtain ⟨g2, h⟩ := h
    refine mj_ast (pc := 117) hcx hW hS 21 rfl rfl g2 dX4_takesKey_117 (fun H locs hW hS => ?_)
    refine lv_aload_n (pc := 118) hx hb dX4_takesKey_118 rfl (lv_at hl 0 rfl) ?_
    refine mj_geta (pc := 119) hcx hW 22 (by decide) rfl q1277 dX4_takesKey_119 ?_
    refine lv_iload_n (pc := 122) hx hb dX4_takesKey_122 rfl (lv_at hl 1 rfl) ?_
    refine lv_dup2_11 (pc := 123) hx hb dX4_takesKey_123 rfl rfl ?_
    obtain ⟨g3, h⟩ := h
    refine mj_ald (pc := 124) hcx hW 22 rfl rfl g3 dX4_takesKey_124 ?_
    refine lv_iconst (pc := 125) (v := (1 : Int32)) hx hb dX4_takesKey_125 (by decide) ?_
    refine lv_iadd (pc := 126) hx hb dX4_takesKey_126 ?_
    obtain ⟨g4, h⟩ := h
    refine mj_ast (pc := 127) hcx hW hS 22 rfl rfl g4 dX4_takesKey_127 (fun H locs hW hS => ?_)
    exact mj_retv (pc := 128) hcx hW hS h dX4_takesKey_128
  · have h := h.2 c1
    refine lv_aload_n (pc := 73) hx hb dX4_takesKey_73 rfl (lv_at hl 0 rfl) ?_
    refine mj_geta (pc := 74) hcx hW 21 (by decide) rfl q1276 dX4_takesKey_74 ?_
    refine lv_bipush (pc := 77) (v := (12 : Int32)) hx hb dX4_takesKey_77 (by decide) ?_
    refine lv_iload_n (pc := 79) hx hb dX4_takesKey_79 rfl (lv_at hl 1 rfl) ?_
    refine lv_imul (pc := 80) hx hb dX4_takesKey_80 ?_
    refine lv_iload (pc := 81) hx hb dX4_takesKey_81 (lv_at hl 4 rfl) ?_
    refine lv_iadd (pc := 83) hx hb dX4_takesKey_83 ?_
    refine lv_aload_n (pc := 84) hx hb dX4_takesKey_84 rfl (lv_at hl 0 rfl) ?_
    refine mj_geta (pc := 85) hcx hW 21 (by decide) rfl q1276 dX4_takesKey_85 ?_
    refine lv_bipush (pc := 88) (v := (12 : Int32)) hx hb dX4_takesKey_88 (by decide) ?_
    refine lv_iload_n (pc := 90) hx hb dX4_takesKey_90 rfl (lv_at hl 1 rfl) ?_
    refine lv_imul (pc := 91) hx hb dX4_takesKey_91 ?_
    refine lv_iload (pc := 92) hx hb dX4_takesKey_92 (lv_at hl 4 rfl) ?_
    refine lv_iadd (pc := 94) hx hb dX4_takesKey_94 ?_
    refine lv_iconst (pc := 95) (v := (1 : Int32)) hx hb dX4_takesKey_95 (by decide) ?_
    refine lv_isub (pc := 96) hx hb dX4_takesKey_96 ?_
    obtain ⟨g5, h⟩ := h
    refine mj_ald (pc := 97) hcx hW 21 rfl rfl g5 dX4_takesKey_97 ?_
    obtain ⟨g6, h⟩ := h
    refine mj_ast (pc := 98) hcx hW hS 21 rfl rfl g6 dX4_takesKey_98 (fun H locs hW hS => ?_)
    refine lv_iinc (pc := 99) (v := (x5 + (-1 : Int32))) (lv' := [(5, .int (x5 + (-1 : Int32))), (0, .ref (mj_o E)), (1, .int x1), (2, .int x2), (4, .int x4)]) hx hb dX4_takesKey_99 hl (k := 4) rfl rfl (by decide) rfl (fun ls hl => ?_)
    refine lv_goto (pc := 102) (tgt := 66) hx hb dX4_takesKey_102 (by decide) ?_
    exact h d hd p e s m args below meth c hcx H locs _ hW hS (lv_sub hl [1, 2, 3, 4, 0] rfl)
set_option maxHeartbeats 4000000 in
set_option maxRecDepth 100000 in
theorem mb_takesKey {E : mj_E} {σ : mj_S} {x1 : Int32} {x2 : Int32} {P : mj_S → Prop} (hE : mj_ok E) (h : (vp_in x1 16 ∧ mg_takesKey_10 E σ x1 x2 (mj_A σ 22 x1.toNatClampNeg) (mj_A σ 22 x1.toNatClampNeg) P)) : ms_takesKey E σ x1 x2 P :=
  mj_enter (k := 0) (lv := [(0, .ref (mj_o E)), (1, .int x1), (2, .int x2)]) hE rfl (Nat.le_of_ble_eq_true rfl) rfl (by
    intro d hd p e s m args below meth c hcx H locs ls hW hS hl
    have hx := hcx.1
    have hb := hcx.2.1
    have hown := hcx.2.2.2.2.2.1
    have hts := hcx.2.2.2.2.2.2.1
    refine lv_aload_n (pc := 0) hx hb dX4_takesKey_0 rfl (lv_at hl 0 rfl) ?_
    refine mj_geta (pc := 1) hcx hW 22 (by decide) rfl q1277 dX4_takesKey_1 ?_
    refine lv_iload_n (pc := 4) hx hb dX4_takesKey_4 rfl (lv_at hl 1 rfl) ?_
    obtain ⟨g1, h⟩ := h
    refine mj_ald (pc := 5) hcx hW 22 rfl rfl g1 dX4_takesKey_5 ?_
    refine lv_istore_n (pc := 6) (lv' := [(3, .int (mj_A σ 22 x1.toNatClampNeg)), (0, .ref (mj_o E)), (1, .int x1), (2, .int x2)]) hx hb dX4_takesKey_6 rfl hl (by decide) rfl (fun ls hl => ?_)
    refine lv_iload_n (pc := 7) hx hb dX4_takesKey_7 rfl (lv_at hl 0 rfl) ?_
    refine lv_istore (pc := 8) (lv' := [(4, .int (mj_A σ 22 x1.toNatClampNeg)), (3, .int (mj_A σ 22 x1.toNatClampNeg)), (0, .ref (mj_o E)), (1, .int x1), (2, .int x2)]) hx hb dX4_takesKey_8 hl (by decide) rfl (fun ls hl => ?_)
    exact h d hd p e s m args below meth c hcx H locs _ hW hS (lv_sub hl [2, 3, 4, 1, 0] rfl))
/-! takesRow -/
set_option maxHeartbeats 4000000 in
set_option maxRecDepth 100000 in
theorem mb_takesRow_2 {E : mj_E} {σ : mj_S} {x1 : Int32} {P : mj_S → Prop} (h : (((4 : Int32) ≤ x1 → P (mj_sF σ 26 ((mj_F σ 26) + (1 : Int32)))) ∧ (¬ (4 : Int32) ≤ x1 → (vp_in x1 4 ∧ (vp_in (((4 : Int32) * (mj_F σ 26)) + x1) 82944 ∧ mg_takesRow_2 E (mj_sA σ 25 (((4 : Int32) * (mj_F σ 26)) + x1).toNatClampNeg (mj_A σ 20 x1.toNatClampNeg)) (x1 + (1 : Int32)) P))))) : mg_takesRow_2 E σ x1 P := by
  intro d hd p e s m args below meth c hcx H locs ls hW hS hl
  have hx := hcx.1
  have hb := hcx.2.1
  have hown := hcx.2.2.2.2.2.1
  have hts := hcx.2.2.2.2.2.2.1
  refine lv_iload_n (pc := 2) hx hb dX4_takesRow_2 rfl (lv_at hl 1 rfl) ?_
  refine lv_iconst (pc := 3) (v := (4 : Int32)) hx hb dX4_takesRow_3 (by decide) ?_
  refine lv_icmp_ge (pc := 4) (tgt := 32) hx hb dX4_takesRow_4 (by decide) (fun c1 => ?_) (fun c1 => ?_)
  · have h := h.1 c1
    refine lv_aload_n (pc := 32) hx hb dX4_takesRow_32 rfl (lv_at hl 0 rfl) ?_
    refine lv_dup (pc := 33) hx hb dX4_takesRow_33 rfl ?_
    refine mj_geti (pc := 34) hcx hW 26 (by decide) rfl q1281 dX4_takesRow_34 ?_
    refine lv_iconst (pc := 37) (v := (1 : Int32)) hx hb dX4_takesRow_37 (by decide) ?_
    refine lv_iadd (pc := 38) hx hb dX4_takesRow_38 ?_
    refine mj_puti (pc := 39) hcx hW hS 26 (by decide) rfl rfl rfl rfl q1281 dX4_takesRow_39 (fun H locs hW hS => ?_)
    exact mj_retv (pc := 42) hcx hW hS h dX4_takesRow_42
  · have h := h.2 c1
    refine lv_aload_n (pc := 7) hx hb dX4_takesRow_7 rfl (lv_at hl 0 rfl) ?_
    refine mj_geta (pc := 8) hcx hW 25 (by decide) rfl q1280 dX4_takesRow_8 ?_
    refine lv_iconst (pc := 11) (v := (4 : Int32)) hx hb dX4_takesRow_11 (by decide) ?_
    refine lv_aload_n (pc := 12) hx hb dX4_takesRow_12 rfl (lv_at hl 0 rfl) ?_
    refine mj_geti (pc := 13) hcx hW 26 (by decide) rfl q1281 dX4_takesRow_13 ?_
    refine lv_imul (pc := 16) hx hb dX4_takesRow_16 ?_
    refine lv_iload_n (pc := 17) hx hb dX4_takesRow_17 rfl (lv_at hl 1 rfl) ?_
    refine lv_iadd (pc := 18) hx hb dX4_takesRow_18 ?_
    refine lv_aload_n (pc := 19) hx hb dX4_takesRow_19 rfl (lv_at hl 0 rfl) ?_
    refine mj_geta (pc := 20) hcx hW 20 (by decide) rfl q1275 dX4_takesRow_20 ?_
    refine lv_iload_n (pc := 23) hx hb dX4_takesRow_23 rfl (lv_at hl 1 rfl) ?_
    obtain ⟨g2, h⟩ := h
    refine mj_ald (pc := 24) hcx hW 20 rfl rfl g2 dX4_takesRow_24 ?_
    obtain ⟨g3, h⟩ := h
    refine mj_ast (pc := 25) hcx hW hS 25 rfl rfl g3 dX4_takesRow_25 (fun H locs hW hS => ?_)
    refine lv_iinc (pc := 26) (v := (x1 + (1 : Int32))) (lv' := [(1, .int (x1 + (1 : Int32))), (0, .ref (mj_o E))]) hx hb dX4_takesRow_26 hl (k := 1) rfl rfl (by decide) rfl (fun ls hl => ?_)
    refine lv_goto (pc := 29) (tgt := 2) hx hb dX4_takesRow_29 (by decide) ?_
    exact h d hd p e s m args below meth c hcx H locs _ hW hS (lv_sub hl [1, 0] rfl)
set_option maxHeartbeats 4000000 in
set_option maxRecDepth 100000 in
theorem mb_takesRow {E : mj_E} {σ : mj_S} {P : mj_S → Prop} (hE : mj_ok E) (h : mg_takesRow_2 E σ (0 : Int32) P) : ms_takesRow E σ P :=
  mj_enter (k := 0) (lv := [(0, .ref (mj_o E))]) hE rfl (Nat.le_of_ble_eq_true rfl) rfl (by
    intro d hd p e s m args below meth c hcx H locs ls hW hS hl
    have hx := hcx.1
    have hb := hcx.2.1
    have hown := hcx.2.2.2.2.2.1
    have hts := hcx.2.2.2.2.2.2.1
    refine lv_iconst (pc := 0) (v := (0 : Int32)) hx hb dX4_takesRow_0 (by decide) ?_
    refine lv_istore_n (pc := 1) (lv' := [(1, .int (0 : Int32)), (0, .ref (mj_o E))]) hx hb dX4_takesRow_1 rfl hl (by decide) rfl (fun ls hl => ?_)
    exact h d hd p e s m args below meth c hcx H locs _ hW hS (lv_sub hl [1, 0] rfl))
/-! thrown -/
set_option maxHeartbeats 4000000 in
set_option maxRecDepth 100000 in
theorem mb_thrown {E : mj_E} {σ : mj_S} {P : Int32 → mj_S → Prop} (hE : mj_ok E) (h : P (mj_F σ 0) σ) : ms_thrown E σ P :=
  mj_enter (k := 0) (lv := [(0, .ref (mj_o E))]) hE rfl (Nat.le_of_ble_eq_true rfl) rfl (by
    intro d hd p e s m args below meth c hcx H locs ls hW hS hl
    have hx := hcx.1
    have hb := hcx.2.1
    have hown := hcx.2.2.2.2.2.1
    have hts := hcx.2.2.2.2.2.2.1
    refine lv_aload_n (pc := 0) hx hb dX4_thrown_0 rfl (lv_at hl 0 rfl) ?_
    refine mj_geti (pc := 1) hcx hW 0 (by decide) rfl q1255 dX4_thrown_1 ?_
    exact mj_reti (pc := 4) hcx hW hS rfl h dX4_thrown_4)
/-! undo -/
set_option maxHeartbeats 4000000 in
set_option maxRecDepth 100000 in
theorem mb_undo_21 {E : mj_E} {σ : mj_S} {x1 : Int32} {P : Int32 → mj_S → Prop} (h : (((331 : Int32) ≤ x1 → P (mj_F σ 29) σ) ∧ (¬ (331 : Int32) ≤ x1 → (vp_in (((331 : Int32) * (mj_F σ 29)) + x1) 13240 ∧ (vp_in x1 331 ∧ mg_undo_21 E (mj_sA σ 13 x1.toNatClampNeg (mj_A σ 28 (((331 : Int32) * (mj_F σ 29)) + x1).toNatClampNeg)) (x1 + (1 : Int32)) P))))) : mg_undo_21 E σ x1 P := by
  intro d hd p e s m args below meth c hcx H locs ls hW hS hl
  have hx := hcx.1
  have hb := hcx.2.1
  have hown := hcx.2.2.2.2.2.1
  have hts := hcx.2.2.2.2.2.2.1
  refine lv_iload_n (pc := 21) hx hb dX4_undo_21 rfl (lv_at hl 1 rfl) ?_
  refine lv_sipush (pc := 22) (v := (331 : Int32)) hx hb dX4_undo_22 (by decide) ?_
  refine lv_icmp_ge (pc := 25) (tgt := 55) hx hb dX4_undo_25 (by decide) (fun c1 => ?_) (fun c1 => ?_)
  · have h := h.1 c1
    refine lv_aload_n (pc := 55) hx hb dX4_undo_55 rfl (lv_at hl 0 rfl) ?_
    refine mj_geti (pc := 56) hcx hW 29 (by decide) rfl q1284 dX4_undo_56 ?_
    exact mj_reti (pc := 59) hcx hW hS rfl h dX4_undo_59
  · have h := h.2 c1
    refine lv_aload_n (pc := 28) hx hb dX4_undo_28 rfl (lv_at hl 0 rfl) ?_
    refine mj_geta (pc := 29) hcx hW 13 (by decide) rfl q1268 dX4_undo_29 ?_
    refine lv_iload_n (pc := 32) hx hb dX4_undo_32 rfl (lv_at hl 1 rfl) ?_
    refine lv_aload_n (pc := 33) hx hb dX4_undo_33 rfl (lv_at hl 0 rfl) ?_
    refine mj_geta (pc := 34) hcx hW 28 (by decide) rfl q1283 dX4_undo_34 ?_
    refine lv_sipush (pc := 37) (v := (331 : Int32)) hx hb dX4_undo_37 (by decide) ?_
    refine lv_aload_n (pc := 40) hx hb dX4_undo_40 rfl (lv_at hl 0 rfl) ?_
    refine mj_geti (pc := 41) hcx hW 29 (by decide) rfl q1284 dX4_undo_41 ?_
    refine lv_imul (pc := 44) hx hb dX4_undo_44 ?_
    refine lv_iload_n (pc := 45) hx hb dX4_undo_45 rfl (lv_at hl 1 rfl) ?_
    refine lv_iadd (pc := 46) hx hb dX4_undo_46 ?_
    obtain ⟨g2, h⟩ := h
    refine mj_ald (pc := 47) hcx hW 28 rfl rfl g2 dX4_undo_47 ?_
    obtain ⟨g3, h⟩ := h
    refine mj_ast (pc := 48) hcx hW hS 13 rfl rfl g3 dX4_undo_48 (fun H locs hW hS => ?_)
    refine lv_iinc (pc := 49) (v := (x1 + (1 : Int32))) (lv' := [(1, .int (x1 + (1 : Int32))), (0, .ref (mj_o E))]) hx hb dX4_undo_49 hl (k := 1) rfl rfl (by decide) rfl (fun ls hl => ?_)
    refine lv_goto (pc := 52) (tgt := 21) hx hb dX4_undo_52 (by decide) ?_
    exact h d hd p e s m args below meth c hcx H locs _ hW hS (lv_sub hl [1, 0] rfl)
set_option maxHeartbeats 4000000 in
set_option maxRecDepth 100000 in
theorem mb_undo {E : mj_E} {σ : mj_S} {P : Int32 → mj_S → Prop} (hE : mj_ok E) (h : (((mj_F σ 29) = 0 → P (-1 : Int32) σ) ∧ (¬ (mj_F σ 29) = 0 → mg_undo_21 E (mj_sF σ 29 ((mj_F σ 29) - (1 : Int32))) (0 : Int32) P))) : ms_undo E σ P :=
  mj_enter (k := 0) (lv := [(0, .ref (mj_o E))]) hE rfl (Nat.le_of_ble_eq_true rfl) rfl (by
    intro d hd p e s m args below meth c hcx H locs ls hW hS hl
    have hx := hcx.1
    have hb := hcx.2.1
    have hown := hcx.2.2.2.2.2.1
    have hts := hcx.2.2.2.2.2.2.1
    refine lv_aload_n (pc := 0) hx hb dX4_undo_0 rfl (lv_at hl 0 rfl) ?_
    refine mj_geti (pc := 1) hcx hW 29 (by decide) rfl q1284 dX4_undo_1 ?_
    refine lv_if_ne (pc := 4) (tgt := 9) hx hb dX4_undo_4 (by decide) (fun c1 => ?_) (fun c1 => ?_)
    · have h := h.2 c1
      refine lv_aload_n (pc := 9) hx hb dX4_undo_9 rfl (lv_at hl 0 rfl) ?_
      refine lv_dup (pc := 10) hx hb dX4_undo_10 rfl ?_
      refine mj_geti (pc := 11) hcx hW 29 (by decide) rfl q1284 dX4_undo_11 ?_
      refine lv_iconst (pc := 14) (v := (1 : Int32)) hx hb dX4_undo_14 (by decide) ?_
      refine lv_isub (pc := 15) hx hb dX4_undo_15 ?_
      refine mj_puti (pc := 16) hcx hW hS 29 (by decide) rfl rfl rfl rfl q1284 dX4_undo_16 (fun H locs hW hS => ?_)
      refine lv_iconst (pc := 19) (v := (0 : Int32)) hx hb dX4_undo_19 (by decide) ?_
      refine lv_istore_n (pc := 20) (lv' := [(1, .int (0 : Int32)), (0, .ref (mj_o E))]) hx hb dX4_undo_20 rfl hl (by decide) rfl (fun ls hl => ?_)
      exact h d hd p e s m args below meth c hcx H locs _ hW hS (lv_sub hl [1, 0] rfl)
    · have h := h.1 c1
      refine lv_iconst (pc := 7) (v := (-1 : Int32)) hx hb dX4_undo_7 (by decide) ?_
      exact mj_reti (pc := 8) hcx hW hS rfl h dX4_undo_8)
/-! ahead -/
set_option maxHeartbeats 4000000 in
set_option maxRecDepth 100000 in
theorem mb_ahead_0 {E : mj_E} {σ : mj_S} {P : Int32 → mj_S → Prop} (h : ms_here E σ (fun r1 σ2 => ((r1 = (32 : Int32) → mg_ahead_0 E (mj_sF σ2 3 ((mj_F σ2 3) + (1 : Int32))) P) ∧ (¬ r1 = (32 : Int32) → ms_here E σ2 (fun r4 σ5 => P r4 σ5))))) : mg_ahead_0 E σ P := by
  intro d hd p e s m args below meth c hcx H locs ls hW hS hl
  have hx := hcx.1
  have hb := hcx.2.1
  have hown := hcx.2.2.2.2.2.1
  have hts := hcx.2.2.2.2.2.2.1
  refine lv_aload_n (pc := 0) hx hb dX4_ahead_0 rfl (lv_at hl 0 rfl) ?_
  refine mj_ci (pc := 1) (mj_runV hcx hW [] h (Nat.le_trans (by decide) hd) (lw_V q1428 q1430 qs50 q125 q1431) yd_here (by decide) rfl rfl (Nat.le_of_ble_eq_true rfl) hl.1 dX4_ahead_1) hS (fun r1 σ2 h H locs hW hS => ?_)
  refine lv_bipush (pc := 4) (v := (32 : Int32)) hx hb dX4_ahead_4 (by decide) ?_
  refine lv_icmp_ne (pc := 6) (tgt := 22) hx hb dX4_ahead_6 (by decide) (fun c3 => ?_) (fun c3 => ?_)
  · have h := h.2 c3
    refine lv_aload_n (pc := 22) hx hb dX4_ahead_22 rfl (lv_at hl 0 rfl) ?_
    refine mj_ci (pc := 23) (mj_runV hcx hW [] h (Nat.le_trans (by decide) hd) (lw_V q1428 q1430 qs50 q125 q1431) yd_here (by decide) rfl rfl (Nat.le_of_ble_eq_true rfl) hl.1 dX4_ahead_23) hS (fun r4 σ5 h H locs hW hS => ?_)
    exact mj_reti (pc := 26) hcx hW hS rfl h dX4_ahead_26
  · have h := h.1 c3
    refine lv_aload_n (pc := 9) hx hb dX4_ahead_9 rfl (lv_at hl 0 rfl) ?_
    refine lv_dup (pc := 10) hx hb dX4_ahead_10 rfl ?_
    refine mj_geti (pc := 11) hcx hW 3 (by decide) rfl q1258 dX4_ahead_11 ?_
    refine lv_iconst (pc := 14) (v := (1 : Int32)) hx hb dX4_ahead_14 (by decide) ?_
    refine lv_iadd (pc := 15) hx hb dX4_ahead_15 ?_
    refine mj_puti (pc := 16) hcx hW hS 3 (by decide) rfl rfl rfl rfl q1258 dX4_ahead_16 (fun H locs hW hS => ?_)
    refine lv_goto (pc := 19) (tgt := 0) hx hb dX4_ahead_19 (by decide) ?_
    exact h d hd p e s m args below meth c hcx H locs _ hW hS (lv_sub hl [0] rfl)
set_option maxHeartbeats 4000000 in
set_option maxRecDepth 100000 in
theorem mb_ahead {E : mj_E} {σ : mj_S} {P : Int32 → mj_S → Prop} (hE : mj_ok E) (h : mg_ahead_0 E σ P) : ms_ahead E σ P :=
  mj_enter (k := 1) (lv := [(0, .ref (mj_o E))]) hE rfl (Nat.le_of_ble_eq_true rfl) rfl (by
    intro d hd p e s m args below meth c hcx H locs ls hW hS hl
    have hx := hcx.1
    have hb := hcx.2.1
    have hown := hcx.2.2.2.2.2.1
    have hts := hcx.2.2.2.2.2.2.1
    exact h d hd p e s m args below meth c hcx H locs _ hW hS (lv_sub hl [0] rfl))
/-! compares -/
set_option maxHeartbeats 4000000 in
set_option maxRecDepth 100000 in
theorem mb_compares {E : mj_E} {σ : mj_S} {x1 : Int32} {x2 : Int32} {x3 : Int32} {x4 : Int32} {x5 : Int32} {P : Int32 → mj_S → Prop} (hE : mj_ok E) (h : ms_rowAt E σ x1 x2 (fun r1 σ2 => (vp_in r1 331 ∧ (((mj_A σ2 13 r1.toNatClampNeg) = x3 → (vp_in (r1 + (1 : Int32)) 331 ∧ (((mj_A σ2 13 (r1 + (1 : Int32)).toNatClampNeg) = x4 → (vp_in (r1 + (2 : Int32)) 331 ∧ P ((mj_A σ2 13 (r1 + (2 : Int32)).toNatClampNeg) - x5) σ2)) ∧ (¬ (mj_A σ2 13 (r1 + (1 : Int32)).toNatClampNeg) = x4 → (vp_in (r1 + (1 : Int32)) 331 ∧ P ((mj_A σ2 13 (r1 + (1 : Int32)).toNatClampNeg) - x4) σ2))))) ∧ (¬ (mj_A σ2 13 r1.toNatClampNeg) = x3 → (vp_in r1 331 ∧ P ((mj_A σ2 13 r1.toNatClampNeg) - x3) σ2)))))) : ms_compares E σ x1 x2 x3 x4 x5 P :=
  mj_enter (k := 1) (lv := [(0, .ref (mj_o E)), (1, .int x1), (2, .int x2), (3, .int x3), (4, .int x4), (5, .int x5)]) hE rfl (Nat.le_of_ble_eq_true rfl) rfl (by
    intro d hd p e s m args below meth c hcx H locs ls hW hS hl
    have hx := hcx.1
    have hb := hcx.2.1
    have hown := hcx.2.2.2.2.2.1
    have hts := hcx.2.2.2.2.2.2.1
    refine lv_iload_n (pc := 0) hx hb dX4_compares_0 rfl (lv_at hl 1 rfl) ?_
    refine lv_iload_n (pc := 1) hx hb dX4_compares_1 rfl (lv_at hl 2 rfl) ?_
    refine mj_ci (pc := 2) (mj_runS hcx hW [.int x1, .int x2] h (Nat.le_trans (by decide) hd) (lw_S q1498 q1499 q125 q1500) yd_rowAt.2 (by decide) rfl rfl (Nat.le_of_ble_eq_true rfl) hl.1 dX4_compares_2) hS (fun r1 σ2 h H locs hW hS => ?_)
    refine lv_istore (pc := 5) (lv' := [(6, .int r1), (0, .ref (mj_o E)), (1, .int x1), (2, .int x2), (3, .int x3), (4, .int x4), (5, .int x5)]) hx hb dX4_compares_5 hl (by decide) rfl (fun ls hl => ?_)
    refine lv_aload_n (pc := 7) hx hb dX4_compares_7 rfl (lv_at hl 1 rfl) ?_
    refine mj_geta (pc := 8) hcx hW 13 (by decide) rfl q1268 dX4_compares_8 ?_
    refine lv_iload (pc := 11) hx hb dX4_compares_11 (lv_at hl 0 rfl) ?_
    obtain ⟨g3, h⟩ := h
    refine mj_ald (pc := 13) hcx hW 13 rfl rfl g3 dX4_compares_13 ?_
    refine lv_iload_n (pc := 14) hx hb dX4_compares_14 rfl (lv_at hl 4 rfl) ?_
    refine lv_icmp_eq (pc := 15) (tgt := 30) hx hb dX4_compares_15 (by decide) (fun c4 => ?_) (fun c4 => ?_)
    · have h := h.1 c4
      refine lv_aload_n (pc := 30) hx hb dX4_compares_30 rfl (lv_at hl 1 rfl) ?_
      refine mj_geta (pc := 31) hcx hW 13 (by decide) rfl q1268 dX4_compares_31 ?_
      refine lv_iload (pc := 34) hx hb dX4_compares_34 (lv_at hl 0 rfl) ?_
      refine lv_iconst (pc := 36) (v := (1 : Int32)) hx hb dX4_compares_36 (by decide) ?_
      refine lv_iadd (pc := 37) hx hb dX4_compares_37 ?_
      obtain ⟨g5, h⟩ := h
      refine mj_ald (pc := 38) hcx hW 13 rfl rfl g5 dX4_compares_38 ?_
      refine lv_iload (pc := 39) hx hb dX4_compares_39 (lv_at hl 5 rfl) ?_
      refine lv_icmp_eq (pc := 41) (tgt := 59) hx hb dX4_compares_41 (by decide) (fun c6 => ?_) (fun c6 => ?_)
      · have h := h.1 c6
        refine lv_aload_n (pc := 59) hx hb dX4_compares_59 rfl (lv_at hl 1 rfl) ?_
        refine mj_geta (pc := 60) hcx hW 13 (by decide) rfl q1268 dX4_compares_60 ?_
        refine lv_iload (pc := 63) hx hb dX4_compares_63 (lv_at hl 0 rfl) ?_
        refine lv_iconst (pc := 65) (v := (2 : Int32)) hx hb dX4_compares_65 (by decide) ?_
        refine lv_iadd (pc := 66) hx hb dX4_compares_66 ?_
        obtain ⟨g7, h⟩ := h
        refine mj_ald (pc := 67) hcx hW 13 rfl rfl g7 dX4_compares_67 ?_
        refine lv_iload (pc := 68) hx hb dX4_compares_68 (lv_at hl 6 rfl) ?_
        refine lv_isub (pc := 70) hx hb dX4_compares_70 ?_
        exact mj_reti (pc := 71) hcx hW hS rfl h dX4_compares_71
      · have h := h.2 c6
        refine lv_aload_n (pc := 44) hx hb dX4_compares_44 rfl (lv_at hl 1 rfl) ?_
        refine mj_geta (pc := 45) hcx hW 13 (by decide) rfl q1268 dX4_compares_45 ?_
        refine lv_iload (pc := 48) hx hb dX4_compares_48 (lv_at hl 0 rfl) ?_
        refine lv_iconst (pc := 50) (v := (1 : Int32)) hx hb dX4_compares_50 (by decide) ?_
        refine lv_iadd (pc := 51) hx hb dX4_compares_51 ?_
        obtain ⟨g8, h⟩ := h
        refine mj_ald (pc := 52) hcx hW 13 rfl rfl g8 dX4_compares_52 ?_
        refine lv_iload (pc := 53) hx hb dX4_compares_53 (lv_at hl 5 rfl) ?_
        refine lv_isub (pc := 55) hx hb dX4_compares_55 ?_
        refine lv_goto (pc := 56) (tgt := 71) hx hb dX4_compares_56 (by decide) ?_
        exact mj_reti (pc := 71) hcx hW hS rfl h dX4_compares_71
    · have h := h.2 c4
      refine lv_aload_n (pc := 18) hx hb dX4_compares_18 rfl (lv_at hl 1 rfl) ?_
      refine mj_geta (pc := 19) hcx hW 13 (by decide) rfl q1268 dX4_compares_19 ?_
      refine lv_iload (pc := 22) hx hb dX4_compares_22 (lv_at hl 0 rfl) ?_
      obtain ⟨g9, h⟩ := h
      refine mj_ald (pc := 24) hcx hW 13 rfl rfl g9 dX4_compares_24 ?_
      refine lv_iload_n (pc := 25) hx hb dX4_compares_25 rfl (lv_at hl 4 rfl) ?_
      refine lv_isub (pc := 26) hx hb dX4_compares_26 ?_
      refine lv_goto (pc := 27) (tgt := 71) hx hb dX4_compares_27 (by decide) ?_
      exact mj_reti (pc := 71) hcx hW hS rfl h dX4_compares_71)
/-! comparesFour -/
set_option maxHeartbeats 4000000 in
set_option maxRecDepth 100000 in
theorem mb_comparesFour_2 {E : mj_E} {σ : mj_S} {x1 : Int32} {x2 : Int32} {P : Int32 → mj_S → Prop} (h : (((mj_F σ 19) ≤ x2 → P (0 : Int32) σ) ∧ (¬ (mj_F σ 19) ≤ x2 → (vp_in x2 4 ∧ ms_numberOf E σ x1 (mj_A σ 18 x2.toNatClampNeg) (fun r3 σ4 => (vp_in (mj_A σ 18 x2.toNatClampNeg) 4 ∧ ((r3 = (mj_A σ4 39 (mj_A σ 18 x2.toNatClampNeg).toNatClampNeg) → mg_comparesFour_2 E σ4 x1 (x2 + (1 : Int32)) P) ∧ (¬ r3 = (mj_A σ4 39 (mj_A σ 18 x2.toNatClampNeg).toNatClampNeg) → ms_numberOf E σ4 x1 (mj_A σ 18 x2.toNatClampNeg) (fun r7 σ8 => (vp_in (mj_A σ 18 x2.toNatClampNeg) 4 ∧ (((mj_A σ8 39 (mj_A σ 18 x2.toNatClampNeg).toNatClampNeg) ≤ r7 → P (1 : Int32) σ8) ∧ (¬ (mj_A σ8 39 (mj_A σ 18 x2.toNatClampNeg).toNatClampNeg) ≤ r7 → P (-1 : Int32) σ8)))))))))))) : mg_comparesFour_2 E σ x1 x2 P := by
  intro d hd p e s m args below meth c hcx H locs ls hW hS hl
  have hx := hcx.1
  have hb := hcx.2.1
  have hown := hcx.2.2.2.2.2.1
  have hts := hcx.2.2.2.2.2.2.1
  refine lv_iload_n (pc := 2) hx hb dX4_comparesFour_2 rfl (lv_at hl 2 rfl) ?_
  refine lv_aload_n (pc := 3) hx hb dX4_comparesFour_3 rfl (lv_at hl 0 rfl) ?_
  refine mj_geti (pc := 4) hcx hW 19 (by decide) rfl q1274 dX4_comparesFour_4 ?_
  refine lv_icmp_ge (pc := 7) (tgt := 59) hx hb dX4_comparesFour_7 (by decide) (fun c1 => ?_) (fun c1 => ?_)
  · have h := h.1 c1
    refine lv_iconst (pc := 59) (v := (0 : Int32)) hx hb dX4_comparesFour_59 (by decide) ?_
    exact mj_reti (pc := 60) hcx hW hS rfl h dX4_comparesFour_60
  · have h := h.2 c1
    refine lv_aload_n (pc := 10) hx hb dX4_comparesFour_10 rfl (lv_at hl 0 rfl) ?_
    refine mj_geta (pc := 11) hcx hW 18 (by decide) rfl q1273 dX4_comparesFour_11 ?_
    refine lv_iload_n (pc := 14) hx hb dX4_comparesFour_14 rfl (lv_at hl 2 rfl) ?_
    obtain ⟨g2, h⟩ := h
    refine mj_ald (pc := 15) hcx hW 18 rfl rfl g2 dX4_comparesFour_15 ?_
    refine lv_istore_n (pc := 16) (lv' := [(3, .int (mj_A σ 18 x2.toNatClampNeg)), (0, .ref (mj_o E)), (1, .int x1), (2, .int x2)]) hx hb dX4_comparesFour_16 rfl hl (by decide) rfl (fun ls hl => ?_)
    refine lv_aload_n (pc := 17) hx hb dX4_comparesFour_17 rfl (lv_at hl 1 rfl) ?_
    refine lv_iload_n (pc := 18) hx hb dX4_comparesFour_18 rfl (lv_at hl 2 rfl) ?_
    refine lv_iload_n (pc := 19) hx hb dX4_comparesFour_19 rfl (lv_at hl 0 rfl) ?_
    refine mj_ci (pc := 20) (mj_runV hcx hW [.int x1, .int (mj_A σ 18 x2.toNatClampNeg)] h (Nat.le_trans (by decide) hd) (lw_V q1705 q1707 qs102 q125 q1708) yd_numberOf (by decide) rfl rfl (Nat.le_of_ble_eq_true rfl) hl.1 dX4_comparesFour_20) hS (fun r3 σ4 h H locs hW hS => ?_)
    refine lv_aload_n (pc := 23) hx hb dX4_comparesFour_23 rfl (lv_at hl 1 rfl) ?_
    refine mj_geta (pc := 24) hcx hW 39 (by decide) rfl q1294 dX4_comparesFour_24 ?_
    refine lv_iload_n (pc := 27) hx hb dX4_comparesFour_27 rfl (lv_at hl 0 rfl) ?_
    obtain ⟨g5, h⟩ := h
    refine mj_ald (pc := 28) hcx hW 39 rfl rfl g5 dX4_comparesFour_28 ?_
    refine lv_icmp_eq (pc := 29) (tgt := 53) hx hb dX4_comparesFour_29 (by decide) (fun c6 => ?_) (fun c6 => ?_)
    · have h := h.1 c6
      refine lv_iinc (pc := 53) (v := (x2 + (1 : Int32))) (lv' := [(2, .int (x2 + (1 : Int32))), (3, .int (mj_A σ 18 x2.toNatClampNeg)), (0, .ref (mj_o E)), (1, .int x1)]) hx hb dX4_comparesFour_53 hl (k := 3) rfl rfl (by decide) rfl (fun ls hl => ?_)
      refine lv_goto (pc := 56) (tgt := 2) hx hb dX4_comparesFour_56 (by decide) ?_
      exact h d hd p e s m args below meth c hcx H locs _ hW hS (lv_sub hl [2, 3, 0] rfl)
    · have h := h.2 c6
      refine lv_aload_n (pc := 32) hx hb dX4_comparesFour_32 rfl (lv_at hl 1 rfl) ?_
      refine lv_iload_n (pc := 33) hx hb dX4_comparesFour_33 rfl (lv_at hl 2 rfl) ?_
      refine lv_iload_n (pc := 34) hx hb dX4_comparesFour_34 rfl (lv_at hl 0 rfl) ?_
      refine mj_ci (pc := 35) (mj_runV hcx hW [.int x1, .int (mj_A σ 18 x2.toNatClampNeg)] h (Nat.le_trans (by decide) hd) (lw_V q1705 q1707 qs102 q125 q1708) yd_numberOf (by decide) rfl rfl (Nat.le_of_ble_eq_true rfl) hl.1 dX4_comparesFour_35) hS (fun r7 σ8 h H locs hW hS => ?_)
      refine lv_aload_n (pc := 38) hx hb dX4_comparesFour_38 rfl (lv_at hl 1 rfl) ?_
      refine mj_geta (pc := 39) hcx hW 39 (by decide) rfl q1294 dX4_comparesFour_39 ?_
      refine lv_iload_n (pc := 42) hx hb dX4_comparesFour_42 rfl (lv_at hl 0 rfl) ?_
      obtain ⟨g9, h⟩ := h
      refine mj_ald (pc := 43) hcx hW 39 rfl rfl g9 dX4_comparesFour_43 ?_
      refine lv_icmp_ge (pc := 44) (tgt := 51) hx hb dX4_comparesFour_44 (by decide) (fun c10 => ?_) (fun c10 => ?_)
      · have h := h.1 c10
        refine lv_iconst (pc := 51) (v := (1 : Int32)) hx hb dX4_comparesFour_51 (by decide) ?_
        exact mj_reti (pc := 52) hcx hW hS rfl h dX4_comparesFour_52
      · have h := h.2 c10
        refine lv_iconst (pc := 47) (v := (-1 : Int32)) hx hb dX4_comparesFour_47 (by decide) ?_
        refine lv_goto (pc := 48) (tgt := 52) hx hb dX4_comparesFour_48 (by decide) ?_
        exact mj_reti (pc := 52) hcx hW hS rfl h dX4_comparesFour_52
set_option maxHeartbeats 4000000 in
set_option maxRecDepth 100000 in
theorem mb_comparesFour {E : mj_E} {σ : mj_S} {x1 : Int32} {P : Int32 → mj_S → Prop} (hE : mj_ok E) (h : mg_comparesFour_2 E σ x1 (0 : Int32) P) : ms_comparesFour E σ x1 P :=
  mj_enter (k := 1) (lv := [(0, .ref (mj_o E)), (1, .int x1)]) hE rfl (Nat.le_of_ble_eq_true rfl) rfl (by
    intro d hd p e s m args below meth c hcx H locs ls hW hS hl
    have hx := hcx.1
    have hb := hcx.2.1
    have hown := hcx.2.2.2.2.2.1
    have hts := hcx.2.2.2.2.2.2.1
    refine lv_iconst (pc := 0) (v := (0 : Int32)) hx hb dX4_comparesFour_0 (by decide) ?_
    refine lv_istore_n (pc := 1) (lv' := [(2, .int (0 : Int32)), (0, .ref (mj_o E)), (1, .int x1)]) hx hb dX4_comparesFour_1 rfl hl (by decide) rfl (fun ls hl => ?_)
    exact h d hd p e s m args below meth c hcx H locs _ hW hS (lv_sub hl [1, 2, 0] rfl))
/-! end -/
set_option maxHeartbeats 4000000 in
set_option maxRecDepth 100000 in
theorem mb_end {E : mj_E} {σ : mj_S} {x1 : Int32} {P : Int32 → mj_S → Prop} (hE : mj_ok E) (h : ms_in E σ x1 (0 : Int32) (mj_F σ 2) (fun r1 σ2 => ((r1 = 0 → P (0 : Int32) σ2) ∧ (¬ r1 = 0 → P (1 : Int32) (mj_sF σ2 2 x1))))) : ms_end E σ x1 P :=
  mj_enter (k := 1) (lv := [(0, .ref (mj_o E)), (1, .int x1)]) hE rfl (Nat.le_of_ble_eq_true rfl) rfl (by
    intro d hd p e s m args below meth c hcx H locs ls hW hS hl
    have hx := hcx.1
    have hb := hcx.2.1
    have hown := hcx.2.2.2.2.2.1
    have hts := hcx.2.2.2.2.2.2.1
    refine lv_iload_n (pc := 0) hx hb dX4_end_0 rfl (lv_at hl 1 rfl) ?_
    refine lv_iconst (pc := 1) (v := (0 : Int32)) hx hb dX4_end_1 (by decide) ?_
    refine lv_aload_n (pc := 2) hx hb dX4_end_2 rfl (lv_at hl 0 rfl) ?_
    refine mj_geti (pc := 3) hcx hW 2 (by decide) rfl q1257 dX4_end_3 ?_
    refine mj_ci (pc := 6) (mj_runS hcx hW [.int x1, .int (0 : Int32), .int (mj_F σ 2)] h (Nat.le_trans (by decide) hd) (lw_S q1401 q1402 q125 q1403) yd_in.2 (by decide) rfl rfl (Nat.le_of_ble_eq_true rfl) hl.1 dX4_end_6) hS (fun r1 σ2 h H locs hW hS => ?_)
    refine lv_if_ne (pc := 9) (tgt := 14) hx hb dX4_end_9 (by decide) (fun c3 => ?_) (fun c3 => ?_)
    · have h := h.2 c3
      refine lv_aload_n (pc := 14) hx hb dX4_end_14 rfl (lv_at hl 0 rfl) ?_
      refine lv_iload_n (pc := 15) hx hb dX4_end_15 rfl (lv_at hl 1 rfl) ?_
      refine mj_puti (pc := 16) hcx hW hS 2 (by decide) rfl rfl rfl rfl q1257 dX4_end_16 (fun H locs hW hS => ?_)
      refine lv_iconst (pc := 19) (v := (1 : Int32)) hx hb dX4_end_19 (by decide) ?_
      exact mj_reti (pc := 20) hcx hW hS rfl h dX4_end_20
    · have h := h.1 c3
      refine lv_iconst (pc := 12) (v := (0 : Int32)) hx hb dX4_end_12 (by decide) ?_
      exact mj_reti (pc := 13) hcx hW hS rfl h dX4_end_13)
/-! feed -/
set_option maxHeartbeats 4000000 in
set_option maxRecDepth 100000 in
theorem mb_feed_6 {E : mj_E} {σ : mj_S} {x1 : Int32} {x2 : Int32} {x3 : Int32} {x4 : Int32} {x5 : Int32} {x6 : Int32} {x7 : Int32} {P : Int32 → mj_S → Prop} (h : (((20 : Int32) ≤ x7 → ((((mj_F σ 2) + x6) ≤ (400 : Int32) → mg_feed_62 E σ x1 x2 x3 x4 x5 (0 : Int32) P) ∧ (¬ ((mj_F σ 2) + x6) ≤ (400 : Int32) → P (-1 : Int32) σ))) ∧ (¬ (20 : Int32) ≤ x7 → ms_byteOf E σ x1 x2 x3 x4 x5 x7 (fun r3 σ4 => ((r3 = 0 → mg_feed_6 E σ4 x1 x2 x3 x4 x5 (x6 + (0 : Int32)) (x7 + (1 : Int32)) P) ∧ (¬ r3 = 0 → mg_feed_6 E σ4 x1 x2 x3 x4 x5 (x6 + (1 : Int32)) (x7 + (1 : Int32)) P)))))) : mg_feed_6 E σ x1 x2 x3 x4 x5 x6 x7 P := by
  intro d hd p e s m args below meth c hcx H locs ls hW hS hl
  have hx := hcx.1
  have hb := hcx.2.1
  have hown := hcx.2.2.2.2.2.1
  have hts := hcx.2.2.2.2.2.2.1
  refine lv_iload (pc := 6) hx hb dX4_feed_6 (lv_at hl 7 rfl) ?_
  refine lv_bipush (pc := 8) (v := (20 : Int32)) hx hb dX4_feed_8 (by decide) ?_
  refine lv_icmp_ge (pc := 10) (tgt := 44) hx hb dX4_feed_10 (by decide) (fun c1 => ?_) (fun c1 => ?_)
  · have h := h.1 c1
    refine lv_aload_n (pc := 44) hx hb dX4_feed_44 rfl (lv_at hl 0 rfl) ?_
    refine mj_geti (pc := 45) hcx hW 2 (by decide) rfl q1257 dX4_feed_45 ?_
    refine lv_iload (pc := 48) hx hb dX4_feed_48 (lv_at hl 6 rfl) ?_
    refine lv_iadd (pc := 50) hx hb dX4_feed_50 ?_
    refine lv_sipush (pc := 51) (v := (400 : Int32)) hx hb dX4_feed_51 (by decide) ?_
    refine lv_icmp_le (pc := 54) (tgt := 59) hx hb dX4_feed_54 (by decide) (fun c2 => ?_) (fun c2 => ?_)
    · have h := h.1 c2
      refine lv_iconst (pc := 59) (v := (0 : Int32)) hx hb dX4_feed_59 (by decide) ?_
      refine lv_istore (pc := 60) (lv' := [(7, .int (0 : Int32)), (0, .ref (mj_o E)), (1, .int x1), (2, .int x2), (3, .int x3), (4, .int x4), (5, .int x5), (6, .int x6)]) hx hb dX4_feed_60 hl (by decide) rfl (fun ls hl => ?_)
      exact h d hd p e s m args below meth c hcx H locs _ hW hS (lv_sub hl [1, 2, 3, 4, 5, 6, 0] rfl)
    · have h := h.2 c2
      refine lv_iconst (pc := 57) (v := (-1 : Int32)) hx hb dX4_feed_57 (by decide) ?_
      exact mj_reti (pc := 58) hcx hW hS rfl h dX4_feed_58
  · have h := h.2 c1
    refine lv_iload (pc := 13) hx hb dX4_feed_13 (lv_at hl 6 rfl) ?_
    refine lv_iload_n (pc := 15) hx hb dX4_feed_15 rfl (lv_at hl 1 rfl) ?_
    refine lv_iload_n (pc := 16) hx hb dX4_feed_16 rfl (lv_at hl 2 rfl) ?_
    refine lv_iload_n (pc := 17) hx hb dX4_feed_17 rfl (lv_at hl 3 rfl) ?_
    refine lv_iload (pc := 18) hx hb dX4_feed_18 (lv_at hl 4 rfl) ?_
    refine lv_iload (pc := 20) hx hb dX4_feed_20 (lv_at hl 5 rfl) ?_
    refine lv_iload (pc := 22) hx hb dX4_feed_22 (lv_at hl 7 rfl) ?_
    refine mj_ci (pc := 24) (mj_runS hcx hW [.int x1, .int x2, .int x3, .int x4, .int x5, .int x7] h (Nat.le_trans (by decide) hd) (lw_S q1394 q1395 q125 q1396) yd_byteOf.2 (by decide) rfl rfl (Nat.le_of_ble_eq_true rfl) hl.1 dX4_feed_24) hS (fun r3 σ4 h H locs hW hS => ?_)
    refine lv_if_eq (pc := 27) (tgt := 34) hx hb dX4_feed_27 (by decide) (fun c5 => ?_) (fun c5 => ?_)
    · have h := h.1 c5
      refine lv_iconst (pc := 34) (v := (0 : Int32)) hx hb dX4_feed_34 (by decide) ?_
      refine lv_iadd (pc := 35) hx hb dX4_feed_35 ?_
      refine lv_istore (pc := 36) (lv' := [(6, .int (x6 + (0 : Int32))), (0, .ref (mj_o E)), (1, .int x1), (2, .int x2), (3, .int x3), (4, .int x4), (5, .int x5), (7, .int x7)]) hx hb dX4_feed_36 hl (by decide) rfl (fun ls hl => ?_)
      refine lv_iinc (pc := 38) (v := (x7 + (1 : Int32))) (lv' := [(7, .int (x7 + (1 : Int32))), (6, .int (x6 + (0 : Int32))), (0, .ref (mj_o E)), (1, .int x1), (2, .int x2), (3, .int x3), (4, .int x4), (5, .int x5)]) hx hb dX4_feed_38 hl (k := 7) rfl rfl (by decide) rfl (fun ls hl => ?_)
      refine lv_goto (pc := 41) (tgt := 6) hx hb dX4_feed_41 (by decide) ?_
      exact h d hd p e s m args below meth c hcx H locs _ hW hS (lv_sub hl [2, 3, 4, 5, 6, 7, 1, 0] rfl)
    · have h := h.2 c5
      refine lv_iconst (pc := 30) (v := (1 : Int32)) hx hb dX4_feed_30 (by decide) ?_
      refine lv_goto (pc := 31) (tgt := 35) hx hb dX4_feed_31 (by decide) ?_
      refine lv_iadd (pc := 35) hx hb dX4_feed_35 ?_
      refine lv_istore (pc := 36) (lv' := [(6, .int (x6 + (1 : Int32))), (0, .ref (mj_o E)), (1, .int x1), (2, .int x2), (3, .int x3), (4, .int x4), (5, .int x5), (7, .int x7)]) hx hb dX4_feed_36 hl (by decide) rfl (fun ls hl => ?_)
      refine lv_iinc (pc := 38) (v := (x7 + (1 : Int32))) (lv' := [(7, .int (x7 + (1 : Int32))), (6, .int (x6 + (1 : Int32))), (0, .ref (mj_o E)), (1, .int x1), (2, .int x2), (3, .int x3), (4, .int x4), (5, .int x5)]) hx hb dX4_feed_38 hl (k := 7) rfl rfl (by decide) rfl (fun ls hl => ?_)
      refine lv_goto (pc := 41) (tgt := 6) hx hb dX4_feed_41 (by decide) ?_
      exact h d hd p e s m args below meth c hcx H locs _ hW hS (lv_sub hl [2, 3, 4, 5, 6, 7, 1, 0] rfl)
set_option maxHeartbeats 4000000 in
set_option maxRecDepth 100000 in
theorem mb_feed_62 {E : mj_E} {σ : mj_S} {x1 : Int32} {x2 : Int32} {x3 : Int32} {x4 : Int32} {x5 : Int32} {x7 : Int32} {P : Int32 → mj_S → Prop} (h : (((20 : Int32) ≤ x7 → P (mj_F σ 2) σ) ∧ (¬ (20 : Int32) ≤ x7 → ms_byteOf E σ x1 x2 x3 x4 x5 x7 (fun r2 σ3 => ((r2 = 0 → mg_feed_62 E σ3 x1 x2 x3 x4 x5 (x7 + (1 : Int32)) P) ∧ (¬ r2 = 0 → (vp_in (mj_F σ3 2) 400 ∧ mg_feed_62 E (mj_sF (mj_sA σ3 1 (mj_F σ3 2).toNatClampNeg r2) 2 ((mj_F (mj_sA σ3 1 (mj_F σ3 2).toNatClampNeg r2) 2) + (1 : Int32))) x1 x2 x3 x4 x5 (x7 + (1 : Int32)) P))))))) : mg_feed_62 E σ x1 x2 x3 x4 x5 x7 P := by
  intro d hd p e s m args below meth c hcx H locs ls hW hS hl
  have hx := hcx.1
  have hb := hcx.2.1
  have hown := hcx.2.2.2.2.2.1
  have hts := hcx.2.2.2.2.2.2.1
  refine lv_iload (pc := 62) hx hb dX4_feed_62 (lv_at hl 6 rfl) ?_
  refine lv_bipush (pc := 64) (v := (20 : Int32)) hx hb dX4_feed_64 (by decide) ?_
  refine lv_icmp_ge (pc := 66) (tgt := 115) hx hb dX4_feed_66 (by decide) (fun c1 => ?_) (fun c1 => ?_)
  · have h := h.1 c1
    refine lv_aload_n (pc := 115) hx hb dX4_feed_115 rfl (lv_at hl 0 rfl) ?_
    refine mj_geti (pc := 116) hcx hW 2 (by decide) rfl q1257 dX4_feed_116 ?_
    exact mj_reti (pc := 119) hcx hW hS rfl h dX4_feed_119
  · have h := h.2 c1
    refine lv_iload_n (pc := 69) hx hb dX4_feed_69 rfl (lv_at hl 1 rfl) ?_
    refine lv_iload_n (pc := 70) hx hb dX4_feed_70 rfl (lv_at hl 2 rfl) ?_
    refine lv_iload_n (pc := 71) hx hb dX4_feed_71 rfl (lv_at hl 3 rfl) ?_
    refine lv_iload (pc := 72) hx hb dX4_feed_72 (lv_at hl 4 rfl) ?_
    refine lv_iload (pc := 74) hx hb dX4_feed_74 (lv_at hl 5 rfl) ?_
    refine lv_iload (pc := 76) hx hb dX4_feed_76 (lv_at hl 6 rfl) ?_
    refine mj_ci (pc := 78) (mj_runS hcx hW [.int x1, .int x2, .int x3, .int x4, .int x5, .int x7] h (Nat.le_trans (by decide) hd) (lw_S q1394 q1395 q125 q1396) yd_byteOf.2 (by decide) rfl rfl (Nat.le_of_ble_eq_true rfl) hl.1 dX4_feed_78) hS (fun r2 σ3 h H locs hW hS => ?_)
    refine lv_istore (pc := 81) (lv' := [(8, .int r2), (0, .ref (mj_o E)), (1, .int x1), (2, .int x2), (3, .int x3), (4, .int x4), (5, .int x5), (7, .int x7)]) hx hb dX4_feed_81 hl (by decide) rfl (fun ls hl => ?_)
    refine lv_iload (pc := 83) hx hb dX4_feed_83 (lv_at hl 0 rfl) ?_
    refine lv_if_eq (pc := 85) (tgt := 109) hx hb dX4_feed_85 (by decide) (fun c4 => ?_) (fun c4 => ?_)
    · have h := h.1 c4
      refine lv_iinc (pc := 109) (v := (x7 + (1 : Int32))) (lv' := [(7, .int (x7 + (1 : Int32))), (8, .int r2), (0, .ref (mj_o E)), (1, .int x1), (2, .int x2), (3, .int x3), (4, .int x4), (5, .int x5)]) hx hb dX4_feed_109 hl (k := 7) rfl rfl (by decide) rfl (fun ls hl => ?_)
      refine lv_goto (pc := 112) (tgt := 62) hx hb dX4_feed_112 (by decide) ?_
      exact h d hd p e s m args below meth c hcx H locs _ hW hS (lv_sub hl [2, 3, 4, 5, 6, 7, 0] rfl)
    · have h := h.2 c4
      refine lv_aload_n (pc := 88) hx hb dX4_feed_88 rfl (lv_at hl 1 rfl) ?_
      refine mj_geta (pc := 89) hcx hW 1 (by decide) rfl q1256 dX4_feed_89 ?_
      refine lv_aload_n (pc := 92) hx hb dX4_feed_92 rfl (lv_at hl 1 rfl) ?_
      refine mj_geti (pc := 93) hcx hW 2 (by decide) rfl q1257 dX4_feed_93 ?_
      refine lv_iload (pc := 96) hx hb dX4_feed_96 (lv_at hl 0 rfl) ?_
      obtain ⟨g5, h⟩ := h
      refine mj_ast (pc := 98) hcx hW hS 1 rfl rfl g5 dX4_feed_98 (fun H locs hW hS => ?_)
      refine lv_aload_n (pc := 99) hx hb dX4_feed_99 rfl (lv_at hl 1 rfl) ?_
      refine lv_dup (pc := 100) hx hb dX4_feed_100 rfl ?_
      refine mj_geti (pc := 101) hcx hW 2 (by decide) rfl q1257 dX4_feed_101 ?_
      refine lv_iconst (pc := 104) (v := (1 : Int32)) hx hb dX4_feed_104 (by decide) ?_
      refine lv_iadd (pc := 105) hx hb dX4_feed_105 ?_
      refine mj_puti (pc := 106) hcx hW hS 2 (by decide) rfl rfl rfl rfl q1257 dX4_feed_106 (fun H locs hW hS => ?_)
      refine lv_iinc (pc := 109) (v := (x7 + (1 : Int32))) (lv' := [(7, .int (x7 + (1 : Int32))), (8, .int r2), (0, .ref (mj_o E)), (1, .int x1), (2, .int x2), (3, .int x3), (4, .int x4), (5, .int x5)]) hx hb dX4_feed_109 hl (k := 7) rfl rfl (by decide) rfl (fun ls hl => ?_)
      refine lv_goto (pc := 112) (tgt := 62) hx hb dX4_feed_112 (by decide) ?_
      exact h d hd p e s m args below meth c hcx H locs _ hW hS (lv_sub hl [2, 3, 4, 5, 6, 7, 0] rfl)
set_option maxHeartbeats 4000000 in
set_option maxRecDepth 100000 in
theorem mb_feed {E : mj_E} {σ : mj_S} {x1 : Int32} {x2 : Int32} {x3 : Int32} {x4 : Int32} {x5 : Int32} {P : Int32 → mj_S → Prop} (hE : mj_ok E) (h : mg_feed_6 E σ x1 x2 x3 x4 x5 (0 : Int32) (0 : Int32) P) : ms_feed E σ x1 x2 x3 x4 x5 P :=
  mj_enter (k := 1) (lv := [(0, .ref (mj_o E)), (1, .int x1), (2, .int x2), (3, .int x3), (4, .int x4), (5, .int x5)]) hE rfl (Nat.le_of_ble_eq_true rfl) rfl (by
    intro d hd p e s m args below meth c hcx H locs ls hW hS hl
    have hx := hcx.1
    have hb := hcx.2.1
    have hown := hcx.2.2.2.2.2.1
    have hts := hcx.2.2.2.2.2.2.1
    refine lv_iconst (pc := 0) (v := (0 : Int32)) hx hb dX4_feed_0 (by decide) ?_
    refine lv_istore (pc := 1) (lv' := [(6, .int (0 : Int32)), (0, .ref (mj_o E)), (1, .int x1), (2, .int x2), (3, .int x3), (4, .int x4), (5, .int x5)]) hx hb dX4_feed_1 hl (by decide) rfl (fun ls hl => ?_)
    refine lv_iconst (pc := 3) (v := (0 : Int32)) hx hb dX4_feed_3 (by decide) ?_
    refine lv_istore (pc := 4) (lv' := [(7, .int (0 : Int32)), (6, .int (0 : Int32)), (0, .ref (mj_o E)), (1, .int x1), (2, .int x2), (3, .int x3), (4, .int x4), (5, .int x5)]) hx hb dX4_feed_4 hl (by decide) rfl (fun ls hl => ?_)
    exact h d hd p e s m args below meth c hcx H locs _ hW hS (lv_sub hl [2, 3, 4, 5, 6, 7, 1, 0] rfl))
/-! fits -/
set_option maxHeartbeats 4000000 in
set_option maxRecDepth 100000 in
theorem mb_fits_6 {E : mj_E} {σ : mj_S} {x1 : Int32} {x2 : Int32} {x3 : Int32} {x4 : Int32} {x5 : Int32} {P : Int32 → mj_S → Prop} (h : ((x3 ≤ x5 → (narrow .boolean (.int x4) = .int x4 ∧ P x4 σ)) ∧ (¬ x3 ≤ x5 → (vp_in x5 4 ∧ ms_columnOf E σ x1 (mj_A σ 18 x5.toNatClampNeg) (fun r4 σ5 => ((x4 = 0 → mg_fits_6 E σ5 x1 x2 x3 (0 : Int32) (x5 + (1 : Int32)) P) ∧ (¬ x4 = 0 → ((r4 = (-1 : Int32) → mg_fits_6 E σ5 x1 x2 x3 (1 : Int32) (x5 + (1 : Int32)) P) ∧ (¬ r4 = (-1 : Int32) → ms_rowAt E σ5 x1 x2 (fun r8 σ9 => (vp_in (r8 + r4) 331 ∧ (vp_in x5 4 ∧ (vp_in (mj_A σ9 18 x5.toNatClampNeg) 4 ∧ (((mj_A σ9 13 (r8 + r4).toNatClampNeg) = (mj_A σ9 20 (mj_A σ9 18 x5.toNatClampNeg).toNatClampNeg) → mg_fits_6 E σ9 x1 x2 x3 (1 : Int32) (x5 + (1 : Int32)) P) ∧ (¬ (mj_A σ9 13 (r8 + r4).toNatClampNeg) = (mj_A σ9 20 (mj_A σ9 18 x5.toNatClampNeg).toNatClampNeg) → mg_fits_6 E σ9 x1 x2 x3 (0 : Int32) (x5 + (1 : Int32)) P))))))))))))))) : mg_fits_6 E σ x1 x2 x3 x4 x5 P := by
  intro d hd p e s m args below meth c hcx H locs ls hW hS hl
  have hx := hcx.1
  have hb := hcx.2.1
  have hown := hcx.2.2.2.2.2.1
  have hts := hcx.2.2.2.2.2.2.1
  refine lv_iload (pc := 6) hx hb dX4_fits_6 (lv_at hl 5 rfl) ?_
  refine lv_iload_n (pc := 8) hx hb dX4_fits_8 rfl (lv_at hl 3 rfl) ?_
  refine lv_icmp_ge (pc := 9) (tgt := 78) hx hb dX4_fits_9 (by decide) (fun c1 => ?_) (fun c1 => ?_)
  · have h := h.1 c1
    refine lv_iload (pc := 78) hx hb dX4_fits_78 (lv_at hl 4 rfl) ?_
    obtain ⟨g2, h⟩ := h
    exact mj_reti (pc := 80) hcx hW hS g2 h dX4_fits_80
  · have h := h.2 c1
    refine lv_aload_n (pc := 12) hx hb dX4_fits_12 rfl (lv_at hl 0 rfl) ?_
    refine lv_iload_n (pc := 13) hx hb dX4_fits_13 rfl (lv_at hl 1 rfl) ?_
    refine lv_aload_n (pc := 14) hx hb dX4_fits_14 rfl (lv_at hl 0 rfl) ?_
    refine mj_geta (pc := 15) hcx hW 18 (by decide) rfl q1273 dX4_fits_15 ?_
    refine lv_iload (pc := 18) hx hb dX4_fits_18 (lv_at hl 5 rfl) ?_
    obtain ⟨g3, h⟩ := h
    refine mj_ald (pc := 20) hcx hW 18 rfl rfl g3 dX4_fits_20 ?_
    refine mj_ci (pc := 21) (mj_runV hcx hW [.int x1, .int (mj_A σ 18 x5.toNatClampNeg)] h (Nat.le_trans (by decide) hd) (lw_V q1601 q1603 qs89 q125 q1604) yd_columnOf (by decide) rfl rfl (Nat.le_of_ble_eq_true rfl) hl.1 dX4_fits_21) hS (fun r4 σ5 h H locs hW hS => ?_)
    refine lv_istore (pc := 24) (lv' := [(6, .int r4), (0, .ref (mj_o E)), (1, .int x1), (2, .int x2), (3, .int x3), (4, .int x4), (5, .int x5)]) hx hb dX4_fits_24 hl (by decide) rfl (fun ls hl => ?_)
    refine lv_iload (pc := 26) hx hb dX4_fits_26 (lv_at hl 5 rfl) ?_
    refine lv_if_eq (pc := 28) (tgt := 69) hx hb dX4_fits_28 (by decide) (fun c6 => ?_) (fun c6 => ?_)
    · have h := h.1 c6
      refine lv_iconst (pc := 69) (v := (0 : Int32)) hx hb dX4_fits_69 (by decide) ?_
      refine lv_istore (pc := 70) (lv' := [(4, .int (0 : Int32)), (6, .int r4), (0, .ref (mj_o E)), (1, .int x1), (2, .int x2), (3, .int x3), (5, .int x5)]) hx hb dX4_fits_70 hl (by decide) rfl (fun ls hl => ?_)
      refine lv_iinc (pc := 72) (v := (x5 + (1 : Int32))) (lv' := [(5, .int (x5 + (1 : Int32))), (4, .int (0 : Int32)), (6, .int r4), (0, .ref (mj_o E)), (1, .int x1), (2, .int x2), (3, .int x3)]) hx hb dX4_fits_72 hl (k := 6) rfl rfl (by decide) rfl (fun ls hl => ?_)
      refine lv_goto (pc := 75) (tgt := 6) hx hb dX4_fits_75 (by decide) ?_
      exact h d hd p e s m args below meth c hcx H locs _ hW hS (lv_sub hl [3, 4, 5, 6, 1, 0] rfl)
    · have h := h.2 c6
      refine lv_iload (pc := 31) hx hb dX4_fits_31 (lv_at hl 0 rfl) ?_
      refine lv_iconst (pc := 33) (v := (-1 : Int32)) hx hb dX4_fits_33 (by decide) ?_
      refine lv_icmp_eq (pc := 34) (tgt := 65) hx hb dX4_fits_34 (by decide) (fun c7 => ?_) (fun c7 => ?_)
      · have h := h.1 c7
        refine lv_iconst (pc := 65) (v := (1 : Int32)) hx hb dX4_fits_65 (by decide) ?_
        refine lv_goto (pc := 66) (tgt := 70) hx hb dX4_fits_66 (by decide) ?_
        refine lv_istore (pc := 70) (lv' := [(4, .int (1 : Int32)), (6, .int r4), (0, .ref (mj_o E)), (1, .int x1), (2, .int x2), (3, .int x3), (5, .int x5)]) hx hb dX4_fits_70 hl (by decide) rfl (fun ls hl => ?_)
        refine lv_iinc (pc := 72) (v := (x5 + (1 : Int32))) (lv' := [(5, .int (x5 + (1 : Int32))), (4, .int (1 : Int32)), (6, .int r4), (0, .ref (mj_o E)), (1, .int x1), (2, .int x2), (3, .int x3)]) hx hb dX4_fits_72 hl (k := 6) rfl rfl (by decide) rfl (fun ls hl => ?_)
        refine lv_goto (pc := 75) (tgt := 6) hx hb dX4_fits_75 (by decide) ?_
        exact h d hd p e s m args below meth c hcx H locs _ hW hS (lv_sub hl [3, 4, 5, 6, 1, 0] rfl)
      · have h := h.2 c7
        refine lv_aload_n (pc := 37) hx hb dX4_fits_37 rfl (lv_at hl 1 rfl) ?_
        refine mj_geta (pc := 38) hcx hW 13 (by decide) rfl q1268 dX4_fits_38 ?_
        refine lv_iload_n (pc := 41) hx hb dX4_fits_41 rfl (lv_at hl 2 rfl) ?_
        refine lv_iload_n (pc := 42) hx hb dX4_fits_42 rfl (lv_at hl 3 rfl) ?_
        refine mj_ci (pc := 43) (mj_runS hcx hW [.int x1, .int x2] h (Nat.le_trans (by decide) hd) (lw_S q1498 q1499 q125 q1500) yd_rowAt.2 (by decide) rfl rfl (Nat.le_of_ble_eq_true rfl) hl.1 dX4_fits_43) hS (fun r8 σ9 h H locs hW hS => ?_)
        refine lv_iload (pc := 46) hx hb dX4_fits_46 (lv_at hl 0 rfl) ?_
        refine lv_iadd (pc := 48) hx hb dX4_fits_48 ?_
        obtain ⟨g10, h⟩ := h
        refine mj_ald (pc := 49) hcx hW 13 rfl rfl g10 dX4_fits_49 ?_
        refine lv_aload_n (pc := 50) hx hb dX4_fits_50 rfl (lv_at hl 1 rfl) ?_
        refine mj_geta (pc := 51) hcx hW 20 (by decide) rfl q1275 dX4_fits_51 ?_
        refine lv_aload_n (pc := 54) hx hb dX4_fits_54 rfl (lv_at hl 1 rfl) ?_
        refine mj_geta (pc := 55) hcx hW 18 (by decide) rfl q1273 dX4_fits_55 ?_
        refine lv_iload (pc := 58) hx hb dX4_fits_58 (lv_at hl 6 rfl) ?_
        obtain ⟨g11, h⟩ := h
        refine mj_ald (pc := 60) hcx hW 18 rfl rfl g11 dX4_fits_60 ?_
        obtain ⟨g12, h⟩ := h
        refine mj_ald (pc := 61) hcx hW 20 rfl rfl g12 dX4_fits_61 ?_
        refine lv_icmp_ne (pc := 62) (tgt := 69) hx hb dX4_fits_62 (by decide) (fun c13 => ?_) (fun c13 => ?_)
        · have h := h.2 c13
          refine lv_iconst (pc := 69) (v := (0 : Int32)) hx hb dX4_fits_69 (by decide) ?_
          refine lv_istore (pc := 70) (lv' := [(4, .int (0 : Int32)), (6, .int r4), (0, .ref (mj_o E)), (1, .int x1), (2, .int x2), (3, .int x3), (5, .int x5)]) hx hb dX4_fits_70 hl (by decide) rfl (fun ls hl => ?_)
          refine lv_iinc (pc := 72) (v := (x5 + (1 : Int32))) (lv' := [(5, .int (x5 + (1 : Int32))), (4, .int (0 : Int32)), (6, .int r4), (0, .ref (mj_o E)), (1, .int x1), (2, .int x2), (3, .int x3)]) hx hb dX4_fits_72 hl (k := 6) rfl rfl (by decide) rfl (fun ls hl => ?_)
          refine lv_goto (pc := 75) (tgt := 6) hx hb dX4_fits_75 (by decide) ?_
          exact h d hd p e s m args below meth c hcx H locs _ hW hS (lv_sub hl [3, 4, 5, 6, 1, 0] rfl)
        · have h := h.1 c13
          refine lv_iconst (pc := 65) (v := (1 : Int32)) hx hb dX4_fits_65 (by decide) ?_
          refine lv_goto (pc := 66) (tgt := 70) hx hb dX4_fits_66 (by decide) ?_
          refine lv_istore (pc := 70) (lv' := [(4, .int (1 : Int32)), (6, .int r4), (0, .ref (mj_o E)), (1, .int x1), (2, .int x2), (3, .int x3), (5, .int x5)]) hx hb dX4_fits_70 hl (by decide) rfl (fun ls hl => ?_)
          refine lv_iinc (pc := 72) (v := (x5 + (1 : Int32))) (lv' := [(5, .int (x5 + (1 : Int32))), (4, .int (1 : Int32)), (6, .int r4), (0, .ref (mj_o E)), (1, .int x1), (2, .int x2), (3, .int x3)]) hx hb dX4_fits_72 hl (k := 6) rfl rfl (by decide) rfl (fun ls hl => ?_)
          refine lv_goto (pc := 75) (tgt := 6) hx hb dX4_fits_75 (by decide) ?_
          exact h d hd p e s m args below meth c hcx H locs _ hW hS (lv_sub hl [3, 4, 5, 6, 1, 0] rfl)
set_option maxHeartbeats 4000000 in
set_option maxRecDepth 100000 in
theorem mb_fits {E : mj_E} {σ : mj_S} {x1 : Int32} {x2 : Int32} {x3 : Int32} {P : Int32 → mj_S → Prop} (hE : mj_ok E) (h : mg_fits_6 E σ x1 x2 x3 (1 : Int32) (0 : Int32) P) : ms_fits E σ x1 x2 x3 P :=
  mj_enter (k := 1) (lv := [(0, .ref (mj_o E)), (1, .int x1), (2, .int x2), (3, .int x3)]) hE rfl (Nat.le_of_ble_eq_true rfl) rfl (by
    intro d hd p e s m args below meth c hcx H locs ls hW hS hl
    have hx := hcx.1
    have hb := hcx.2.1
    have hown := hcx.2.2.2.2.2.1
    have hts := hcx.2.2.2.2.2.2.1
    refine lv_iconst (pc := 0) (v := (1 : Int32)) hx hb dX4_fits_0 (by decide) ?_
    refine lv_istore (pc := 1) (lv' := [(4, .int (1 : Int32)), (0, .ref (mj_o E)), (1, .int x1), (2, .int x2), (3, .int x3)]) hx hb dX4_fits_1 hl (by decide) rfl (fun ls hl => ?_)
    refine lv_iconst (pc := 3) (v := (0 : Int32)) hx hb dX4_fits_3 (by decide) ?_
    refine lv_istore (pc := 4) (lv' := [(5, .int (0 : Int32)), (4, .int (1 : Int32)), (0, .ref (mj_o E)), (1, .int x1), (2, .int x2), (3, .int x3)]) hx hb dX4_fits_4 hl (by decide) rfl (fun ls hl => ?_)
    exact h d hd p e s m args below meth c hcx H locs _ hW hS (lv_sub hl [2, 3, 4, 5, 1, 0] rfl))
/-! isOf -/
set_option maxHeartbeats 4000000 in
set_option maxRecDepth 100000 in
theorem mb_isOf_6 {E : mj_E} {σ : mj_S} {x1 : Int32} {x2 : Int32} {x3 : Int32} {x4 : Int32} {x5 : Int32} {P : Int32 → mj_S → Prop} (h : (vp_in x2 4 ∧ (((mj_A σ 15 x2.toNatClampNeg) ≤ x5 → (narrow .boolean (.int x4) = .int x4 ∧ P x4 σ)) ∧ (¬ (mj_A σ 15 x2.toNatClampNeg) ≤ x5 → ((x4 = 0 → mg_isOf_6 E σ x1 x2 x3 (0 : Int32) (x5 + (1 : Int32)) P) ∧ (¬ x4 = 0 → (vp_in (((3 : Int32) * x2) + x5) 12 ∧ ms_numberOf E σ x1 (mj_A σ 16 (((3 : Int32) * x2) + x5).toNatClampNeg) (fun r6 σ7 => ms_rowAt E σ7 x2 x3 (fun r8 σ9 => (vp_in (r8 + x5) 331 ∧ ((r6 = (mj_A σ9 13 (r8 + x5).toNatClampNeg) → mg_isOf_6 E σ9 x1 x2 x3 (1 : Int32) (x5 + (1 : Int32)) P) ∧ (¬ r6 = (mj_A σ9 13 (r8 + x5).toNatClampNeg) → mg_isOf_6 E σ9 x1 x2 x3 (0 : Int32) (x5 + (1 : Int32)) P)))))))))))) : mg_isOf_6 E σ x1 x2 x3 x4 x5 P := by
  intro d hd p e s m args below meth c hcx H locs ls hW hS hl
  have hx := hcx.1
  have hb := hcx.2.1
  have hown := hcx.2.2.2.2.2.1
  have hts := hcx.2.2.2.2.2.2.1
  refine lv_iload (pc := 6) hx hb dX4_isOf_6 (lv_at hl 5 rfl) ?_
  refine lv_aload_n (pc := 8) hx hb dX4_isOf_8 rfl (lv_at hl 0 rfl) ?_
  refine mj_geta (pc := 9) hcx hW 15 (by decide) rfl q1270 dX4_isOf_9 ?_
  refine lv_iload_n (pc := 12) hx hb dX4_isOf_12 rfl (lv_at hl 2 rfl) ?_
  obtain ⟨g1, h⟩ := h
  refine mj_ald (pc := 13) hcx hW 15 rfl rfl g1 dX4_isOf_13 ?_
  refine lv_icmp_ge (pc := 14) (tgt := 67) hx hb dX4_isOf_14 (by decide) (fun c2 => ?_) (fun c2 => ?_)
  · have h := h.1 c2
    refine lv_iload (pc := 67) hx hb dX4_isOf_67 (lv_at hl 4 rfl) ?_
    obtain ⟨g3, h⟩ := h
    exact mj_reti (pc := 69) hcx hW hS g3 h dX4_isOf_69
  · have h := h.2 c2
    refine lv_iload (pc := 17) hx hb dX4_isOf_17 (lv_at hl 4 rfl) ?_
    refine lv_if_eq (pc := 19) (tgt := 58) hx hb dX4_isOf_19 (by decide) (fun c4 => ?_) (fun c4 => ?_)
    · have h := h.1 c4
      refine lv_iconst (pc := 58) (v := (0 : Int32)) hx hb dX4_isOf_58 (by decide) ?_
      refine lv_istore (pc := 59) (lv' := [(4, .int (0 : Int32)), (0, .ref (mj_o E)), (1, .int x1), (2, .int x2), (3, .int x3), (5, .int x5)]) hx hb dX4_isOf_59 hl (by decide) rfl (fun ls hl => ?_)
      refine lv_iinc (pc := 61) (v := (x5 + (1 : Int32))) (lv' := [(5, .int (x5 + (1 : Int32))), (4, .int (0 : Int32)), (0, .ref (mj_o E)), (1, .int x1), (2, .int x2), (3, .int x3)]) hx hb dX4_isOf_61 hl (k := 5) rfl rfl (by decide) rfl (fun ls hl => ?_)
      refine lv_goto (pc := 64) (tgt := 6) hx hb dX4_isOf_64 (by decide) ?_
      exact h d hd p e s m args below meth c hcx H locs _ hW hS (lv_sub hl [2, 3, 4, 5, 1, 0] rfl)
    · have h := h.2 c4
      refine lv_aload_n (pc := 22) hx hb dX4_isOf_22 rfl (lv_at hl 0 rfl) ?_
      refine lv_iload_n (pc := 23) hx hb dX4_isOf_23 rfl (lv_at hl 1 rfl) ?_
      refine lv_aload_n (pc := 24) hx hb dX4_isOf_24 rfl (lv_at hl 0 rfl) ?_
      refine mj_geta (pc := 25) hcx hW 16 (by decide) rfl q1271 dX4_isOf_25 ?_
      refine lv_iconst (pc := 28) (v := (3 : Int32)) hx hb dX4_isOf_28 (by decide) ?_
      refine lv_iload_n (pc := 29) hx hb dX4_isOf_29 rfl (lv_at hl 2 rfl) ?_
      refine lv_imul (pc := 30) hx hb dX4_isOf_30 ?_
      refine lv_iload (pc := 31) hx hb dX4_isOf_31 (lv_at hl 5 rfl) ?_
      refine lv_iadd (pc := 33) hx hb dX4_isOf_33 ?_
      obtain ⟨g5, h⟩ := h
      refine mj_ald (pc := 34) hcx hW 16 rfl rfl g5 dX4_isOf_34 ?_
      refine mj_ci (pc := 35) (mj_runV hcx hW [.int x1, .int (mj_A σ 16 (((3 : Int32) * x2) + x5).toNatClampNeg)] h (Nat.le_trans (by decide) hd) (lw_V q1705 q1707 qs102 q125 q1708) yd_numberOf (by decide) rfl rfl (Nat.le_of_ble_eq_true rfl) hl.1 dX4_isOf_35) hS (fun r6 σ7 h H locs hW hS => ?_)
      refine lv_aload_n (pc := 38) hx hb dX4_isOf_38 rfl (lv_at hl 0 rfl) ?_
      refine mj_geta (pc := 39) hcx hW 13 (by decide) rfl q1268 dX4_isOf_39 ?_
      refine lv_iload_n (pc := 42) hx hb dX4_isOf_42 rfl (lv_at hl 2 rfl) ?_
      refine lv_iload_n (pc := 43) hx hb dX4_isOf_43 rfl (lv_at hl 3 rfl) ?_
      refine mj_ci (pc := 44) (mj_runS hcx hW [.int x2, .int x3] h (Nat.le_trans (by decide) hd) (lw_S q1498 q1499 q125 q1500) yd_rowAt.2 (by decide) rfl rfl (Nat.le_of_ble_eq_true rfl) hl.1 dX4_isOf_44) hS (fun r8 σ9 h H locs hW hS => ?_)
      refine lv_iload (pc := 47) hx hb dX4_isOf_47 (lv_at hl 5 rfl) ?_
      refine lv_iadd (pc := 49) hx hb dX4_isOf_49 ?_
      obtain ⟨g10, h⟩ := h
      refine mj_ald (pc := 50) hcx hW 13 rfl rfl g10 dX4_isOf_50 ?_
      refine lv_icmp_ne (pc := 51) (tgt := 58) hx hb dX4_isOf_51 (by decide) (fun c11 => ?_) (fun c11 => ?_)
      · have h := h.2 c11
        refine lv_iconst (pc := 58) (v := (0 : Int32)) hx hb dX4_isOf_58 (by decide) ?_
        refine lv_istore (pc := 59) (lv' := [(4, .int (0 : Int32)), (0, .ref (mj_o E)), (1, .int x1), (2, .int x2), (3, .int x3), (5, .int x5)]) hx hb dX4_isOf_59 hl (by decide) rfl (fun ls hl => ?_)
        refine lv_iinc (pc := 61) (v := (x5 + (1 : Int32))) (lv' := [(5, .int (x5 + (1 : Int32))), (4, .int (0 : Int32)), (0, .ref (mj_o E)), (1, .int x1), (2, .int x2), (3, .int x3)]) hx hb dX4_isOf_61 hl (k := 5) rfl rfl (by decide) rfl (fun ls hl => ?_)
        refine lv_goto (pc := 64) (tgt := 6) hx hb dX4_isOf_64 (by decide) ?_
        exact h d hd p e s m args below meth c hcx H locs _ hW hS (lv_sub hl [2, 3, 4, 5, 1, 0] rfl)
      · have h := h.1 c11
        refine lv_iconst (pc := 54) (v := (1 : Int32)) hx hb dX4_isOf_54 (by decide) ?_
        refine lv_goto (pc := 55) (tgt := 59) hx hb dX4_isOf_55 (by decide) ?_
        refine lv_istore (pc := 59) (lv' := [(4, .int (1 : Int32)), (0, .ref (mj_o E)), (1, .int x1), (2, .int x2), (3, .int x3), (5, .int x5)]) hx hb dX4_isOf_59 hl (by decide) rfl (fun ls hl => ?_)
        refine lv_iinc (pc := 61) (v := (x5 + (1 : Int32))) (lv' := [(5, .int (x5 + (1 : Int32))), (4, .int (1 : Int32)), (0, .ref (mj_o E)), (1, .int x1), (2, .int x2), (3, .int x3)]) hx hb dX4_isOf_61 hl (k := 5) rfl rfl (by decide) rfl (fun ls hl => ?_)
        refine lv_goto (pc := 64) (tgt := 6) hx hb dX4_isOf_64 (by decide) ?_
        exact h d hd p e s m args below meth c hcx H locs _ hW hS (lv_sub hl [2, 3, 4, 5, 1, 0] rfl)
set_option maxHeartbeats 4000000 in
set_option maxRecDepth 100000 in
theorem mb_isOf {E : mj_E} {σ : mj_S} {x1 : Int32} {x2 : Int32} {x3 : Int32} {P : Int32 → mj_S → Prop} (hE : mj_ok E) (h : mg_isOf_6 E σ x1 x2 x3 (1 : Int32) (0 : Int32) P) : ms_isOf E σ x1 x2 x3 P :=
  mj_enter (k := 1) (lv := [(0, .ref (mj_o E)), (1, .int x1), (2, .int x2), (3, .int x3)]) hE rfl (Nat.le_of_ble_eq_true rfl) rfl (by
    intro d hd p e s m args below meth c hcx H locs ls hW hS hl
    have hx := hcx.1
    have hb := hcx.2.1
    have hown := hcx.2.2.2.2.2.1
    have hts := hcx.2.2.2.2.2.2.1
    refine lv_iconst (pc := 0) (v := (1 : Int32)) hx hb dX4_isOf_0 (by decide) ?_
    refine lv_istore (pc := 1) (lv' := [(4, .int (1 : Int32)), (0, .ref (mj_o E)), (1, .int x1), (2, .int x2), (3, .int x3)]) hx hb dX4_isOf_1 hl (by decide) rfl (fun ls hl => ?_)
    refine lv_iconst (pc := 3) (v := (0 : Int32)) hx hb dX4_isOf_3 (by decide) ?_
    refine lv_istore (pc := 4) (lv' := [(5, .int (0 : Int32)), (4, .int (1 : Int32)), (0, .ref (mj_o E)), (1, .int x1), (2, .int x2), (3, .int x3)]) hx hb dX4_isOf_4 hl (by decide) rfl (fun ls hl => ?_)
    exact h d hd p e s m args below meth c hcx H locs _ hW hS (lv_sub hl [2, 3, 4, 5, 1, 0] rfl))
/-! isRow -/
set_option maxHeartbeats 4000000 in
set_option maxRecDepth 100000 in
theorem mb_isRow_47 {E : mj_E} {σ : mj_S} {x1 : Int32} {x4 : Int32} {t0 : Int32} {P : Int32 → mj_S → Prop} (h : ((t0 = 0 → P (0 : Int32) σ) ∧ (¬ t0 = 0 → (vp_in x1 4 ∧ (((mj_A σ 15 x1.toNatClampNeg) ≤ (2 : Int32) → ((x4 = (-1 : Int32) → P (1 : Int32) σ) ∧ (¬ x4 = (-1 : Int32) → P (0 : Int32) σ))) ∧ (¬ (mj_A σ 15 x1.toNatClampNeg) ≤ (2 : Int32) → ms_in E σ x4 (0 : Int32) (99 : Int32) (fun r5 σ6 => ((r5 = 0 → P (0 : Int32) σ6) ∧ (¬ r5 = 0 → P (1 : Int32) σ6))))))))) : mg_isRow_47 E σ x1 x4 t0 P := by
  intro d hd p e s m args below meth c hcx H locs ls hW hS hl
  have hx := hcx.1
  have hb := hcx.2.1
  have hown := hcx.2.2.2.2.2.1
  have hts := hcx.2.2.2.2.2.2.1
  refine lv_istore (pc := 47) (lv' := [(5, .int t0), (0, .ref (mj_o E)), (1, .int x1), (4, .int x4)]) hx hb dX4_isRow_47 hl (by decide) rfl (fun ls hl => ?_)
  refine lv_iload (pc := 49) hx hb dX4_isRow_49 (lv_at hl 0 rfl) ?_
  refine lv_if_eq (pc := 51) (tgt := 88) hx hb dX4_isRow_51 (by decide) (fun c1 => ?_) (fun c1 => ?_)
  · have h := h.1 c1
    refine lv_iconst (pc := 88) (v := (0 : Int32)) hx hb dX4_isRow_88 (by decide) ?_
    exact mj_reti (pc := 89) hcx hW hS rfl h dX4_isRow_89
  · have h := h.2 c1
    refine lv_aload_n (pc := 54) hx hb dX4_isRow_54 rfl (lv_at hl 1 rfl) ?_
    refine mj_geta (pc := 55) hcx hW 15 (by decide) rfl q1270 dX4_isRow_55 ?_
    refine lv_iload_n (pc := 58) hx hb dX4_isRow_58 rfl (lv_at hl 2 rfl) ?_
    obtain ⟨g2, h⟩ := h
    refine mj_ald (pc := 59) hcx hW 15 rfl rfl g2 dX4_isRow_59 ?_
    refine lv_iconst (pc := 60) (v := (2 : Int32)) hx hb dX4_isRow_60 (by decide) ?_
    refine lv_icmp_le (pc := 61) (tgt := 78) hx hb dX4_isRow_61 (by decide) (fun c3 => ?_) (fun c3 => ?_)
    · have h := h.1 c3
      refine lv_iload (pc := 78) hx hb dX4_isRow_78 (lv_at hl 3 rfl) ?_
      refine lv_iconst (pc := 80) (v := (-1 : Int32)) hx hb dX4_isRow_80 (by decide) ?_
      refine lv_icmp_ne (pc := 81) (tgt := 88) hx hb dX4_isRow_81 (by decide) (fun c4 => ?_) (fun c4 => ?_)
      · have h := h.2 c4
        refine lv_iconst (pc := 88) (v := (0 : Int32)) hx hb dX4_isRow_88 (by decide) ?_
        exact mj_reti (pc := 89) hcx hW hS rfl h dX4_isRow_89
      · have h := h.1 c4
        refine lv_iconst (pc := 84) (v := (1 : Int32)) hx hb dX4_isRow_84 (by decide) ?_
        refine lv_goto (pc := 85) (tgt := 89) hx hb dX4_isRow_85 (by decide) ?_
        exact mj_reti (pc := 89) hcx hW hS rfl h dX4_isRow_89
    · have h := h.2 c3
      refine lv_iload (pc := 64) hx hb dX4_isRow_64 (lv_at hl 3 rfl) ?_
      refine lv_iconst (pc := 66) (v := (0 : Int32)) hx hb dX4_isRow_66 (by decide) ?_
      refine lv_bipush (pc := 67) (v := (99 : Int32)) hx hb dX4_isRow_67 (by decide) ?_
      refine mj_ci (pc := 69) (mj_runS hcx hW [.int x4, .int (0 : Int32), .int (99 : Int32)] h (Nat.le_trans (by decide) hd) (lw_S q1401 q1402 q125 q1403) yd_in.2 (by decide) rfl rfl (Nat.le_of_ble_eq_true rfl) hl.1 dX4_isRow_69) hS (fun r5 σ6 h H locs hW hS => ?_)
      refine lv_if_eq (pc := 72) (tgt := 88) hx hb dX4_isRow_72 (by decide) (fun c7 => ?_) (fun c7 => ?_)
      · have h := h.1 c7
        refine lv_iconst (pc := 88) (v := (0 : Int32)) hx hb dX4_isRow_88 (by decide) ?_
        exact mj_reti (pc := 89) hcx hW hS rfl h dX4_isRow_89
      · have h := h.2 c7
        refine lv_goto (pc := 75) (tgt := 84) hx hb dX4_isRow_75 (by decide) ?_
        refine lv_iconst (pc := 84) (v := (1 : Int32)) hx hb dX4_isRow_84 (by decide) ?_
        refine lv_goto (pc := 85) (tgt := 89) hx hb dX4_isRow_85 (by decide) ?_
        exact mj_reti (pc := 89) hcx hW hS rfl h dX4_isRow_89
set_option maxHeartbeats 4000000 in
set_option maxRecDepth 100000 in
theorem mb_isRow {E : mj_E} {σ : mj_S} {x1 : Int32} {x2 : Int32} {x3 : Int32} {x4 : Int32} {P : Int32 → mj_S → Prop} (hE : mj_ok E) (h : ms_in E σ x2 (0 : Int32) (99 : Int32) (fun r1 σ2 => ((r1 = 0 → mg_isRow_47 E σ2 x1 x4 (0 : Int32) P) ∧ (¬ r1 = 0 → (vp_in x1 4 ∧ (((mj_A σ2 15 x1.toNatClampNeg) ≤ (1 : Int32) → ((x3 = (-1 : Int32) → mg_isRow_47 E σ2 x1 x4 (1 : Int32) P) ∧ (¬ x3 = (-1 : Int32) → mg_isRow_47 E σ2 x1 x4 (0 : Int32) P))) ∧ (¬ (mj_A σ2 15 x1.toNatClampNeg) ≤ (1 : Int32) → ms_in E σ2 x3 (0 : Int32) (99 : Int32) (fun r7 σ8 => ((r7 = 0 → mg_isRow_47 E σ8 x1 x4 (0 : Int32) P) ∧ (¬ r7 = 0 → mg_isRow_47 E σ8 x1 x4 (1 : Int32) P)))))))))) : ms_isRow E σ x1 x2 x3 x4 P :=
  mj_enter (k := 1) (lv := [(0, .ref (mj_o E)), (1, .int x1), (2, .int x2), (3, .int x3), (4, .int x4)]) hE rfl (Nat.le_of_ble_eq_true rfl) rfl (by
    intro d hd p e s m args below meth c hcx H locs ls hW hS hl
    have hx := hcx.1
    have hb := hcx.2.1
    have hown := hcx.2.2.2.2.2.1
    have hts := hcx.2.2.2.2.2.2.1
    refine lv_iload_n (pc := 0) hx hb dX4_isRow_0 rfl (lv_at hl 2 rfl) ?_
    refine lv_iconst (pc := 1) (v := (0 : Int32)) hx hb dX4_isRow_1 (by decide) ?_
    refine lv_bipush (pc := 2) (v := (99 : Int32)) hx hb dX4_isRow_2 (by decide) ?_
    refine mj_ci (pc := 4) (mj_runS hcx hW [.int x2, .int (0 : Int32), .int (99 : Int32)] h (Nat.le_trans (by decide) hd) (lw_S q1401 q1402 q125 q1403) yd_in.2 (by decide) rfl rfl (Nat.le_of_ble_eq_true rfl) hl.1 dX4_isRow_4) hS (fun r1 σ2 h H locs hW hS => ?_)
    refine lv_istore (pc := 7) (lv' := [(5, .int r1), (0, .ref (mj_o E)), (1, .int x1), (2, .int x2), (3, .int x3), (4, .int x4)]) hx hb dX4_isRow_7 hl (by decide) rfl (fun ls hl => ?_)
    refine lv_iload (pc := 9) hx hb dX4_isRow_9 (lv_at hl 0 rfl) ?_
    refine lv_if_eq (pc := 11) (tgt := 46) hx hb dX4_isRow_11 (by decide) (fun c3 => ?_) (fun c3 => ?_)
    · have h := h.1 c3
      refine lv_iconst (pc := 46) (v := (0 : Int32)) hx hb dX4_isRow_46 (by decide) ?_
      exact h d hd p e s m args below meth c hcx H locs _ hW hS (lv_sub hl [1, 2, 5] rfl)
    · have h := h.2 c3
      refine lv_aload_n (pc := 14) hx hb dX4_isRow_14 rfl (lv_at hl 1 rfl) ?_
      refine mj_geta (pc := 15) hcx hW 15 (by decide) rfl q1270 dX4_isRow_15 ?_
      refine lv_iload_n (pc := 18) hx hb dX4_isRow_18 rfl (lv_at hl 2 rfl) ?_
      obtain ⟨g4, h⟩ := h
      refine mj_ald (pc := 19) hcx hW 15 rfl rfl g4 dX4_isRow_19 ?_
      refine lv_iconst (pc := 20) (v := (1 : Int32)) hx hb dX4_isRow_20 (by decide) ?_
      refine lv_icmp_le (pc := 21) (tgt := 37) hx hb dX4_isRow_21 (by decide) (fun c5 => ?_) (fun c5 => ?_)
      · have h := h.1 c5
        refine lv_iload_n (pc := 37) hx hb dX4_isRow_37 rfl (lv_at hl 4 rfl) ?_
        refine lv_iconst (pc := 38) (v := (-1 : Int32)) hx hb dX4_isRow_38 (by decide) ?_
        refine lv_icmp_ne (pc := 39) (tgt := 46) hx hb dX4_isRow_39 (by decide) (fun c6 => ?_) (fun c6 => ?_)
        · have h := h.2 c6
          refine lv_iconst (pc := 46) (v := (0 : Int32)) hx hb dX4_isRow_46 (by decide) ?_
          exact h d hd p e s m args below meth c hcx H locs _ hW hS (lv_sub hl [1, 2, 5] rfl)
        · have h := h.1 c6
          refine lv_iconst (pc := 42) (v := (1 : Int32)) hx hb dX4_isRow_42 (by decide) ?_
          refine lv_goto (pc := 43) (tgt := 47) hx hb dX4_isRow_43 (by decide) ?_
          exact h d hd p e s m args below meth c hcx H locs _ hW hS (lv_sub hl [1, 2, 5] rfl)
      · have h := h.2 c5
        refine lv_iload_n (pc := 24) hx hb dX4_isRow_24 rfl (lv_at hl 4 rfl) ?_
        refine lv_iconst (pc := 25) (v := (0 : Int32)) hx hb dX4_isRow_25 (by decide) ?_
        refine lv_bipush (pc := 26) (v := (99 : Int32)) hx hb dX4_isRow_26 (by decide) ?_
        refine mj_ci (pc := 28) (mj_runS hcx hW [.int x3, .int (0 : Int32), .int (99 : Int32)] h (Nat.le_trans (by decide) hd) (lw_S q1401 q1402 q125 q1403) yd_in.2 (by decide) rfl rfl (Nat.le_of_ble_eq_true rfl) hl.1 dX4_isRow_28) hS (fun r7 σ8 h H locs hW hS => ?_)
        refine lv_if_eq (pc := 31) (tgt := 46) hx hb dX4_isRow_31 (by decide) (fun c9 => ?_) (fun c9 => ?_)
        · have h := h.1 c9
          refine lv_iconst (pc := 46) (v := (0 : Int32)) hx hb dX4_isRow_46 (by decide) ?_
          exact h d hd p e s m args below meth c hcx H locs _ hW hS (lv_sub hl [1, 2, 5] rfl)
        · have h := h.2 c9
          refine lv_goto (pc := 34) (tgt := 42) hx hb dX4_isRow_34 (by decide) ?_
          refine lv_iconst (pc := 42) (v := (1 : Int32)) hx hb dX4_isRow_42 (by decide) ?_
          refine lv_goto (pc := 43) (tgt := 47) hx hb dX4_isRow_43 (by decide) ?_
          exact h d hd p e s m args below meth c hcx H locs _ hW hS (lv_sub hl [1, 2, 5] rfl))
/-! isScript -/
set_option maxHeartbeats 4000000 in
set_option maxRecDepth 100000 in
theorem mb_isScript {E : mj_E} {σ : mj_S} {x1 : Int32} {P : Int32 → mj_S → Prop} (hE : mj_ok E) (h : ms_in E σ x1 (0 : Int32) ((mj_F σ 12) - (1 : Int32)) (fun r1 σ2 => (narrow .boolean (.int r1) = .int r1 ∧ P r1 σ2))) : ms_isScript E σ x1 P :=
  mj_enter (k := 1) (lv := [(0, .ref (mj_o E)), (1, .int x1)]) hE rfl (Nat.le_of_ble_eq_true rfl) rfl (by
    intro d hd p e s m args below meth c hcx H locs ls hW hS hl
    have hx := hcx.1
    have hb := hcx.2.1
    have hown := hcx.2.2.2.2.2.1
    have hts := hcx.2.2.2.2.2.2.1
    refine lv_iload_n (pc := 0) hx hb dX4_isScript_0 rfl (lv_at hl 1 rfl) ?_
    refine lv_iconst (pc := 1) (v := (0 : Int32)) hx hb dX4_isScript_1 (by decide) ?_
    refine lv_aload_n (pc := 2) hx hb dX4_isScript_2 rfl (lv_at hl 0 rfl) ?_
    refine mj_geti (pc := 3) hcx hW 12 (by decide) rfl q1267 dX4_isScript_3 ?_
    refine lv_iconst (pc := 6) (v := (1 : Int32)) hx hb dX4_isScript_6 (by decide) ?_
    refine lv_isub (pc := 7) hx hb dX4_isScript_7 ?_
    refine mj_ci (pc := 8) (mj_runS hcx hW [.int x1, .int (0 : Int32), .int ((mj_F σ 12) - (1 : Int32))] h (Nat.le_trans (by decide) hd) (lw_S q1401 q1402 q125 q1403) yd_in.2 (by decide) rfl rfl (Nat.le_of_ble_eq_true rfl) hl.1 dX4_isScript_8) hS (fun r1 σ2 h H locs hW hS => ?_)
    obtain ⟨g3, h⟩ := h
    exact mj_reti (pc := 11) hcx hW hS g3 h dX4_isScript_11)
