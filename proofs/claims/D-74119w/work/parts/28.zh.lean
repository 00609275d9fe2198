/-! Table.suits, walked -/
set_option maxRecDepth 100000
set_option maxHeartbeats 4000000 in
theorem cb_Tb_suits {E : cj_E} {σ : cj_S} {x0 one : Nat} {x1 : Option Nat} {P : Int32 → cj_S → Prop} (hT0 : cj_T σ x0 = 6) (h1 : cj_R σ 602 x0 = some one) (hT1 : cj_rr (cj_T σ one)) (hN : vp_in 0 (cj_N σ one)) (h : (x1 = none → P 0 (cj_sB σ one 0 none)) ∧ ∀ v, x1 = some v → cj_ro (cj_T σ v) ∧ (cj_T σ one = cj_T σ v + 20 → P 1 (cj_sB σ one 0 (some v))) ∧ (cj_T σ one ≠ cj_T σ v + 20 → P 0 σ)) : cs_Tb_suits E σ x0 x1 P :=
  cj_enterW (k := 12) (lv := [(0, .ref x0), (1, va_rf x1)]) (by decide) (by cases x1 <;> exact Nat.le_of_ble_eq_true rfl) (by cases x1 <;> rfl) (by
    intro d hd p e s m args below meth c hcx htab H locs ls hW hS hl
    have hx := hcx.1
    have hb := hcx.2.1
    refine lv_aload_n (pc := 0) hx hb dX7_suits_0 rfl (lv_at hl 0 rfl) ?_
    refine cj_fld (pc := 1) hcx hW 5 hT0 (by decide) rfl in_X7 2 (by decide) (by decide) q489 dX7_suits_1 (v := va_rf (cj_R σ 602 x0)) rfl ?_
    refine cj_stk (st' := [.ref one]) (by rw [h1]; rfl) ?_
    refine lv_iconst (pc := 4) (v := (0 : Int32)) hx hb dX7_suits_4 (by decide) ?_
    refine cj_aload_n (pc := 5) hx hb dX7_suits_5 rfl (lv_at hl 1 rfl) ?_
    cases x1 with
    | none =>
      refine cj_aastN (pc := 6) hcx hW hS rfl hT1 hN dX7_suits_6 (fun H locs hW hS => ?_)
      refine cj_aload_n (pc := 7) (r := none) hx hb dX7_suits_7 rfl (lv_at hl 1 rfl) ?_
      refine cj_ifnull (pc := 8) (r := none) (tgt := 15) hx hb dX7_suits_8 (by decide) (fun _ => ?_) (fun c => absurd rfl c)
      refine lv_iconst (pc := 15) (v := (0 : Int32)) hx hb dX7_suits_15 (by decide) ?_
      exact cj_reti (pc := 16) hcx hW hS rfl (h.1 rfl) (by decide) (by decide) dX7_suits_16
    | some v =>
      obtain ⟨hv, ha, hz⟩ := h.2 v rfl
      by_cases he : cj_T σ one = cj_T σ v + 20
      · refine cj_aast (pc := 6) hcx hW hS (by rcases hv with h | h | h <;> rw [h] <;> unfold cj_ok_ <;> decide) he hN dX7_suits_6 (fun H locs hW hS => ?_)
        refine cj_aload_n (pc := 7) (r := some v) hx hb dX7_suits_7 rfl (lv_at hl 1 rfl) ?_
        refine cj_ifnull (pc := 8) (r := some v) (tgt := 15) hx hb dX7_suits_8 (by decide) (fun c => by cases c) (fun _ => ?_)
        refine lv_iconst (pc := 11) (v := (1 : Int32)) hx hb dX7_suits_11 (by decide) ?_
        refine lv_goto (pc := 12) (tgt := 16) hx hb dX7_suits_12 (by decide) ?_
        exact cj_reti (pc := 16) hcx hW hS rfl (ha he) (by decide) (by decide) dX7_suits_16
      · refine cj_aastX (pc := 6) hcx hW hS hl.1 hv hT1 he hN htab (by decide) (by decide) q776 (by omega) (Nat.le_of_ble_eq_true rfl) (by decide) (by decide) dX7_suits_6 (fun H q9 hW hS => ?_)
        refine lv_astore_n (pc := 17) (lv' := [(2, .ref q9), (0, .ref x0), (1, va_rf (some v))]) hx hb dX7_suits_17 rfl hl (by decide) rfl (fun ls hl => ?_)
        refine lv_iconst (pc := 18) (v := (0 : Int32)) hx hb dX7_suits_18 (by decide) ?_
        exact cj_reti (pc := 19) hcx hW hS rfl (hz he) (by decide) (by decide) dX7_suits_19)
