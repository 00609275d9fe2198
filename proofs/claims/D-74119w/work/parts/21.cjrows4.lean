/-! THE SYSTEM'S LAYER: dispatch, handlers, clones, casts; printed by cjrows4.py -/
set_option maxRecDepth 100000
theorem cj_lr {n d mc ms : Nat} (h : n ≤ 64) : n ≤ (cj_rm d mc ms).locals := by show n ≤ (12000 + 64 * (d + 1)); omega
theorem cj_okt {x t : Nat} (h : x = t) (ho : cj_ok_ t) : cj_ok_ x := by rw [h]; exact ho
theorem cj_eqt {x z t : Nat} (h1 : x = t + 20) (h2 : z = t) : x = z + 20 := by rw [h1, h2]
theorem cj_nR (C : String) (r : Option Nat) : narrow (.object C) (va_rf r) = va_rf r := by cases r <;> rfl
theorem cj_nRa (t : FieldType) (r : Option Nat) : narrow (.array t) (va_rf r) = va_rf r := by cases r <;> rfl
theorem cj_fR (C : String) (r : Option Nat) : fits (.object C) (va_rf r) = true := by cases r <;> rfl
theorem cj_fRa (t : FieldType) (r : Option Nat) : fits (.array t) (va_rf r) = true := by cases r <;> rfl
def cs_Rw_width (E : cj_E) (σ : cj_S) (b : Nat) (P : Int32 → cj_S → Prop) : Prop := (cj_T σ b = 7 ∧ cs_On_width E σ b P) ∨ (cj_T σ b = 8 ∧ cs_Tw_width E σ b P) ∨ (cj_T σ b = 9 ∧ cs_Th_width E σ b P)
def cs_Rw_at (E : cj_E) (σ : cj_S) (b : Nat) (x1 : Int32) (P : Int32 → cj_S → Prop) : Prop := (cj_T σ b = 7 ∧ cs_On_at E σ b x1 P) ∨ (cj_T σ b = 8 ∧ cs_Tw_at E σ b x1 P) ∨ (cj_T σ b = 9 ∧ cs_Th_at E σ b x1 P)
/-- what a call of an inherited or overriding method asks -/
theorem lw_U {own : String} {idx : Nat} {C owner : String} {x y : MethodName} {b : ByteArray} {L : Nat} {r : Option FieldType} (h1 : Cond.methodLink own idx x ∈ lw_all) (h2 : Cond.sameMethod x.cls owner x.name x.desc ∈ lw_all) (h3 : Cond.selects C x y ∈ lw_all) (h4 : Cond.instanceMethod y ∈ lw_all) (h5 : Cond.initialized y.cls ∈ lw_all) (h6 : Cond.code y b L r ∈ lw_all) : GoodIn lw_all (va_wsU own idx C owner x y (ws_ y b L r)) := by
  refine lw_app ?_ (lw_meth h6)
  intro w hw
  simp only [List.mem_cons, List.not_mem_nil, or_false] at hw
  rcases hw with e | e | e | e | e
  · rw [e]; exact h1
  · rw [e]; exact h2
  · rw [e]; exact h3
  · rw [e]; exact h4
  · rw [e]; exact h5
section CJ
variable {E : cj_E} {y : MethodName} {bytes : ByteArray} {maxL : Nat} {ret : Option FieldType} {p : Program} {e : Env} {s : State} {m : MethodId} {args : Array Value} {below : List Frame} {meth : Method} {c : Code} {H : Heap} {locs : List Loc} {Q : State → Prop} {d : Nat} {pc : Nat} {ls : Array Slot} {rest : List Value} {σ : cj_S} {l : Launch} {R : Room} {cells slots : Nat} {a : Nat}
theorem cj_runVW {mc ms mc' ms' cu su : Nat} {Q0 : Array Value → State → Outcome → State → Prop} (hcx : cj_cx E y bytes maxL ret p s m args meth c) (hW : cj_W E σ H) (hS : va_S (cj_P E) s.heap H locs) {k n L index : Nat} {y2 : MethodName} {b : ByteArray} {r : Option FieldType} {hh : List (Nat × Nat × Nat × Nat)} (ci : Nat) (hT : cj_T σ a = ci + 1) (h19 : ci < 19) {C : String} {T : u_T} {N : Nat} (hc : cj_cl[ci]? = some (C, T, N)) (As : List Value) (hM : cj_MW E k mc' ms' y2 b L r hh (.ref a :: As) σ Q0) (hkd : k + 1 ≤ d) (hG : GoodIn lw_all (wsV y.cls index C y2 (wsW_ y2 b L r hh))) (hd0 : y2.cls = C) (hd : y2.cls ≠ "java/lang/invoke/MethodHandle" ∧ y2.cls ≠ "java/lang/invoke/VarHandle" ∧ (parseMethodDescriptor y2.desc).map (fun d => d.parameters.length) = some n) (hL : L ≤ 45) (hn : As.length = n) {st0 : List Value} (hst : st0 = As.reverse ++ .ref a :: rest) (hroom : (rest.map fun v => v.category).sum ≤ 8) (hsz : ls.size = maxL) (hc1 : cu + mc' ≤ mc) (hs1 : su + ms' ≤ ms) (hdg : decode bytes pc = .ok (.invokevirtual index, 3)) : va_Run p (cj_l E) e (cj_rm d mc ms) s m args below meth c H locs cu su mc' ms' (F0 m pc ls st0) rest (Q0 (.ref a :: As).toArray) (cj_P E) := by
  have hcx0 := hcx
  obtain ⟨hx, hb, -, -, hml, hown, hts, hK, hA, hnm0, hz⟩ := hcx
  have hd1 : k ≤ d - 1 := by omega
  have hcw : vx_CVW (cj_rm d mc ms) s args y.cls C index y2 b L r hh (wsW_ y2 b L r hh) (cj_rm (d - 1) mc' ms') mc' ms' n := vx_cwVW n hts hG rfl rfl rfl ⟨hd0, hd⟩ ⟨by show d - 1 + 1 + 1 ≤ d + 1; omega, by show 8 + (L + 11) + (12000 + 64 * (d - 1 + 1)) ≤ (12000 + 64 * (d + 1)); omega⟩
  exact vx_runVW (As := As) (rest := rest) ⟨hx, hb, hml, hown, hts⟩ (hM (d - 1) hd1) hcw (cj_preV hcx0 hW hS ci hT h19 hc As) rfl hn hsz hst (lv_room hroom) hdg ⟨hc1, hs1⟩
theorem cj_runRw_width {mc ms cu su index : Nat} {P : Int32 → cj_S → Prop} (hcx : cj_cx E y bytes maxL ret p s m args meth c) (hW : cj_W E σ H) (hS : va_S (cj_P E) s.heap H locs) (h : cs_Rw_width E σ a P) (hkd : 0 + 1 ≤ d) (hlink : Cond.methodLink y.cls index (⟨"LeapJoin$Row", "width", "()I"⟩ : MethodName) ∈ lw_all) {st0 : List Value} (hst : st0 = ([] : List Value).reverse ++ .ref a :: rest) (hroom : (rest.map fun v => v.category).sum ≤ 8) (hsz : ls.size = maxL) (hc1 : cu + 0 ≤ mc) (hs1 : su + 0 ≤ ms) (hdg : decode bytes pc = .ok (.invokevirtual index, 3)) : va_Run p (cj_l E) e (cj_rm d mc ms) s m args below meth c H locs cu su 0 0 (F0 m pc ls st0) rest (cj_Qi E P (.ref a :: [] : List Value).toArray) (cj_P E) := by
  have hcx0 := hcx
  obtain ⟨hx, hb, -, -, hml, hown, hts, hK, hA, hnm0, hz⟩ := hcx
  rcases h with ⟨hT, hM⟩ | ⟨hT, hM⟩ | ⟨hT, hM⟩
  · have hcw : va_CU (cj_rm d mc ms) s args y.cls RX9 "LeapJoin$Row" index (⟨"LeapJoin$Row", "width", "()I"⟩ : MethodName) yX9_width cX9_width 1 (some .int) (ws_ yX9_width cX9_width 1 (some .int)) (cj_rm (d - 1) 0 0) 0 0 0 := va_cwA 0 hts (lw_U hlink q579 q580 q581 q133 q582) rfl rfl rfl (hK.2.2.2.2.2.1 _ (List.mem_of_getElem? (i := 6) rfl)) ⟨by decide, by decide, by decide +kernel⟩ ⟨by show d - 1 + 1 + 1 ≤ d + 1; omega, by show 8 + (1 + 11) + (12000 + 64 * (d - 1 + 1)) ≤ (12000 + 64 * (d + 1)); omega⟩
    exact va_runU (As := []) (rest := rest) ⟨hx, hb, hml, hown, hts⟩ (hM (d - 1) (Nat.zero_le _)) hcw (cj_preV hcx0 hW hS 6 hT (by decide) rfl []) rfl rfl hsz hst (lv_room hroom) hdg ⟨hc1, hs1⟩
  · have hcw : va_CU (cj_rm d mc ms) s args y.cls RX10 "LeapJoin$Row" index (⟨"LeapJoin$Row", "width", "()I"⟩ : MethodName) yX10_width cX10_width 1 (some .int) (ws_ yX10_width cX10_width 1 (some .int)) (cj_rm (d - 1) 0 0) 0 0 0 := va_cwA 0 hts (lw_U hlink q579 q586 q587 q134 q588) rfl rfl rfl (hK.2.2.2.2.2.1 _ (List.mem_of_getElem? (i := 6) rfl)) ⟨by decide, by decide, by decide +kernel⟩ ⟨by show d - 1 + 1 + 1 ≤ d + 1; omega, by show 8 + (1 + 11) + (12000 + 64 * (d - 1 + 1)) ≤ (12000 + 64 * (d + 1)); omega⟩
    exact va_runU (As := []) (rest := rest) ⟨hx, hb, hml, hown, hts⟩ (hM (d - 1) (Nat.zero_le _)) hcw (cj_preV hcx0 hW hS 7 hT (by decide) rfl []) rfl rfl hsz hst (lv_room hroom) hdg ⟨hc1, hs1⟩
  · have hcw : va_CU (cj_rm d mc ms) s args y.cls RX11 "LeapJoin$Row" index (⟨"LeapJoin$Row", "width", "()I"⟩ : MethodName) yX11_width cX11_width 1 (some .int) (ws_ yX11_width cX11_width 1 (some .int)) (cj_rm (d - 1) 0 0) 0 0 0 := va_cwA 0 hts (lw_U hlink q579 q583 q584 q135 q585) rfl rfl rfl (hK.2.2.2.2.2.1 _ (List.mem_of_getElem? (i := 6) rfl)) ⟨by decide, by decide, by decide +kernel⟩ ⟨by show d - 1 + 1 + 1 ≤ d + 1; omega, by show 8 + (1 + 11) + (12000 + 64 * (d - 1 + 1)) ≤ (12000 + 64 * (d + 1)); omega⟩
    exact va_runU (As := []) (rest := rest) ⟨hx, hb, hml, hown, hts⟩ (hM (d - 1) (Nat.zero_le _)) hcw (cj_preV hcx0 hW hS 8 hT (by decide) rfl []) rfl rfl hsz hst (lv_room hroom) hdg ⟨hc1, hs1⟩
theorem cj_runRw_at {mc ms cu su index : Nat} {x1 : Int32} {P : Int32 → cj_S → Prop} (hcx : cj_cx E y bytes maxL ret p s m args meth c) (hW : cj_W E σ H) (hS : va_S (cj_P E) s.heap H locs) (h : cs_Rw_at E σ a x1 P) (hkd : 0 + 1 ≤ d) (hlink : Cond.methodLink y.cls index (⟨"LeapJoin$Row", "at", "(I)I"⟩ : MethodName) ∈ lw_all) {st0 : List Value} (hst : st0 = ([.int x1] : List Value).reverse ++ .ref a :: rest) (hroom : (rest.map fun v => v.category).sum ≤ 8) (hsz : ls.size = maxL) (hc1 : cu + 0 ≤ mc) (hs1 : su + 0 ≤ ms) (hdg : decode bytes pc = .ok (.invokevirtual index, 3)) : va_Run p (cj_l E) e (cj_rm d mc ms) s m args below meth c H locs cu su 0 0 (F0 m pc ls st0) rest (cj_Qi E P (.ref a :: [.int x1] : List Value).toArray) (cj_P E) := by
  have hcx0 := hcx
  obtain ⟨hx, hb, -, -, hml, hown, hts, hK, hA, hnm0, hz⟩ := hcx
  rcases h with ⟨hT, hM⟩ | ⟨hT, hM⟩ | ⟨hT, hM⟩
  · have hcw : va_CU (cj_rm d mc ms) s args y.cls RX9 "LeapJoin$Row" index (⟨"LeapJoin$Row", "at", "(I)I"⟩ : MethodName) yX9_at cX9_at 2 (some .int) (ws_ yX9_at cX9_at 2 (some .int)) (cj_rm (d - 1) 0 0) 0 0 1 := va_cwA 1 hts (lw_U hlink q591 q592 q593 q133 q594) rfl rfl rfl (hK.2.2.2.2.2.1 _ (List.mem_of_getElem? (i := 7) rfl)) ⟨by decide, by decide, by decide +kernel⟩ ⟨by show d - 1 + 1 + 1 ≤ d + 1; omega, by show 8 + (2 + 11) + (12000 + 64 * (d - 1 + 1)) ≤ (12000 + 64 * (d + 1)); omega⟩
    exact va_runU (As := [.int x1]) (rest := rest) ⟨hx, hb, hml, hown, hts⟩ (hM (d - 1) (Nat.zero_le _)) hcw (cj_preV hcx0 hW hS 6 hT (by decide) rfl [.int x1]) rfl rfl hsz hst (lv_room hroom) hdg ⟨hc1, hs1⟩
  · have hcw : va_CU (cj_rm d mc ms) s args y.cls RX10 "LeapJoin$Row" index (⟨"LeapJoin$Row", "at", "(I)I"⟩ : MethodName) yX10_at cX10_at 2 (some .int) (ws_ yX10_at cX10_at 2 (some .int)) (cj_rm (d - 1) 0 0) 0 0 1 := va_cwA 1 hts (lw_U hlink q591 q598 q599 q134 q600) rfl rfl rfl (hK.2.2.2.2.2.1 _ (List.mem_of_getElem? (i := 7) rfl)) ⟨by decide, by decide, by decide +kernel⟩ ⟨by show d - 1 + 1 + 1 ≤ d + 1; omega, by show 8 + (2 + 11) + (12000 + 64 * (d - 1 + 1)) ≤ (12000 + 64 * (d + 1)); omega⟩
    exact va_runU (As := [.int x1]) (rest := rest) ⟨hx, hb, hml, hown, hts⟩ (hM (d - 1) (Nat.zero_le _)) hcw (cj_preV hcx0 hW hS 7 hT (by decide) rfl [.int x1]) rfl rfl hsz hst (lv_room hroom) hdg ⟨hc1, hs1⟩
  · have hcw : va_CU (cj_rm d mc ms) s args y.cls RX11 "LeapJoin$Row" index (⟨"LeapJoin$Row", "at", "(I)I"⟩ : MethodName) yX11_at cX11_at 2 (some .int) (ws_ yX11_at cX11_at 2 (some .int)) (cj_rm (d - 1) 0 0) 0 0 1 := va_cwA 1 hts (lw_U hlink q591 q595 q596 q135 q597) rfl rfl rfl (hK.2.2.2.2.2.1 _ (List.mem_of_getElem? (i := 7) rfl)) ⟨by decide, by decide, by decide +kernel⟩ ⟨by show d - 1 + 1 + 1 ≤ d + 1; omega, by show 8 + (2 + 11) + (12000 + 64 * (d - 1 + 1)) ≤ (12000 + 64 * (d + 1)); omega⟩
    exact va_runU (As := [.int x1]) (rest := rest) ⟨hx, hb, hml, hown, hts⟩ (hM (d - 1) (Nat.zero_le _)) hcw (cj_preV hcx0 hW hS 8 hT (by decide) rfl [.int x1]) rfl rfl hsz hst (lv_room hroom) hdg ⟨hc1, hs1⟩
theorem cj_runAgainst {mc ms cu su index : Nat} {x1 : Option Nat} {P : Int32 → cj_S → Prop} (hcx : cj_cx E y bytes maxL ret p s m args meth c) (hW : cj_W E σ H) (hS : va_S (cj_P E) s.heap H locs) (ht : cj_ro (cj_T σ a)) (h : cs_Rw_against E σ a x1 P) (hkd : 1 + 1 ≤ d) (hlink : Cond.methodLink y.cls index yX8_against ∈ lw_all) {st0 : List Value} (hst : st0 = ([va_rf x1] : List Value).reverse ++ .ref a :: rest) (hroom : (rest.map fun v => v.category).sum ≤ 8) (hsz : ls.size = maxL) (hc1 : cu + 0 ≤ mc) (hs1 : su + 0 ≤ ms) (hdg : decode bytes pc = .ok (.invokevirtual index, 3)) : va_Run p (cj_l E) e (cj_rm d mc ms) s m args below meth c H locs cu su 0 0 (F0 m pc ls st0) rest (cj_Qi E P (.ref a :: [va_rf x1] : List Value).toArray) (cj_P E) := by
  have hcx0 := hcx
  obtain ⟨hx, hb, -, -, hml, hown, hts, hK, hA, hnm0, hz⟩ := hcx
  have hM := h (d - 1) (by omega)
  rcases ht with hT | hT | hT
  · have hcw : va_CU (cj_rm d mc ms) s args y.cls RX9 "LeapJoin$Row" index yX8_against yX8_against cX8_against 3 (some .int) (ws_ yX8_against cX8_against 3 (some .int)) (cj_rm (d - 1) 0 0) 0 0 1 := va_cwU 1 hts (lw_U hlink q572 q573 q571 q132 q576) rfl rfl rfl rfl ⟨by decide, by decide, by decide +kernel⟩ ⟨by show d - 1 + 1 + 1 ≤ d + 1; omega, by show 8 + (3 + 11) + (12000 + 64 * (d - 1 + 1)) ≤ (12000 + 64 * (d + 1)); omega⟩
    exact va_runU (As := [va_rf x1]) (rest := rest) ⟨hx, hb, hml, hown, hts⟩ hM hcw (cj_preV hcx0 hW hS 6 hT (by decide) rfl [va_rf x1]) rfl rfl hsz hst (lv_room hroom) hdg ⟨hc1, hs1⟩
  · have hcw : va_CU (cj_rm d mc ms) s args y.cls RX10 "LeapJoin$Row" index yX8_against yX8_against cX8_against 3 (some .int) (ws_ yX8_against cX8_against 3 (some .int)) (cj_rm (d - 1) 0 0) 0 0 1 := va_cwU 1 hts (lw_U hlink q572 q575 q571 q132 q576) rfl rfl rfl rfl ⟨by decide, by decide, by decide +kernel⟩ ⟨by show d - 1 + 1 + 1 ≤ d + 1; omega, by show 8 + (3 + 11) + (12000 + 64 * (d - 1 + 1)) ≤ (12000 + 64 * (d + 1)); omega⟩
    exact va_runU (As := [va_rf x1]) (rest := rest) ⟨hx, hb, hml, hown, hts⟩ hM hcw (cj_preV hcx0 hW hS 7 hT (by decide) rfl [va_rf x1]) rfl rfl hsz hst (lv_room hroom) hdg ⟨hc1, hs1⟩
  · have hcw : va_CU (cj_rm d mc ms) s args y.cls RX11 "LeapJoin$Row" index yX8_against yX8_against cX8_against 3 (some .int) (ws_ yX8_against cX8_against 3 (some .int)) (cj_rm (d - 1) 0 0) 0 0 1 := va_cwU 1 hts (lw_U hlink q572 q574 q571 q132 q576) rfl rfl rfl rfl ⟨by decide, by decide, by decide +kernel⟩ ⟨by show d - 1 + 1 + 1 ≤ d + 1; omega, by show 8 + (3 + 11) + (12000 + 64 * (d - 1 + 1)) ≤ (12000 + 64 * (d + 1)); omega⟩
    exact va_runU (As := [va_rf x1]) (rest := rest) ⟨hx, hb, hml, hown, hts⟩ hM hcw (cj_preV hcx0 hW hS 8 hT (by decide) rfl [va_rf x1]) rfl rfl hsz hst (lv_room hroom) hdg ⟨hc1, hs1⟩
theorem cj_castI (hcx : cj_cx E y bytes maxL ret p s m args meth c) (hW : cj_W E σ H) (hT : cj_T σ a = 21) {index : Nat} (hlink : Cond.classLink y.cls index "[I" ∈ lw_all) (hdg : decode bytes pc = .ok (.checkcast index, 3))
    (kk : W p l e R s m args below meth c H locs cells slots Q (F0 m (pc + 3) ls (.ref a :: rest))) : W p l e R s m args below meth c H locs cells slots Q (F0 m pc ls (.ref a :: rest)) := by
  have hW0 := hW
  have hcx0 := hcx
  obtain ⟨hx, hb, -, -, hml, hown, hts, hK, hA, hnm0, hz⟩ := hcx
  obtain ⟨ws, hP, hD, hl, hr⟩ := cj_list hW
  obtain ⟨q0, hq⟩ := hl a (by omega)
  rw [cj_ei hT (by decide) (by decide)] at hq
  exact va_castA hx hb hown (hts _ hlink) hP q0 hq (va_nm_int (hK.1.2 1 _ rfl).2) hdg kk
theorem cj_cloneI (hcx : cj_cx E y bytes maxL ret p s m args meth c) (hW : cj_W E σ H) (hS : va_S (cj_P E) s.heap H locs) (hsz : ls.size = maxL) (hT : cj_T σ a = 21) {lim : Nat} (hN : cj_N σ a ≤ lim) {index : Nat} (hlink : Cond.methodLink y.cls index ⟨"[I", "clone", "()Ljava/lang/Object;"⟩ ∈ lw_all) (hcells : cells + 1 ≤ R.cells) (hslots : slots + lim ≤ R.slots) (hframes : 1 ≤ R.frames) (hlocals : (rest.map fun v => v.category).sum + 14 ≤ R.locals) (hdg : decode bytes pc = .ok (.invokevirtual index, 3))
    (kk : ∀ (q : Nat) (H1 : Heap), cj_T σ q = 0 → cj_W E (cj_mk σ q 21 (cj_N σ a) (cj_A σ a) (cj_B σ a)) H1 → va_S (cj_P E) s.heap H1 locs → W p l e R s m args below meth c H1 locs (cells + 1) (slots + lim) Q (F0 m (pc + 3) ls (.ref q :: rest))) : W p l e R s m args below meth c H locs cells slots Q (F0 m pc ls (.ref a :: rest)) := by
  have hW0 := hW
  have hcx0 := hcx
  obtain ⟨hx, hb, -, -, hml, hown, hts, hK, hA, hnm0, hz⟩ := hcx
  obtain ⟨ws, hP, hD, hl, hr⟩ := cj_list hW
  obtain ⟨q0, hq⟩ := hl a (by omega)
  rw [cj_ei hT (by decide) (by decide)] at hq
  refine va_clone hx hb (by rw [hml, hsz]) hown (hts _ hlink) (hts _ q558) (hts _ q478) (hts _ q479) (hts _ q559) (hK.2.2.2.1 _ (List.mem_of_getElem? (i := 21) rfl)) hK.1 hP hD hS hA q0 1 hq rfl (va_nm_int (hK.1.2 1 _ rfl).2) (va_fit (fun i _ => rfl)) hframes hlocals hcells (Nat.le_trans (Nat.add_le_add_left hN _) hslots) hdg fun q H1 hK1 hP1 hD1 hS1 => ?_
  obtain ⟨h1, h2⟩ := cj_made (σ1 := cj_mk σ q 21 (cj_N σ a) (cj_A σ a) (cj_B σ a)) hl hP1 hD1 (cj_hb hz hW0 hS hS1) (fun b hb => by simp [cj_T, cj_mk, hb]) (by rw [cj_ei (cj_T_mk _ _ _ _ _ _) (by decide) (by decide), cj_N_mk, cj_A_mk]) (fun b hb => cj_e_mk hb)
  exact W.widen (Nat.le_refl _) (Nat.add_le_add_left hN _) (kk q H1 h1 h2 hS1)
end CJ
