/-! THE JDK's small methods, over any heap; printed by jdk.py -/
set_option maxRecDepth 100000
theorem jd_conseq {l : Launch} {y : MethodName} {ws : List Cond} {rm : Room} {P P' : Array Value → State → Prop} {Q Q' : Array Value → State → Outcome → State → Prop} {mc ms : Nat} {free free' : Addr → Prop} (h : Met l y ws rm P Q mc ms free) (hP : ∀ a s, P' a s → P a s) (hQ : ∀ (a : Array Value) (s : State) (o : Outcome) (t : State), P' a s → s.WarmedH t.vm → Q a s o t → Q' a s o t) (hf : ∀ q, free q → free' q) : Met l y ws rm P' Q' mc ms free' := by
  intro p e h1 h2 h3 s m args below h4 h5 hp hk
  obtain ⟨n, o, a1, a2, a3, a4, L, a5, a6⟩ := h p e h1 h2 h3 s m args below h4 h5 (hP _ _ hp) hk
  exact ⟨n, o, a1, a2, a3, hQ _ _ _ _ hp a5.2.1 a4, L, a5, fun q hq => hf _ (a6 q hq)⟩
section JD
variable {p : Program} {l : Launch} {e : Env} {R : Room} {s : State} {m : MethodId} {args : Array Value} {below : List Frame} {meth : Method} {c : Code} {H : Heap} {locs : List Loc} {cells slots : Nat} {Q : State → Prop} {pc : Nat} {ls : Array Slot} {rest : List Value}
theorem jd_ci {post : Int32 → Prop} {a : Array Value} {st0 : List Value} (hr : va_Run p l e R s m args below meth c H locs cells slots 0 0 (F0 m pc ls st0) rest (vp_Si post a) (fun _ => False)) (kk : ∀ r, post r → W p l e R s m args below meth c H locs cells slots Q (F0 m (pc + 3) ls (.int r :: rest))) : W p l e R s m args below meth c H locs cells slots Q (F0 m pc ls st0) := by
  intro T hT X
  obtain ⟨v, st₀, t, T', L, h0, X', hL, e1, e2, ⟨r, hv, hp, hh⟩, st⟩ := hr T hT X
  cases hv
  have hL0 : L = [] := by
    cases L with
    | nil => rfl
    | cons x xs => exact (hL x List.mem_cons_self).elim
  subst hL0
  rw [List.append_nil] at X'
  obtain ⟨t2, a1, b1⟩ := kk r hp T' (by rw [e1, hh, h0]) X'
  exact ⟨t2, st t2 a1, b1⟩
end JD
set_option maxHeartbeats 4000000 in
set_option maxRecDepth 100000 in
theorem jd_isNaNJ10 (l : Launch) (d : Nat) (b : UInt64) (hn : Op.cmpValue (FP.dcmp b b) .l = 0) : Met l yJ10_isNaN (ws_ yJ10_isNaN cJ10_isNaN 2 (some .boolean)) (cj_rm d 0 0) (va_Pc [.double b] (fun _ => True)) (vp_Si (fun r => r = 0)) 0 0 (fun _ => False) := by
  refine va_MetF (cc := cJ10_isNaN) (maxL := 2) (ret := some .boolean) (by decide +kernel) rfl ?_
  intro p e s m args below meth c s₁ B hml hv
  obtain ⟨rfl, -⟩ := hv
  have hx := B.exec
  have hb := B.bytes
  have hr := B.returns
  have hown := findClass_of_methodNamed B.named
  have hts := atoms_spec (ws := ws_ yJ10_isNaN cJ10_isNaN 2 (some .boolean)) B.pre
  have hts : ∀ w ∈ lw_all, w.before _ s = true := fun w h => hts w (List.mem_cons_of_mem _ h)
  have hl := lv_entry ([.double b]) (n := 2) (Nat.le_of_ble_eq_true rfl)
  rw [lg_entry_eq]
  generalize (lg_sl ([.double b]) ++ List.replicate (2 - (lg_sl ([.double b])).length) Slot.unset).toArray = ls at hl ⊢
  have hl : lv_has ls 2 [(0, .double b)] := hl
  refine lv_dload_n (pc := 0) hx hb dJ10_isNaN_0 rfl (lv_at hl 0 rfl) ?_
  refine lv_dload_n (pc := 1) hx hb dJ10_isNaN_1 rfl (lv_at hl 0 rfl) ?_
  refine lv_dcmp (pc := 2) hx hb dJ10_isNaN_2 ?_
  refine lv_if_eq (pc := 3) (tgt := 10) hx hb dJ10_isNaN_3 (by decide) (fun c => ?_) (fun c => absurd hn c)
  refine lv_iconst (pc := 10) (v := (0 : Int32)) hx hb dJ10_isNaN_10 (by decide) ?_
  exact W.zret (pc := 11) (v := 0) hx hb hr rfl (fun t ht _ => ⟨0, rfl, rfl, ht⟩) (fun _ h => by cases h) dJ10_isNaN_11 B.notSynchronized
set_option maxHeartbeats 4000000 in
set_option maxRecDepth 100000 in
theorem jd_doubleToLongBits (l : Launch) (d : Nat) (hd : 1 ≤ d) (b : UInt64) (hn : Op.cmpValue (FP.dcmp b b) .l = 0) : Met l yJ10_doubleToLongBits (ws_ yJ10_doubleToLongBits cJ10_doubleToLongBits 2 (some .long)) (cj_rm d 0 0) (va_Pc [.double b] (fun _ => True)) (vp_Sl (fun r => r = b.toInt64)) 0 0 (fun _ => False) := by
  refine va_MetF (cc := cJ10_doubleToLongBits) (maxL := 2) (ret := some .long) (by decide +kernel) rfl ?_
  intro p e s m args below meth c s₁ B hml hv
  obtain ⟨rfl, -⟩ := hv
  have hx := B.exec
  have hb := B.bytes
  have hr := B.returns
  have hown := findClass_of_methodNamed B.named
  have hts := atoms_spec (ws := ws_ yJ10_doubleToLongBits cJ10_doubleToLongBits 2 (some .long)) B.pre
  have hts : ∀ w ∈ lw_all, w.before _ s = true := fun w h => hts w (List.mem_cons_of_mem _ h)
  have hl := lv_entry ([.double b]) (n := 2) (Nat.le_of_ble_eq_true rfl)
  rw [lg_entry_eq]
  generalize (lg_sl ([.double b]) ++ List.replicate (2 - (lg_sl ([.double b])).length) Slot.unset).toArray = ls at hl ⊢
  have hl : lv_has ls 2 [(0, .double b)] := hl
  refine lv_dload_n (pc := 0) hx hb dJ10_doubleToLongBits_0 rfl (lv_at hl 0 rfl) ?_
  refine jd_ci (pc := 1) (va_runS (As := [.double b]) (rest := []) ⟨hx, hb, hml, hown, hts⟩ (jd_isNaNJ10 l (d - 1) b hn) (va_cwS 1 hts (lw_S q1109 q1110 q146 q1111) rfl rfl rfl ⟨by decide, by decide, by decide +kernel⟩ ⟨by show d - 1 + 1 + 1 ≤ d + 1; omega, by show 8 + (2 + 11) + (12000 + 64 * (d - 1 + 1)) ≤ (12000 + 64 * (d + 1)); omega⟩) ⟨fun a U g mk q => ⟨q.1, trivial⟩, fun U hU hW => ⟨rfl, trivial⟩⟩ rfl rfl hl.1 rfl (lv_room (Nat.le_of_ble_eq_true rfl)) dJ10_doubleToLongBits_1 ⟨Nat.le_refl 0, Nat.le_refl 0⟩) (fun r hr0 => ?_)
  subst hr0
  refine lv_if_ne (pc := 4) (tgt := 12) hx hb dJ10_doubleToLongBits_4 (by decide) (fun c => absurd rfl c) (fun c => ?_)
  refine lv_dload_n (pc := 7) hx hb dJ10_doubleToLongBits_7 rfl (lv_at hl 0 rfl) ?_
  refine vn_d2l (pc := 8) hx hb (by rw [hml, hl.1]) hown (hts _ q1112) (hts _ q1114) (hts _ q1113) (hts _ q146) (by show 1 ≤ d + 1; omega) (by show 0 + 15 ≤ (12000 + 64 * (d + 1)); omega) dJ10_doubleToLongBits_8 ?_
  exact W.lret (pc := 11) hx hb hr (fun t ht _ => ⟨_, rfl, rfl, ht⟩) (fun _ h => by cases h) dJ10_doubleToLongBits_11 B.notSynchronized
set_option maxHeartbeats 4000000 in
set_option maxRecDepth 100000 in
theorem jd_isNaNJ11 (l : Launch) (d : Nat) (b : UInt32) (hn : Op.cmpValue (FP.fcmp b b) .l = 0) : Met l yJ11_isNaN (ws_ yJ11_isNaN cJ11_isNaN 1 (some .boolean)) (cj_rm d 0 0) (va_Pc [.float b] (fun _ => True)) (vp_Si (fun r => r = 0)) 0 0 (fun _ => False) := by
  refine va_MetF (cc := cJ11_isNaN) (maxL := 1) (ret := some .boolean) (by decide +kernel) rfl ?_
  intro p e s m args below meth c s₁ B hml hv
  obtain ⟨rfl, -⟩ := hv
  have hx := B.exec
  have hb := B.bytes
  have hr := B.returns
  have hown := findClass_of_methodNamed B.named
  have hts := atoms_spec (ws := ws_ yJ11_isNaN cJ11_isNaN 1 (some .boolean)) B.pre
  have hts : ∀ w ∈ lw_all, w.before _ s = true := fun w h => hts w (List.mem_cons_of_mem _ h)
  have hl := lv_entry ([.float b]) (n := 1) (Nat.le_of_ble_eq_true rfl)
  rw [lg_entry_eq]
  generalize (lg_sl ([.float b]) ++ List.replicate (1 - (lg_sl ([.float b])).length) Slot.unset).toArray = ls at hl ⊢
  have hl : lv_has ls 1 [(0, .float b)] := hl
  refine lv_fload_n (pc := 0) hx hb dJ11_isNaN_0 rfl (lv_at hl 0 rfl) ?_
  refine lv_fload_n (pc := 1) hx hb dJ11_isNaN_1 rfl (lv_at hl 0 rfl) ?_
  refine lv_fcmp (pc := 2) hx hb dJ11_isNaN_2 ?_
  refine lv_if_eq (pc := 3) (tgt := 10) hx hb dJ11_isNaN_3 (by decide) (fun c => ?_) (fun c => absurd hn c)
  refine lv_iconst (pc := 10) (v := (0 : Int32)) hx hb dJ11_isNaN_10 (by decide) ?_
  exact W.zret (pc := 11) (v := 0) hx hb hr rfl (fun t ht _ => ⟨0, rfl, rfl, ht⟩) (fun _ h => by cases h) dJ11_isNaN_11 B.notSynchronized
set_option maxHeartbeats 4000000 in
set_option maxRecDepth 100000 in
theorem jd_floatToIntBits (l : Launch) (d : Nat) (hd : 1 ≤ d) (b : UInt32) (hn : Op.cmpValue (FP.fcmp b b) .l = 0) : Met l yJ11_floatToIntBits (ws_ yJ11_floatToIntBits cJ11_floatToIntBits 1 (some .int)) (cj_rm d 0 0) (va_Pc [.float b] (fun _ => True)) (vp_Si (fun r => r = b.toInt32)) 0 0 (fun _ => False) := by
  refine va_MetF (cc := cJ11_floatToIntBits) (maxL := 1) (ret := some .int) (by decide +kernel) rfl ?_
  intro p e s m args below meth c s₁ B hml hv
  obtain ⟨rfl, -⟩ := hv
  have hx := B.exec
  have hb := B.bytes
  have hr := B.returns
  have hown := findClass_of_methodNamed B.named
  have hts := atoms_spec (ws := ws_ yJ11_floatToIntBits cJ11_floatToIntBits 1 (some .int)) B.pre
  have hts : ∀ w ∈ lw_all, w.before _ s = true := fun w h => hts w (List.mem_cons_of_mem _ h)
  have hl := lv_entry ([.float b]) (n := 1) (Nat.le_of_ble_eq_true rfl)
  rw [lg_entry_eq]
  generalize (lg_sl ([.float b]) ++ List.replicate (1 - (lg_sl ([.float b])).length) Slot.unset).toArray = ls at hl ⊢
  have hl : lv_has ls 1 [(0, .float b)] := hl
  refine lv_fload_n (pc := 0) hx hb dJ11_floatToIntBits_0 rfl (lv_at hl 0 rfl) ?_
  refine jd_ci (pc := 1) (va_runS (As := [.float b]) (rest := []) ⟨hx, hb, hml, hown, hts⟩ (jd_isNaNJ11 l (d - 1) b hn) (va_cwS 1 hts (lw_S q1124 q1125 q147 q1126) rfl rfl rfl ⟨by decide, by decide, by decide +kernel⟩ ⟨by show d - 1 + 1 + 1 ≤ d + 1; omega, by show 8 + (1 + 11) + (12000 + 64 * (d - 1 + 1)) ≤ (12000 + 64 * (d + 1)); omega⟩) ⟨fun a U g mk q => ⟨q.1, trivial⟩, fun U hU hW => ⟨rfl, trivial⟩⟩ rfl rfl hl.1 rfl (lv_room (Nat.le_of_ble_eq_true rfl)) dJ11_floatToIntBits_1 ⟨Nat.le_refl 0, Nat.le_refl 0⟩) (fun r hr0 => ?_)
  subst hr0
  refine lv_if_ne (pc := 4) (tgt := 12) hx hb dJ11_floatToIntBits_4 (by decide) (fun c => absurd rfl c) (fun c => ?_)
  refine lv_fload_n (pc := 7) hx hb dJ11_floatToIntBits_7 rfl (lv_at hl 0 rfl) ?_
  refine vn_f2i (pc := 8) hx hb (by rw [hml, hl.1]) hown (hts _ q1127) (hts _ q1129) (hts _ q1128) (hts _ q147) (by show 1 ≤ d + 1; omega) (by show 0 + 15 ≤ (12000 + 64 * (d + 1)); omega) dJ11_floatToIntBits_8 ?_
  exact W.iret (pc := 11) hx hb hr (fun t ht _ => ⟨_, rfl, rfl, ht⟩) (fun _ h => by cases h) dJ11_floatToIntBits_11 B.notSynchronized
def jd_b1 (x : Int32) : Int32 := x - ((x.toUInt32 >>> ((1 : Int32).toUInt32 &&& Int32.toUInt32 31)).toInt32 &&& (1431655765 : Int32))
def jd_b2 (x : Int32) : Int32 := (x &&& (858993459 : Int32)) + ((x.toUInt32 >>> ((2 : Int32).toUInt32 &&& Int32.toUInt32 31)).toInt32 &&& (858993459 : Int32))
def jd_b3 (x : Int32) : Int32 := (x + (x.toUInt32 >>> ((4 : Int32).toUInt32 &&& Int32.toUInt32 31)).toInt32) &&& (252645135 : Int32)
def jd_b4 (x : Int32) : Int32 := x + (x.toUInt32 >>> ((8 : Int32).toUInt32 &&& Int32.toUInt32 31)).toInt32
def jd_b5 (x : Int32) : Int32 := x + (x.toUInt32 >>> ((16 : Int32).toUInt32 &&& Int32.toUInt32 31)).toInt32
def jd_bits (x : Int32) : Int32 := jd_b5 (jd_b4 (jd_b3 (jd_b2 (jd_b1 x)))) &&& 63
set_option maxHeartbeats 4000000 in
set_option maxRecDepth 100000 in
theorem jd_bitCount (l : Launch) (d : Nat) (x : Int32) : Met l yJ13_bitCount (ws_ yJ13_bitCount cJ13_bitCount 1 (some .int)) (cj_rm d 0 0) (va_Pc [.int x] (fun _ => True)) (vp_Si (fun r => r = jd_bits x)) 0 0 (fun _ => False) := by
  refine va_MetF (cc := cJ13_bitCount) (maxL := 1) (ret := some .int) (by decide +kernel) rfl ?_
  intro p e s m args below meth c s₁ B hml hv
  obtain ⟨rfl, -⟩ := hv
  have hx := B.exec
  have hb := B.bytes
  have hr := B.returns
  have hown := findClass_of_methodNamed B.named
  have hts := atoms_spec (ws := ws_ yJ13_bitCount cJ13_bitCount 1 (some .int)) B.pre
  have hts : ∀ w ∈ lw_all, w.before _ s = true := fun w h => hts w (List.mem_cons_of_mem _ h)
  have hl := lv_entry ([.int x]) (n := 1) (Nat.le_of_ble_eq_true rfl)
  rw [lg_entry_eq]
  generalize (lg_sl ([.int x]) ++ List.replicate (1 - (lg_sl ([.int x])).length) Slot.unset).toArray = ls at hl ⊢
  have hl : lv_has ls 1 [(0, .int x)] := hl
  refine lv_iload_n (pc := 0) hx hb dJ13_bitCount_0 rfl (lv_at hl 0 rfl) ?_
  refine lv_iload_n (pc := 1) hx hb dJ13_bitCount_1 rfl (lv_at hl 0 rfl) ?_
  refine lv_iconst (pc := 2) (v := (1 : Int32)) hx hb dJ13_bitCount_2 (by decide) ?_
  refine lv_iushr (pc := 3) hx hb dJ13_bitCount_3 rfl ?_
  refine lv_ldcw (pc := 4) (v := (1431655765 : Int32)) hx hb hown (hts _ q1189) dJ13_bitCount_4 ?_
  refine lv_iand (pc := 7) hx hb dJ13_bitCount_7 ?_
  refine lv_isub (pc := 8) hx hb dJ13_bitCount_8 ?_
  refine lv_istore_n (pc := 9) (x := (jd_b1 x)) (lv' := [(0, .int (jd_b1 x))]) hx hb dJ13_bitCount_9 rfl hl (by decide) rfl (fun ls hl => ?_)
  refine lv_iload_n (pc := 10) hx hb dJ13_bitCount_10 rfl (lv_at hl 0 rfl) ?_
  refine lv_ldcw (pc := 11) (v := (858993459 : Int32)) hx hb hown (hts _ q1190) dJ13_bitCount_11 ?_
  refine lv_iand (pc := 14) hx hb dJ13_bitCount_14 ?_
  refine lv_iload_n (pc := 15) hx hb dJ13_bitCount_15 rfl (lv_at hl 0 rfl) ?_
  refine lv_iconst (pc := 16) (v := (2 : Int32)) hx hb dJ13_bitCount_16 (by decide) ?_
  refine lv_iushr (pc := 17) hx hb dJ13_bitCount_17 rfl ?_
  refine lv_ldcw (pc := 18) (v := (858993459 : Int32)) hx hb hown (hts _ q1190) dJ13_bitCount_18 ?_
  refine lv_iand (pc := 21) hx hb dJ13_bitCount_21 ?_
  refine lv_iadd (pc := 22) hx hb dJ13_bitCount_22 ?_
  refine lv_istore_n (pc := 23) (x := (jd_b2 (jd_b1 x))) (lv' := [(0, .int (jd_b2 (jd_b1 x)))]) hx hb dJ13_bitCount_23 rfl hl (by decide) rfl (fun ls hl => ?_)
  refine lv_iload_n (pc := 24) hx hb dJ13_bitCount_24 rfl (lv_at hl 0 rfl) ?_
  refine lv_iload_n (pc := 25) hx hb dJ13_bitCount_25 rfl (lv_at hl 0 rfl) ?_
  refine lv_iconst (pc := 26) (v := (4 : Int32)) hx hb dJ13_bitCount_26 (by decide) ?_
  refine lv_iushr (pc := 27) hx hb dJ13_bitCount_27 rfl ?_
  refine lv_iadd (pc := 28) hx hb dJ13_bitCount_28 ?_
  refine lv_ldcw (pc := 29) (v := (252645135 : Int32)) hx hb hown (hts _ q1191) dJ13_bitCount_29 ?_
  refine lv_iand (pc := 32) hx hb dJ13_bitCount_32 ?_
  refine lv_istore_n (pc := 33) (x := (jd_b3 (jd_b2 (jd_b1 x)))) (lv' := [(0, .int (jd_b3 (jd_b2 (jd_b1 x))))]) hx hb dJ13_bitCount_33 rfl hl (by decide) rfl (fun ls hl => ?_)
  refine lv_iload_n (pc := 34) hx hb dJ13_bitCount_34 rfl (lv_at hl 0 rfl) ?_
  refine lv_iload_n (pc := 35) hx hb dJ13_bitCount_35 rfl (lv_at hl 0 rfl) ?_
  refine lv_bipush (pc := 36) (v := (8 : Int32)) hx hb dJ13_bitCount_36 (by decide) ?_
  refine lv_iushr (pc := 38) hx hb dJ13_bitCount_38 rfl ?_
  refine lv_iadd (pc := 39) hx hb dJ13_bitCount_39 ?_
  refine lv_istore_n (pc := 40) (x := (jd_b4 (jd_b3 (jd_b2 (jd_b1 x))))) (lv' := [(0, .int (jd_b4 (jd_b3 (jd_b2 (jd_b1 x)))))]) hx hb dJ13_bitCount_40 rfl hl (by decide) rfl (fun ls hl => ?_)
  refine lv_iload_n (pc := 41) hx hb dJ13_bitCount_41 rfl (lv_at hl 0 rfl) ?_
  refine lv_iload_n (pc := 42) hx hb dJ13_bitCount_42 rfl (lv_at hl 0 rfl) ?_
  refine lv_bipush (pc := 43) (v := (16 : Int32)) hx hb dJ13_bitCount_43 (by decide) ?_
  refine lv_iushr (pc := 45) hx hb dJ13_bitCount_45 rfl ?_
  refine lv_iadd (pc := 46) hx hb dJ13_bitCount_46 ?_
  refine lv_istore_n (pc := 47) (x := (jd_b5 (jd_b4 (jd_b3 (jd_b2 (jd_b1 x)))))) (lv' := [(0, .int (jd_b5 (jd_b4 (jd_b3 (jd_b2 (jd_b1 x))))))]) hx hb dJ13_bitCount_47 rfl hl (by decide) rfl (fun ls hl => ?_)
  refine lv_iload_n (pc := 48) hx hb dJ13_bitCount_48 rfl (lv_at hl 0 rfl) ?_
  refine lv_bipush (pc := 49) (v := (63 : Int32)) hx hb dJ13_bitCount_49 (by decide) ?_
  refine lv_iand (pc := 51) hx hb dJ13_bitCount_51 ?_
  exact W.iret (pc := 52) (v := jd_bits x) hx hb hr (fun t ht _ => ⟨_, rfl, rfl, ht⟩) (fun _ h => by cases h) dJ13_bitCount_52 B.notSynchronized
