/-! THE SYSTEM'S LAYER: methods that throw a LeapJoin$Wrong (X: what holds of the thrown cell and the store) -/
set_option maxRecDepth 100000
def cj_XC (E : cj_E) (X : Nat → cj_S → Prop) : Nat → String → State → State → Prop := vx_X (S := cj_S) (fun _ => True) (fun q C σ t => C = "LeapJoin$Wrong" ∧ X q σ ∧ cj_W E σ t.heap) (cj_P E)
def cj_Gx (E : cj_E) (k mc ms : Nat) (y : MethodName) (bytes : ByteArray) (maxL : Nat) (ret : Option FieldType) (Q : Array Value → State → Outcome → State → Prop) (X : Nat → cj_S → Prop) (pc : Nat) (lv : List (Nat × Value)) (st : List Value) (σ : cj_S) (cu su : Nat) : Prop :=
  ∀ (d : Nat), k ≤ d → ∀ (p : Program) (e : Env) (s : State) (m : MethodId) (args : Array Value) (below : List Frame) (meth : Method) (c : Code), cj_cx E y bytes maxL ret p s m args meth c → (∀ x ∈ c.exceptionTable.toList, False) → ∀ (H : Heap) (locs : List Loc) (ls : Array Slot), cj_W E σ H → va_S (cj_P E) s.heap H locs → lv_has ls maxL lv → W p (cj_l E) e (cj_rm d mc ms) s m args below meth c H locs cu su (vx_MQ below Q (cj_XC E X) args s mc ms (cj_P E)) (F0 m pc ls st)
def cj_Mx (E : cj_E) (k mc ms : Nat) (y : MethodName) (bytes : ByteArray) (maxL : Nat) (ret : Option FieldType) (av : List Value) (σ : cj_S) (Q : Array Value → State → Outcome → State → Prop) (X : Nat → cj_S → Prop) : Prop :=
  ∀ d : Nat, k ≤ d → vx_Met (cj_l E) y (ws_ y bytes maxL ret) (cj_rm d mc ms) (va_Pc av (cj_Pc E σ)) Q (cj_XC E X) mc ms (cj_P E)
theorem cj_enterx {E : cj_E} {k mc ms : Nat} {y : MethodName} {bytes : ByteArray} {maxL : Nat} {ret : Option FieldType} {av : List Value} {σ : cj_S} {Q : Array Value → State → Outcome → State → Prop} {X : Nat → cj_S → Prop} (hy : plainName y.cls = true) (hn : (lg_sl av).length ≤ maxL) {lv : List (Nat × Value)} (hlv : lv_args 0 av = lv) (h : cj_Gx E k mc ms y bytes maxL ret Q X 0 lv [] σ 0 0) : cj_Mx E k mc ms y bytes maxL ret av σ Q X := by
  intro d hd
  refine vx_ofW (cc := bytes) (maxL := maxL) (ret := ret) hy rfl ?_
  intro p e s m args below meth c s₁ B hml hex hv
  obtain ⟨rfl, hW, hK, hA⟩ := hv
  have hts := atoms_spec (ws := ws_ y bytes maxL ret) B.pre
  have hl := lv_entry av (n := maxL) hn
  rw [hlv] at hl
  rw [lg_entry_eq]
  exact h d hd p e s m av.toArray below meth c ⟨B.exec, B.bytes, B.returns, B.notSynchronized, hml, findClass_of_methodNamed B.named, fun w hw => hts w (List.mem_cons_of_mem _ hw), hK, hA, (name_of_methodNamed B.named B.method).1, hW.2.1⟩ hex s.heap [] _ hW va_S.rf hl
section CJ
variable {E : cj_E} {y : MethodName} {bytes : ByteArray} {maxL : Nat} {ret : Option FieldType} {p : Program} {e : Env} {s : State} {m : MethodId} {args : Array Value} {below : List Frame} {meth : Method} {c : Code} {H : Heap} {locs : List Loc} {Q : State → Prop} {d : Nat} {pc : Nat} {ls : Array Slot} {rest : List Value} {σ : cj_S} {l : Launch} {R : Room} {cells slots : Nat} {a : Nat} {X : Nat → cj_S → Prop} {Qc : Array Value → State → Outcome → State → Prop}
theorem cj_out {mc ms cu su : Nat} {q : Nat} (hcx : cj_cx E y bytes maxL ret p s m args meth c) (hex : ∀ x ∈ c.exceptionTable.toList, False) (hW : cj_W E σ H) (hS : va_S (cj_P E) s.heap H locs) (hT : cj_T σ q = 5) (hX : X q σ) (hc : cu ≤ mc) (hs : su ≤ ms) : vx_W p (cj_l E) e (cj_rm d mc ms) s m args below meth c H locs cu su (vx_MQ below Qc (cj_XC E X) args s mc ms (cj_P E)) (F0 m pc ls rest) q := by
  have hW0 := hW
  obtain ⟨hx, hb, -, hlk, hml, hown, hts, hK, hA, hnm0, hz⟩ := hcx
  obtain ⟨ws, hP, hD, hl, hr⟩ := cj_list hW
  obtain ⟨q0, hq⟩ := hl q (by omega)
  rw [cj_eo (ci := 4) hT (by decide)] at hq
  obtain ⟨r, h1, cell, g1, g2, g3, -⟩ := hP q0 _ hq
  have hcls := (hK.1.1 4 (RX6, TX6, 7) rfl).2
  exact vx_out (E := "LeapJoin$Wrong") (ce := cell) (fun x hx => (hex x hx).elim) hlk g1 g3 (by rw [g2]; exact hcls.1) (fun t ht hal => ⟨σ, trivial, ⟨rfl, hX, by rw [ht]; exact hW0⟩, hS.F ht⟩) hS.2.2 hc hs
theorem cj_athrow {mc ms cu su : Nat} {q : Nat} (hcx : cj_cx E y bytes maxL ret p s m args meth c) (hex : ∀ x ∈ c.exceptionTable.toList, False) (hW : cj_W E σ H) (hS : va_S (cj_P E) s.heap H locs) (hT : cj_T σ q = 5) (hX : X q σ) (hc : cu ≤ mc) (hs : su ≤ ms) (hdg : decode bytes pc = .ok (.athrow, 1)) : W p (cj_l E) e (cj_rm d mc ms) s m args below meth c H locs cu su (vx_MQ below Qc (cj_XC E X) args s mc ms (cj_P E)) (F0 m pc ls (.ref q :: rest)) :=
  vx_athrow hcx.1 hcx.2.1 hdg (cj_out hcx hex hW hS hT hX hc hs)
theorem cj_runVx {mc ms mc' ms' cu su : Nat} {Q0 : Array Value → State → Outcome → State → Prop} (hcx : cj_cx E y bytes maxL ret p s m args meth c) (hW : cj_W E σ H) (hS : va_S (cj_P E) s.heap H locs) {k n L index : Nat} {y2 : MethodName} {b : ByteArray} {r : Option FieldType} (ci : Nat) (hT : cj_T σ a = ci + 1) (h19 : ci < 19) {C : String} {T : u_T} {N : Nat} (hc : cj_cl[ci]? = some (C, T, N)) (As : List Value) (hM : cj_Mx E k mc' ms' y2 b L r (.ref a :: As) σ Q0 X) (hkd : k + 1 ≤ d) (hG : GoodIn lw_all (wsV y.cls index C y2 (ws_ y2 b L r))) (hd0 : y2.cls = C) (hd : y2.cls ≠ "java/lang/invoke/MethodHandle" ∧ y2.cls ≠ "java/lang/invoke/VarHandle" ∧ (parseMethodDescriptor y2.desc).map (fun d => d.parameters.length) = some n) (hL : L ≤ 45) (hn : As.length = n) {st0 : List Value} (hst : st0 = As.reverse ++ .ref a :: rest) (hroom : (rest.map fun v => v.category).sum ≤ 8) (hsz : ls.size = maxL) (hc1 : cu + mc' ≤ mc) (hs1 : su + ms' ≤ ms) (hdg : decode bytes pc = .ok (.invokevirtual index, 3)) : vx_Run p (cj_l E) e (cj_rm d mc ms) s m args below meth c H locs cu su mc' ms' (F0 m pc ls st0) rest (Q0 (.ref a :: As).toArray) (cj_XC E X) (cj_P E) := by
  have hcx0 := hcx
  obtain ⟨hx, hb, -, -, hml, hown, hts, hK, hA, hnm0, hz⟩ := hcx
  have hd1 : k ≤ d - 1 := by omega
  have hcw : CallW (cj_rm d mc ms) s args y.cls C index y2 b L r (ws_ y2 b L r) (cj_rm (d - 1) mc' ms') mc' ms' n := cwV n hts hG rfl rfl rfl ⟨hd0, hd⟩ ⟨by show d - 1 + 1 + 1 ≤ d + 1; omega, by show 8 + (L + 11) + (12000 + 64 * (d - 1 + 1)) ≤ (12000 + 64 * (d + 1)); omega⟩
  exact vx_runV (As := As) (rest := rest) ⟨hx, hb, hml, hown, hts⟩ (hM (d - 1) hd1) hcw (cj_preV hcx0 hW hS ci hT h19 hc As) rfl hn hsz hst (lv_room hroom) hdg ⟨hc1, hs1⟩
theorem cj_yi {mc ms mc' ms' cu su : Nat} {P : Int32 → cj_S → Prop} {a : Array Value} {st0 : List Value} (hcx : cj_cx E y bytes maxL ret p s m args meth c) (hex : ∀ x ∈ c.exceptionTable.toList, False) (hc : cu + mc' ≤ mc) (hs : su + ms' ≤ ms) (hr : vx_Run p (cj_l E) e (cj_rm d mc ms) s m args below meth c H locs cu su mc' ms' (F0 m pc ls st0) rest (cj_Qi E P a) (cj_XC E X) (cj_P E)) (hS : va_S (cj_P E) s.heap H locs)
    (kk : ∀ (r : Int32) (σ1 : cj_S), P r σ1 → ∀ (H1 : Heap) (locs1 : List Loc), cj_W E σ1 H1 → va_S (cj_P E) s.heap H1 locs1 → W p (cj_l E) e (cj_rm d mc ms) s m args below meth c H1 locs1 (cu + mc') (su + ms') (vx_MQ below Qc (cj_XC E X) args s mc ms (cj_P E)) (F0 m (pc + 3) ls (.int r :: rest))) : W p (cj_l E) e (cj_rm d mc ms) s m args below meth c H locs cu su (vx_MQ below Qc (cj_XC E X) args s mc ms (cj_P E)) (F0 m pc ls st0) :=
  vx_calli hr hS (fun _ _ h => h) (fun _ h => h) (fun _ _ h => h) (fun Ec ce q9 u t H1 locs1 ht hal _ hB _ _ hS1 hcell hv hcl => by
    obtain ⟨rfl, hX, hW1⟩ := hB
    exact vx_out (E := "LeapJoin$Wrong") (ce := ce) (fun x hx => (hex x hx).elim) hcx.2.2.2.1 hcell hv hcl (fun t2 ht2 hal2 => ⟨u, trivial, ⟨rfl, hX, by rw [ht2, ← ht]; exact hW1⟩, hS1.F ht2⟩) hS1.2.2 hc hs) (fun r u t H1 locs1 ht _ hp hB _ _ hS => kk r u hp H1 locs1 (by rw [← ht]; exact hB) hS)
theorem cj_yq {mc ms mc' ms' cu su : Nat} {P : Option Nat → cj_S → Prop} {a : Array Value} {st0 : List Value} (hcx : cj_cx E y bytes maxL ret p s m args meth c) (hex : ∀ x ∈ c.exceptionTable.toList, False) (hc : cu + mc' ≤ mc) (hs : su + ms' ≤ ms) (hr : vx_Run p (cj_l E) e (cj_rm d mc ms) s m args below meth c H locs cu su mc' ms' (F0 m pc ls st0) rest (cj_Qq E P a) (cj_XC E X) (cj_P E)) (hS : va_S (cj_P E) s.heap H locs)
    (kk : ∀ (r : Option Nat) (σ1 : cj_S), P r σ1 → ∀ (H1 : Heap) (locs1 : List Loc), cj_W E σ1 H1 → va_S (cj_P E) s.heap H1 locs1 → W p (cj_l E) e (cj_rm d mc ms) s m args below meth c H1 locs1 (cu + mc') (su + ms') (vx_MQ below Qc (cj_XC E X) args s mc ms (cj_P E)) (F0 m (pc + 3) ls (va_rf r :: rest))) : W p (cj_l E) e (cj_rm d mc ms) s m args below meth c H locs cu su (vx_MQ below Qc (cj_XC E X) args s mc ms (cj_P E)) (F0 m pc ls st0) :=
  vx_callq hr hS (fun _ _ h => h) (fun _ h => h) (fun _ _ h => h) (fun Ec ce q9 u t H1 locs1 ht hal _ hB _ _ hS1 hcell hv hcl => by
    obtain ⟨rfl, hX, hW1⟩ := hB
    exact vx_out (E := "LeapJoin$Wrong") (ce := ce) (fun x hx => (hex x hx).elim) hcx.2.2.2.1 hcell hv hcl (fun t2 ht2 hal2 => ⟨u, trivial, ⟨rfl, hX, by rw [ht2, ← ht]; exact hW1⟩, hS1.F ht2⟩) hS1.2.2 hc hs) (fun r u t H1 locs1 ht _ hp hB _ _ hS => kk r u hp H1 locs1 (by rw [← ht]; exact hB) hS)
theorem cj_yv {mc ms mc' ms' cu su : Nat} {P : cj_S → Prop} {a : Array Value} {st0 : List Value} (hcx : cj_cx E y bytes maxL ret p s m args meth c) (hex : ∀ x ∈ c.exceptionTable.toList, False) (hc : cu + mc' ≤ mc) (hs : su + ms' ≤ ms) (hr : vx_Run p (cj_l E) e (cj_rm d mc ms) s m args below meth c H locs cu su mc' ms' (F0 m pc ls st0) rest (cj_Qv E P a) (cj_XC E X) (cj_P E)) (hS : va_S (cj_P E) s.heap H locs)
    (kk : ∀ (σ1 : cj_S), P σ1 → ∀ (H1 : Heap) (locs1 : List Loc), cj_W E σ1 H1 → va_S (cj_P E) s.heap H1 locs1 → W p (cj_l E) e (cj_rm d mc ms) s m args below meth c H1 locs1 (cu + mc') (su + ms') (vx_MQ below Qc (cj_XC E X) args s mc ms (cj_P E)) (F0 m (pc + 3) ls rest)) : W p (cj_l E) e (cj_rm d mc ms) s m args below meth c H locs cu su (vx_MQ below Qc (cj_XC E X) args s mc ms (cj_P E)) (F0 m pc ls st0) :=
  vx_callv hr hS (fun _ _ h => h) (fun _ h => h) (fun _ _ h => h) (fun Ec ce q9 u t H1 locs1 ht hal _ hB _ _ hS1 hcell hv hcl => by
    obtain ⟨rfl, hX, hW1⟩ := hB
    exact vx_out (E := "LeapJoin$Wrong") (ce := ce) (fun x hx => (hex x hx).elim) hcx.2.2.2.1 hcell hv hcl (fun t2 ht2 hal2 => ⟨u, trivial, ⟨rfl, hX, by rw [ht2, ← ht]; exact hW1⟩, hS1.F ht2⟩) hS1.2.2 hc hs) (fun u t H1 locs1 ht _ hp hB _ _ hS => kk u hp H1 locs1 (by rw [← ht]; exact hB) hS)
/-- getstatic of one of Throwable's two statics -/
theorem cj_gets (hcx : cj_cx E y bytes maxL ret p s m args meth c) (hW : cj_W E σ H) (hS : va_S (cj_P E) s.heap H locs) {n dd : String} (hZ : vx_Zq "java/lang/Throwable" n dd (cj_P E) s (cj_HB E)) {index : Nat} (hlink : Cond.fieldLink y.cls index "java/lang/Throwable" n dd ∈ lw_all) (hdg : decode bytes pc = .ok (.getstatic index, 3))
    (kk : ∀ r : Option Nat, W p l e R s m args below meth c H locs cells slots Q (F0 m (pc + 3) ls (va_rf r :: rest))) : W p l e R s m args below meth c H locs cells slots Q (F0 m pc ls rest) := by
  obtain ⟨hx, hb, -, hlk, hml, hown, hts, hK, hA, hnm0, hz⟩ := hcx
  have hk : ∀ a : Nat, a < (cj_HB E).size → ¬ cj_P E a → s.heap[a]? = (cj_HB E)[a]? := fun a h1 h2 => by rw [← hS.2.1 a (Nat.lt_of_lt_of_le h1 hz) h2]; exact hW.2.2 a h1 h2
  rcases (hZ.kept hk).1 with h | ⟨t, h⟩
  · exact va_gets hx hb h hS hown (hts _ hlink) (fun _ q => q) hdg (kk none)
  · exact va_gets hx hb h hS hown (hts _ hlink) (fun _ q => q) hdg (kk (some t))
theorem cj_enterW {k mc ms : Nat} {hh : List (Nat × Nat × Nat × Nat)} {av : List Value} {Q : Array Value → State → Outcome → State → Prop} (hy : plainName y.cls = true) (hn : (lg_sl av).length ≤ maxL) {lv : List (Nat × Value)} (hlv : lv_args 0 av = lv)
    (h : ∀ (d : Nat), k ≤ d → ∀ (p : Program) (e : Env) (s : State) (m : MethodId) (args : Array Value) (below : List Frame) (meth : Method) (c : Code), cj_cx E y bytes maxL ret p s m args meth c → c.exceptionTable.toList = tableOf hh → ∀ (H : Heap) (locs : List Loc) (ls : Array Slot), cj_W E σ H → va_S (cj_P E) s.heap H locs → lv_has ls maxL lv → W p (cj_l E) e (cj_rm d mc ms) s m args below meth c H locs 0 0 (MQ below Q args s mc ms (cj_P E)) (F0 m 0 ls [])) : cj_MW E k mc ms y bytes maxL ret hh av σ Q := by
  intro d hd
  refine va_MetW (cc := bytes) (maxL := maxL) (ret := ret) (hh := hh) hy rfl ?_
  intro p e s m args below meth c s₁ B hml hv
  obtain ⟨rfl, hW, hK, hA⟩ := hv
  have hts := atoms_spec (ws := wsW_ y bytes maxL ret hh) B.pre
  have hl := lv_entry av (n := maxL) hn
  rw [hlv] at hl
  rw [lg_entry_eq]
  exact h d hd p e s m av.toArray below meth c ⟨B.exec, B.bytes, B.returns, B.notSynchronized, hml, findClass_of_methodNamed B.named, fun w hw => hts w (List.mem_cons_of_mem _ hw), hK, hA, (name_of_methodNamed B.named B.method).1, hW.2.1⟩ (vx_table (x := y) B (hts _ List.mem_cons_self)) s.heap [] _ hW va_S.rf hl
theorem cj_zi {mc ms mc' ms' cu su : Nat} {P : Int32 → cj_S → Prop} {a : Array Value} {st0 : List Value} (hcx : cj_cx E y bytes maxL ret p s m args meth c) {x : ExceptionTableEntry} (hsplit : c.exceptionTable.toList = [x]) (hcov : covers x pc = true) (h0 : x.catchType ≠ 0) (hlink : Cond.classLink y.cls x.catchType "LeapJoin$Wrong" ∈ lw_all) (hcast : ("LeapJoin$Wrong", "LeapJoin$Wrong") ∈ cj_nC) (hr : vx_Run p (cj_l E) e (cj_rm d mc ms) s m args below meth c H locs cu su mc' ms' (F0 m pc ls st0) rest (cj_Qi E P a) (cj_XC E X) (cj_P E)) (hS : va_S (cj_P E) s.heap H locs)
    (kx : ∀ (q : Nat) (σ1 : cj_S), X q σ1 → ∀ (H1 : Heap) (locs1 : List Loc), cj_W E σ1 H1 → va_S (cj_P E) s.heap H1 locs1 → W p (cj_l E) e (cj_rm d mc ms) s m args below meth c H1 locs1 (cu + mc') (su + ms') Q (F0 m x.handlerPc ls [.ref q]))
    (kk : ∀ (r : Int32) (σ1 : cj_S), P r σ1 → ∀ (H1 : Heap) (locs1 : List Loc), cj_W E σ1 H1 → va_S (cj_P E) s.heap H1 locs1 → W p (cj_l E) e (cj_rm d mc ms) s m args below meth c H1 locs1 (cu + mc') (su + ms') Q (F0 m (pc + 3) ls (.int r :: rest))) : W p (cj_l E) e (cj_rm d mc ms) s m args below meth c H locs cu su Q (F0 m pc ls st0) := by
  have hcx0 := hcx
  obtain ⟨hx, hb, -, -, hml, hown, hts, hK, hA, hnm0, hz⟩ := hcx
  exact vx_calli hr hS (fun _ _ h => h) (fun _ h => h) (fun _ _ h => h) (fun Ec ce q9 u t H1 locs1 ht hal _ hB _ _ hS1 hcell hv hcl => by
    obtain ⟨rfl, hX, hW1⟩ := hB
    refine vx_catch (E := "LeapJoin$Wrong") (name := "LeapJoin$Wrong") (ce := ce) hown [] x [] hsplit (fun z hz => by cases hz) hcov h0 (hts _ hlink) (va_Nw.use rfl (hK.2.2.2.1 _ hcast)) hcell hv hcl ?_
    exact kx q9 u hX H1 locs1 (by rw [← ht]; exact hW1) hS1) (fun r u t H1 locs1 ht _ hp hB _ _ hS => kk r u hp H1 locs1 (by rw [← ht]; exact hB) hS)
theorem cj_zq {mc ms mc' ms' cu su : Nat} {P : Option Nat → cj_S → Prop} {a : Array Value} {st0 : List Value} (hcx : cj_cx E y bytes maxL ret p s m args meth c) {x : ExceptionTableEntry} (hsplit : c.exceptionTable.toList = [x]) (hcov : covers x pc = true) (h0 : x.catchType ≠ 0) (hlink : Cond.classLink y.cls x.catchType "LeapJoin$Wrong" ∈ lw_all) (hcast : ("LeapJoin$Wrong", "LeapJoin$Wrong") ∈ cj_nC) (hr : vx_Run p (cj_l E) e (cj_rm d mc ms) s m args below meth c H locs cu su mc' ms' (F0 m pc ls st0) rest (cj_Qq E P a) (cj_XC E X) (cj_P E)) (hS : va_S (cj_P E) s.heap H locs)
    (kx : ∀ (q : Nat) (σ1 : cj_S), X q σ1 → ∀ (H1 : Heap) (locs1 : List Loc), cj_W E σ1 H1 → va_S (cj_P E) s.heap H1 locs1 → W p (cj_l E) e (cj_rm d mc ms) s m args below meth c H1 locs1 (cu + mc') (su + ms') Q (F0 m x.handlerPc ls [.ref q]))
    (kk : ∀ (r : Option Nat) (σ1 : cj_S), P r σ1 → ∀ (H1 : Heap) (locs1 : List Loc), cj_W E σ1 H1 → va_S (cj_P E) s.heap H1 locs1 → W p (cj_l E) e (cj_rm d mc ms) s m args below meth c H1 locs1 (cu + mc') (su + ms') Q (F0 m (pc + 3) ls (va_rf r :: rest))) : W p (cj_l E) e (cj_rm d mc ms) s m args below meth c H locs cu su Q (F0 m pc ls st0) := by
  have hcx0 := hcx
  obtain ⟨hx, hb, -, -, hml, hown, hts, hK, hA, hnm0, hz⟩ := hcx
  exact vx_callq hr hS (fun _ _ h => h) (fun _ h => h) (fun _ _ h => h) (fun Ec ce q9 u t H1 locs1 ht hal _ hB _ _ hS1 hcell hv hcl => by
    obtain ⟨rfl, hX, hW1⟩ := hB
    refine vx_catch (E := "LeapJoin$Wrong") (name := "LeapJoin$Wrong") (ce := ce) hown [] x [] hsplit (fun z hz => by cases hz) hcov h0 (hts _ hlink) (va_Nw.use rfl (hK.2.2.2.1 _ hcast)) hcell hv hcl ?_
    exact kx q9 u hX H1 locs1 (by rw [← ht]; exact hW1) hS1) (fun r u t H1 locs1 ht _ hp hB _ _ hS => kk r u hp H1 locs1 (by rw [← ht]; exact hB) hS)
end CJ
