/-! clone() and checkcast of arrays of rows -/
set_option maxRecDepth 100000
section ZC
variable {p : Program} {l : Launch} {e : Env} {R : Room} {s : State} {m : MethodId} {args : Array Value} {below : List Frame} {meth : Method} {c : Code} {T : State} {locs : List Loc} {cells slots : Nat}
theorem zc_cloneArray (X : Stand p l e R s m args below meth c T locs cells slots) (hexec : p.tables.exec = Jvm.exec) {own ad adS : String} {index : Nat} (hown : s.vm.findClass own = some m.cls)
    (hlink : (Cond.methodLink own index ⟨adS, "clone", "()Ljava/lang/Object;"⟩).before args s = true) (hsameS : (Cond.sameMethod adS "java/lang/Object" "clone" "()Ljava/lang/Object;").before args s = true) (hsame : (Cond.sameMethod ad "java/lang/Object" "clone" "()Ljava/lang/Object;").before args s = true)
    (hnat : (Cond.native ⟨"java/lang/Object", "clone", "()Ljava/lang/Object;"⟩).before args s = true) (hinst : (Cond.instanceMethod ⟨"java/lang/Object", "clone", "()Ljava/lang/Object;"⟩).before args s = true)
    (hsel : (Cond.selects ad ⟨ad, "clone", "()Ljava/lang/Object;"⟩ ⟨"java/lang/Object", "clone", "()Ljava/lang/Object;"⟩).before args s = true)
    {a : Addr} {cell : Cell} {cC : ClassId} (hcell : T.heap[a]? = some cell) (hobj : ∀ k, cell.vm ≠ .statics k) (hknown : cell.vm ≠ .unknown) (hcls : s.vm.findClass ad = some cell.cls)
    (hC : s.vm.findClass "java/lang/Cloneable" = some cC) (hasg : s.vm.assignable cell.cls cC = true) (hfit : ∀ i v, cell.slots[i]? = some v → T.fitsSlot cell.cls .none i v = true)
    {g : JFrame} (hg : g.method = m) (hsize : g.locals.size = c.maxLocals) {rest : List Value} (hstack : g.stack = .ref a :: rest) (hdg : decode c.code g.pc = .ok (.invokevirtual index, 3))
    (hframes : 1 ≤ R.frames) (hlocals : 2 * g.monitorRoom + (rest.map fun v => v.category).sum + 14 ≤ R.locals) (hcells : cells + 1 ≤ R.cells) (hslots : slots + cell.slots.size ≤ R.slots)
    (hloader : s.vm.clonesLoader cell.cls = false := by first | assumption | exact Vm.clonesLoader_of_array (by assumption) (by assumption)) :
    ∃ vm', Stand p l e R s m args below meth c ((T.setVm vm').pushCell { cls := cell.cls, slots := cell.slots }) locs (cells + 1) (slots + cell.slots.size) ∧
      ∀ target, Steps p.tables e below (((T.setVm vm').pushCell { cls := cell.cls, slots := cell.slots }).setTop { g with pc := g.pc + 3, stack := .ref T.heap.size :: rest }) target → Steps p.tables e below (T.setTop g) target := by
  obtain ⟨r, kO, methO, hnO, hmO, hkO, N⟩ := NativeOf.of_instance hnat hinst (ps := []) (ret := some (.object "java/lang/Object")) (by decide +kernel)
  obtain ⟨r', methO', hnO', hmO', -, habs⟩ := Cond.instanceMethod_spec hinst
  cases hnO.symm.trans hnO'
  cases hmO.symm.trans hmO'
  obtain ⟨cn, ck, r1, hcn, hck, -, hf, hn1⟩ := Cond.sameMethod_found hsame
  cases hnO.symm.trans hn1
  cases hcls.symm.trans hcn
  obtain ⟨c2, r2, m2, q1, q2, q3, q4, mk, hmk, hmki⟩ := Cond.selects_spec hsel
  cases hcls.symm.trans q1
  cases hf.symm.trans q2
  cases hnO.symm.trans q3
  cases hkO.symm.trans hmk
  have hselP : selectMethod e.platform s.vm cell.cls r = .method r := by rw [Launch.admits_selectMethod X.admits]; exact q4
  obtain ⟨vm', X', step⟩ := X.invokevirtualUp hexec hown hlink hsameS (by decide) hnO hmO N.static hcell hobj hselP hmO habs hkO hmki hg (argsL := []) (rest := rest) (by rw [N.sig]; rfl) hstack hdg
  refine ⟨vm', X'.pushed _, fun target hrest => step target fun acts => ?_⟩
  subst hg
  have hA' : s.vm.Alike vm' := X'.warmed.alike
  obtain ⟨kO', N'⟩ := N.alike hA'
  obtain ⟨ck', hck', -⟩ := hA'.2.2 _ _ hck
  obtain ⟨kC, hkC, -⟩ := Vm.findClass_spec hC
  obtain ⟨kC', hkC', -⟩ := hA'.2.2 _ _ hkC
  have hroom := X.room
  simp only [State.hasRoom, Bool.and_eq_true, decide_eq_true_eq] at hroom
  have h1 := X.heapSize
  have h2 := X.used
  exact Steps.cloneOf (g := { g with stack := rest }) (ig := .invokevirtual index) (len := 3) p X'.here acts N'
    (X'.notFull (g := { g with stack := rest }) hsize (vars := nativeFrameWords "java/lang/Object" "clone" 1) hframes (by rw [show nativeFrameWords "java/lang/Object" "clone" 1 = 3 from by decide]; exact hlocals))
    hcell hobj hknown ⟨ck', hck'⟩ (by show vm'.findClass _ = _; rw [hA'.findClass]; exact hC) ⟨kC', hkC'⟩ (by show vm'.assignable _ _ = _; rw [hA'.assignable]; exact hasg) (Launch.admits_finalization X.admits)
    (by show T.heap.size < _; omega) (by show T.slotsUsed + _ ≤ _; omega) (fun i v hv => by rw [State.fitsSlot_setVm (X.warmed.alike.symm.trans hA')]; exact hfit i v hv) hdg hrest (by show vm'.clonesLoader _ = false; rw [hA'.clonesLoader]; exact hloader)

end ZC
theorem zc_asg {vm : Vm} {c t cA cT : ClassId} {kc kt kA kT : Class} {x y : FieldType} (hc : vm.classes[c]? = some kc) (hkc : kc.kind = .ordinary) (ht : vm.classes[t]? = some kt) (h : vm.assignable c t = true) (hA : vm.classes[cA]? = some kA) (hkA : kA.kind = .array c x) (hT : vm.classes[cT]? = some kT) (hkT : kT.kind = .array t y) : vm.assignable cA cT = true := by
  have h0 : vm.assignableAux (255 + 1) c t = true := h
  have h2 : vm.assignableAux (254 + 1) c t = vm.assignableAux (255 + 1) c t := by
    rw [Vm.assignableAux, Vm.assignableAux]
    simp only [hc, ht, hkc]
    cases kt.kind <;> rfl
  have hpc : vm.isPrimitive c = false := by simp [Vm.isPrimitive, hc, hkc]
  have hpt : vm.isPrimitive t = false := by
    cases hk : kt.kind with
    | primitive z =>
      rw [Vm.assignableAux] at h0
      simp only [hc, ht, hkc, hk, Bool.or_false, beq_iff_eq] at h0
      subst h0
      rw [hc] at ht
      cases ht
      rw [hkc] at hk
      cases hk
    | _ => simp [Vm.isPrimitive, ht, hk]
  show vm.assignableAux (255 + 1) cA cT = true
  rw [Vm.assignableAux]
  simp only [hA, hT, hkA, hkT, hpc, hpt, Bool.or_self, Bool.false_eq_true, if_false]
  have h3 : vm.assignableAux 255 c t = true := h2.trans h0
  rw [h3, Bool.or_true]
section CJ
variable {E : cj_E} {y : MethodName} {bytes : ByteArray} {maxL : Nat} {ret : Option FieldType} {p : Program} {e : Env} {s : State} {m : MethodId} {args : Array Value} {below : List Frame} {meth : Method} {c : Code} {H : Heap} {locs : List Loc} {Q : State → Prop} {d : Nat} {pc : Nat} {ls : Array Slot} {rest : List Value} {σ : cj_S} {l : Launch} {R : Room} {cells slots : Nat} {a : Nat}
/-- a row of any width; an array of rows -/
def cj_ro (t : Nat) : Prop := t = 7 ∨ t = 8 ∨ t = 9
def cj_rr (t : Nat) : Prop := t = 27 ∨ t = 28 ∨ t = 29
/-- what is known of an array of rows: its class, its name, that it is a Row[] -/
theorem zc_known (hcx : cj_cx E y bytes maxL ret p s m args meth c) {t : Nat} (ht : cj_rr t) : ∃ (C ad : String) (cT : ClassId) (kA : Class), (cj_tys E)[t - 20]? = some (cj_cA E t, .object C) ∧ s.vm.findClass ad = some (cj_cA E t) ∧ (Cond.sameMethod ad "java/lang/Object" "clone" "()Ljava/lang/Object;").before args s = true ∧ (Cond.selects ad ⟨ad, "clone", "()Ljava/lang/Object;"⟩ ⟨"java/lang/Object", "clone", "()Ljava/lang/Object;"⟩).before args s = true ∧ (Cond.castable ad "java/lang/Cloneable").before args s = true ∧ s.vm.classes[cj_cA E t]? = some kA ∧ s.vm.findClass "[LLeapJoin$Row;" = some cT ∧ s.vm.assignable (cj_cA E t) cT = true := by
  obtain ⟨hx, hb, -, -, hml, hown, hts, hK, hA, hnm0, hz⟩ := hcx
  obtain ⟨comp, cT, kT, r1, -, r2, r3, r4⟩ := Cond.arrayOver_spec (va_AO.use (A := args) (hK.2.2.2.2.1 "LeapJoin$Row" (List.mem_of_getElem? (i := 6) rfl)))
  have r5 : s.vm.findClass "[LLeapJoin$Row;" = some cT := by
    rw [show "[LLeapJoin$Row;" = "[" ++ (FieldType.object "LeapJoin$Row").toString by decide +kernel]
    exact r4
  rcases ht with ht | ht | ht <;> subst ht
  · obtain ⟨kA, comp0, k1, k2, k3, k4⟩ := (hK.1.2 7 _ rfl).2
    obtain ⟨c0, t1, f1, f2, f3⟩ := Cond.castable_spec (va_Nw.use (A := args) rfl (hK.2.2.2.1 ("LeapJoin$One", "LeapJoin$Row") (List.mem_of_getElem? (i := 19) rfl)))
    have e1 : c0 = comp0 := Option.some.inj (f1.symm.trans k3)
    have e2 : t1 = comp := Option.some.inj (f2.symm.trans r1)
    subst e1
    subst e2
    have hc0 := (hK.1.1 6 _ rfl).2
    have e3 : c0 = (cj_D E).1 6 := Option.some.inj (f1.symm.trans hc0.1)
    obtain ⟨kC, hkC, hkind⟩ := hc0.2
    rw [← e3] at hkC
    obtain ⟨kt, hkt, -⟩ := Vm.findClass_spec r1
    refine ⟨"LeapJoin$One", "[LLeapJoin$One;", cT, kA, rfl, ?_, hts _ q1887, hts _ q1888, va_Nw.use rfl (hK.2.2.2.1 ("[LLeapJoin$One;", "java/lang/Cloneable") (List.mem_of_getElem? (i := 22) rfl)), k1, r5, zc_asg hkC hkind hkt f3 k1 k2 r2 r3⟩
    rw [show "[LLeapJoin$One;" = "[" ++ (FieldType.object "LeapJoin$One").toString by decide +kernel]
    exact k4
  · obtain ⟨kA, comp0, k1, k2, k3, k4⟩ := (hK.1.2 8 _ rfl).2
    obtain ⟨c0, t1, f1, f2, f3⟩ := Cond.castable_spec (va_Nw.use (A := args) rfl (hK.2.2.2.1 ("LeapJoin$Two", "LeapJoin$Row") (List.mem_of_getElem? (i := 7) rfl)))
    have e1 : c0 = comp0 := Option.some.inj (f1.symm.trans k3)
    have e2 : t1 = comp := Option.some.inj (f2.symm.trans r1)
    subst e1
    subst e2
    have hc0 := (hK.1.1 7 _ rfl).2
    have e3 : c0 = (cj_D E).1 7 := Option.some.inj (f1.symm.trans hc0.1)
    obtain ⟨kC, hkC, hkind⟩ := hc0.2
    rw [← e3] at hkC
    obtain ⟨kt, hkt, -⟩ := Vm.findClass_spec r1
    refine ⟨"LeapJoin$Two", "[LLeapJoin$Two;", cT, kA, rfl, ?_, hts _ q1890, hts _ q1891, va_Nw.use rfl (hK.2.2.2.1 ("[LLeapJoin$Two;", "java/lang/Cloneable") (List.mem_of_getElem? (i := 25) rfl)), k1, r5, zc_asg hkC hkind hkt f3 k1 k2 r2 r3⟩
    rw [show "[LLeapJoin$Two;" = "[" ++ (FieldType.object "LeapJoin$Two").toString by decide +kernel]
    exact k4
  · obtain ⟨kA, comp0, k1, k2, k3, k4⟩ := (hK.1.2 9 _ rfl).2
    obtain ⟨c0, t1, f1, f2, f3⟩ := Cond.castable_spec (va_Nw.use (A := args) rfl (hK.2.2.2.1 ("LeapJoin$Three", "LeapJoin$Row") (List.mem_of_getElem? (i := 9) rfl)))
    have e1 : c0 = comp0 := Option.some.inj (f1.symm.trans k3)
    have e2 : t1 = comp := Option.some.inj (f2.symm.trans r1)
    subst e1
    subst e2
    have hc0 := (hK.1.1 8 _ rfl).2
    have e3 : c0 = (cj_D E).1 8 := Option.some.inj (f1.symm.trans hc0.1)
    obtain ⟨kC, hkC, hkind⟩ := hc0.2
    rw [← e3] at hkC
    obtain ⟨kt, hkt, -⟩ := Vm.findClass_spec r1
    refine ⟨"LeapJoin$Three", "[LLeapJoin$Three;", cT, kA, rfl, ?_, hts _ q1893, hts _ q1894, va_Nw.use rfl (hK.2.2.2.1 ("[LLeapJoin$Three;", "java/lang/Cloneable") (List.mem_of_getElem? (i := 24) rfl)), k1, r5, zc_asg hkC hkind hkt f3 k1 k2 r2 r3⟩
    rw [show "[LLeapJoin$Three;" = "[" ++ (FieldType.object "LeapJoin$Three").toString by decide +kernel]
    exact k4
theorem cj_castR (hcx : cj_cx E y bytes maxL ret p s m args meth c) (hW : cj_W E σ H) (ht : cj_rr (cj_T σ a)) {index : Nat} (hlink : Cond.classLink y.cls index "[LLeapJoin$Row;" ∈ lw_all) (hdg : decode bytes pc = .ok (.checkcast index, 3))
    (kk : W p l e R s m args below meth c H locs cells slots Q (F0 m (pc + 3) ls (.ref a :: rest))) : W p l e R s m args below meth c H locs cells slots Q (F0 m pc ls (.ref a :: rest)) := by
  obtain ⟨C, ad, cT, kA, w1, w2, w3, w4, w5, w6, w7, w8⟩ := zc_known hcx ht
  obtain ⟨hx, hb, -, -, hml, hown, hts, hK, hA, hnm0, hz⟩ := hcx
  obtain ⟨ws, hP, hD, hl, hr⟩ := cj_list hW
  have h22 : 22 ≤ cj_T σ a := by rcases ht with h | h | h <;> omega
  obtain ⟨q0, hq⟩ := hl a (by omega)
  rw [cj_eb rfl h22] at hq
  have hc := hP q0 _ hq
  intro T hT X
  obtain ⟨vm', X', st⟩ := X.checkcast hx hown (hts _ hlink) (by rw [hT]; exact hc) (fun k h => by cases h) w6 w7 w8 (g := F0 m pc ls (.ref a :: rest)) rfl rfl (by rw [hb]; exact hdg)
  obtain ⟨t, a1, b1⟩ := kk (T.setVm vm') hT X'
  exact ⟨t, st t a1, b1⟩
theorem cj_cloneR (hcx : cj_cx E y bytes maxL ret p s m args meth c) (hW : cj_W E σ H) (hS : va_S (cj_P E) s.heap H locs) (hsz : ls.size = maxL) (ht : cj_rr (cj_T σ a)) {lim : Nat} (hN : cj_N σ a ≤ lim) {index : Nat} (hlink : Cond.methodLink y.cls index ⟨"[LLeapJoin$Row;", "clone", "()Ljava/lang/Object;"⟩ ∈ lw_all) (hcells : cells + 1 ≤ R.cells) (hslots : slots + lim ≤ R.slots) (hframes : 1 ≤ R.frames) (hlocals : (rest.map fun v => v.category).sum + 14 ≤ R.locals) (hdg : decode bytes pc = .ok (.invokevirtual index, 3))
    (kk : ∀ (q : Nat) (H1 : Heap), cj_T σ q = 0 → cj_W E (cj_mk σ q (cj_T σ a) (cj_N σ a) (cj_A σ a) (cj_B σ a)) H1 → va_S (cj_P E) s.heap H1 locs → W p l e R s m args below meth c H1 locs (cells + 1) (slots + lim) Q (F0 m (pc + 3) ls (.ref q :: rest))) : W p l e R s m args below meth c H locs cells slots Q (F0 m pc ls (.ref a :: rest)) := by
  obtain ⟨C, ad, cT, kA0, w1, w2, w3, w4, w5, w6, w7, w8⟩ := zc_known hcx ht
  have hW0 := hW
  obtain ⟨hx, hb, -, -, hml, hown, hts, hK, hA, hnm0, hz⟩ := hcx
  obtain ⟨ws, hP, hD, hl, hr⟩ := cj_list hW
  have h22 : 22 ≤ cj_T σ a := by rcases ht with h | h | h <;> omega
  obtain ⟨q0, hq⟩ := hl a (by omega)
  rw [cj_eb rfl h22] at hq
  have hc : H[a]? = some (arrV (cj_cA E (cj_T σ a)) (cj_N σ a) (fun j => va_rf (cj_B σ a j))) := hP q0 _ hq
  generalize hcell : arrV (cj_cA E (cj_T σ a)) (cj_N σ a) (fun j => va_rf (cj_B σ a j)) = cell at hc
  have hcl0 : cell.cls = cj_cA E (cj_T σ a) := by rw [← hcell]; rfl
  have hvm0 : cell.vm = .none := by rw [← hcell]; rfl
  have hsl : cell.slots.size = cj_N σ a := by rw [← hcell]; exact arrV_size _ _ _
  have hcellE : ({ cls := cell.cls, slots := cell.slots } : Cell) = cell := by rw [← hcell]; rfl
  obtain ⟨c0, t0', f1, f2, f3⟩ := Cond.castable_spec w5
  cases w2.symm.trans f1
  refine W.widen (k := cells) (n := slots) (Nat.le_refl _) (Nat.le_refl _) ?_
  intro T hT X
  obtain ⟨-, kA, hkA, comp, hkind⟩ := State.isArrayOf_alike X.warmed.alike ((hK.1.2 _ _ w1).1 0 (fun _ => .null))
  obtain ⟨-, kS, hkS, compS, hkindS⟩ := (hK.1.2 _ _ w1).1 0 (fun _ => .null)
  obtain ⟨vm', X', st⟩ := zc_cloneArray X hx hown (hts _ hlink) (hts _ q477) w3 (hts _ q478) (hts _ q479) w4 (a := a) (cell := cell) (by rw [hT]; exact hc) (fun k h => by rw [hvm0] at h; cases h) (by rw [hvm0]; exact fun h => by cases h) (by rw [hcl0]; exact w2) f2 (by rw [hcl0]; exact f3)
    (fun i v hv => by
      rw [hcl0]
      have hk' : T.vm.classes[cj_cA E (cj_T σ a)]? = some kA := hkA
      have hfv : fits (.object C) v = true := by
        rw [← hcell] at hv
        exact va_fit (ty := .object C) (fun i _ => by show fits (.object C) (va_rf _) = true; cases cj_B σ a i <;> rfl) i v hv
      simpa [State.fitsSlot, State.slotType?, hk', hkind] using hfv)
    (g := F0 m pc ls (.ref a :: rest)) rfl (by rw [hml]; exact hsz) rfl (by rw [hb]; exact hdg) hframes (by show 2 * 0 + _ + 14 ≤ _; omega) hcells (by rw [hsl]; exact Nat.le_trans (Nat.add_le_add_left hN _) hslots) (hloader := by rw [hcl0]; exact Vm.clonesLoader_of_array hkS hkindS)
  rw [hcellE, hsl] at X'
  generalize hH1 : H.push cell = H1
  have z1 : H1.size = H.size + 1 := by rw [← hH1, Array.size_push]
  have e1 : H1[H.size]? = some cell := by rw [← hH1, Array.getElem?_push_size]
  have o1 : ∀ q : Nat, q < H.size → H1[q]? = H[q]? := fun q hq => by rw [← hH1, Array.getElem?_push, if_neg (Nat.ne_of_lt hq)]
  have hfresh : cj_T σ H.size = 0 := Classical.byContradiction fun h => absurd (hW0.1 _ h).2.lt (Nat.lt_irrefl _)
  have hW1 : cj_W E (cj_mk σ H.size (cj_T σ a) (cj_N σ a) (cj_A σ a) (cj_B σ a)) H1 := by
    refine ⟨fun b hb0 => ?_, Nat.le_trans hW0.2.1 (by omega), fun q h1 h2 => (o1 q (Nat.lt_of_lt_of_le h1 hW0.2.1)).trans (hW0.2.2 q h1 h2)⟩
    by_cases hbq : b = H.size
    · subst hbq
      refine ⟨hA _ hS.1, ?_⟩
      rw [cj_eb (cj_T_mk _ _ _ _ _ _) h22, cj_N_mk, cj_B_mk]
      show H1[H.size]? = _
      rw [e1, ← hcell]
      rfl
    · rw [show cj_T (cj_mk σ H.size (cj_T σ a) (cj_N σ a) (cj_A σ a) (cj_B σ a)) b = cj_T σ b by simp [cj_T, cj_mk, hbq]] at hb0
      refine ⟨(hW0.1 b hb0).1, ?_⟩
      rw [cj_e_mk hbq]
      exact (hW0.1 b hb0).2.kept (o1 b (hW0.1 b hb0).2.lt)
  have hS1 : va_S (cj_P E) s.heap H1 locs := ⟨Nat.le_trans hS.1 (by omega), fun x h1 h2 => (o1 x (Nat.lt_of_lt_of_le h1 hS.1)).trans (hS.2.1 x h1 h2), hS.2.2⟩
  obtain ⟨t, b1, b2⟩ := W.widen (k := cells + 1) (n := slots + lim) (Nat.le_refl _) (Nat.add_le_add_left hN _) (kk H.size H1 hfresh hW1 hS1) ((T.setVm vm').pushCell cell) (by rw [← hH1, ← hT]; rfl) X'
  refine ⟨t, st t ?_, b2⟩
  rw [hcellE, hT]
  exact b1
end CJ
