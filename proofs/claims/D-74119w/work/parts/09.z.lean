/-! Math.abs(double) -/
set_option maxRecDepth 100000
section ZB
theorem zb_over {tb : Tables} {e : Env} {s : State} {f : JFrame} {k : Class} {x : Method} {row : NativeRow} (hpc : f.pc = 0) (hk : s.vm.classes[f.method.cls]? = some k) (hin : k.name ∈ overriddenIn) (hboot : k.loader = none) (hx : k.methods[f.method.idx]? = some x) (hrow : NativeRow.find? tb.natives k.name x.name x.desc = some row) : overridden tb e s f = some row := by
  unfold overridden
  simp [hpc, hk, hboot, hx, hrow]
  intro h
  exact absurd hin h
def zb_absDN : MethodName := ⟨"java/lang/Math", "abs", "(D)D"⟩
def zb_absDCode : ByteArray := ⟨#[0x26, 0xb8, 0x00, 0x4f, 0x14, 0x00, 0x87, 0x7f, 0xb8, 0x00, 0xa6, 0xaf]⟩
def zb_absDRow : NativeRow := (NativeRow.find? Native.java_lang_Math.nans.rows "java/lang/Math" "abs" "(D)D").get (by decide +kernel)
set_option maxRecDepth 100000 in
theorem zb_absD_row (p : Program) : NativeRow.find? p.tables.natives "java/lang/Math" "abs" "(D)D" = some zb_absDRow := by
  cases p <;> rfl
theorem zb_absD_run {a : UInt64} (ha : vf_n64 a) (e : Env) (S : State) : ∃ acts, (zb_absDRow.sem #[.double a]).run e S = .ok (some (.double (a &&& 0x7fffffffffffffff))) S acts := by
  have hsem : zb_absDRow.sem #[.double a] = (do
      let r ← anyNaN64 (a &&& 0x7fffffffffffffff)
      mark "nat.java_lang_Math.abs"
      Pure.pure (some (.double r))) := rfl
  have hn : (a &&& 0x7fffffffffffffff) &&& 0x7fffffffffffffff ≤ 0x7ff0000000000000 := by rw [UInt64.and_assoc, UInt64.and_self]; exact ha
  have hw : wpRun (zb_absDRow.sem #[.double a]) (fun v s₂ _ => v = some (.double (a &&& 0x7fffffffffffffff)) ∧ s₂ = S) (fun _ _ _ => False) e S := by
    rw [hsem]
    simp [jvm, wpRun, anyNaN64, hn]
  have hw' := (wpRun_iff_run _ _ _ _ _).mp hw
  cases hr : (zb_absDRow.sem #[.double a]).run e S with
  | ok v s₂ acts₂ => rw [hr] at hw'; obtain ⟨rfl, rfl⟩ := hw'; exact ⟨_, rfl⟩
  | ctl x s₂ acts₂ => rw [hr] at hw'; cases x <;> exact hw'.elim
theorem zb_Steps_absD (p : Program) {e : Env} {below : List Frame} {s target : State} {g : JFrame} {c : Code}
    (htopS : s.topJava?.isSome) (habove : ∃ mid, s.frames.tail = mid ++ below) (hrunning : s.status = .running) (hrunnable : s.curStatus? = some .runnable) (haloneS : s.alone = true) (hcodeG : s.code? g.method = some c)
    {m : MethodId} {meth : Method} {k : Class} {cm : Code} {a : UInt64} (acts : List Action)
    (hk : s.vm.classes[m.cls]? = some k) (hx : k.methods[m.idx]? = some meth) (hboot : k.loader = none)
    (hkn : k.name = "java/lang/Math") (hmn : meth.name = "abs") (hmd : meth.desc = "(D)D") (hsig : parseMethodDescriptor "(D)D" = some meth.sig)
    (hc : meth.code = some cm) (hml : cm.maxLocals = 2) (hl : meth.locks = false)
    (hroom : (s.calling g m #[.double a]).hasRoom e.platform {} = true)
    (ha : vf_n64 a) {ig : Instr} {len : Nat} (hdg : decode c.code g.pc = .ok (ig, len))
    (hrest : Steps p.tables e below (s.setTop { g with pc := g.pc + len, stack := .double (a &&& 0x7fffffffffffffff) :: g.stack }) target) :
    Steps p.tables e below (doInvoke e (s.setTop g) acts m #[.double a]).1 target := by
  obtain ⟨g₀, hg⟩ := Option.isSome_iff_exists.mp htopS
  obtain ⟨r, hr⟩ := State.topJava?_eq_some.mp hg
  obtain ⟨mid, hmid⟩ := habove
  have hcur : s.cur < s.threads.size := State.cur_lt_of_frames hr
  have hm : s.vm.method? m = some meth := by simp [Vm.method?, hk, hx]
  have htop : s.setTop g = s.setFrames (.java g :: r) := State.setTop_of_frames _ hr
  have htail : s.frames.tail = r := by rw [hr]; rfl
  have hfull : e.platform.stackFull (s.setTop g).me (s.setTop g).frames cm.maxLocals = false := by
    have hfc := State.frames_calling htopS g m #[.double a]
    obtain ⟨-, r2, -, r4⟩ := State.hasRoom_stack hroom
    rw [State.localsInUse_invoking hfc (meth := meth) (c := cm) hm hc] at r4
    rw [hfc, htail] at r2
    rw [htail] at r4
    have hw := stackUse_le_stackWeight (.java g :: r)
    rw [State.calling_eq htopS, State.stackLimits_setFrames] at r2 r4
    rw [htop, State.frames_setFrames _ hcur]
    refine Platform.stackFull_eq_false (by rw [State.stackLimits_setFrames]; simp only [List.length_cons] at r2 ⊢; have : ({} : Room).frames = 0 := rfl; omega) (by rw [State.stackLimits_setFrames]; have : ({} : Room).locals = 0 := rfl; omega)
  rw [(doInvoke_java (s := s.setTop g) (e := e) (acts := acts) (args := #[.double a]) (meth := meth) (code := cm) hm hc hl hfull).1, hml]
  have hU : (s.setTop g).pushFrame (.java { method := m, pc := 0, locals := argsToLocals #[.double a] 2, stack := [], locked := none }) = s.setFrames (.java (entryFrame m #[.double a] 2) :: .java g :: r) := by
    rw [State.pushFrame, State.frames_setTop _ hr, htop, State.setFrames_setFrames]
    rfl
  rw [hU]
  have hf1 : (s.setFrames (.java (entryFrame m #[.double a] 2) :: .java g :: r)).frames = .java (entryFrame m #[.double a] 2) :: .java g :: r := State.frames_setFrames _ hcur
  have hov : overridden p.tables e (s.setFrames (.java (entryFrame m #[.double a] 2) :: .java g :: r)) (entryFrame m #[.double a] 2) = some zb_absDRow :=
    zb_over (k := k) (x := meth) rfl hk (by rw [hkn]; decide) hboot hx (by rw [hkn, hmn, hmd]; exact zb_absD_row p)
  have hb2 : ∀ F : List Frame, ((s.setFrames F).vm.classes[m.cls]?.bind fun y => y.methods[m.idx]?) = some meth := by
    intro F
    show (s.vm.classes[m.cls]?.bind fun y => y.methods[m.idx]?) = some meth
    simp [hk, hx]
  have hb3 : (s.vm.classes[m.cls]?.bind fun y => y.methods[m.idx]?) = some meth := by simp [hk, hx]
  have hsig2 : parseMethodDescriptor "(D)D" = some { parameters := [.double], returnType := some .double } := by decide +kernel
  have hparams : meth.sig.parameters.length = 1 := by
    have h3 := hsig
    rw [hsig2] at h3
    rw [← Option.some.inj h3]
    rfl
  have htake : ∀ n : Nat, List.take (1 + n) [Value.double a] = [Value.double a] := by
    intro n
    exact List.take_of_length_le (Nat.le_add_right 1 n)
  obtain ⟨acts₂, hr2⟩ := zb_absD_run ha e (s.setFrames (.native { method := m, args := #[.double a] } :: .java g :: r))
  have hcode : ∀ F : List Frame, (s.setFrames F).code? g.method = some c := by
    intro F
    have := hcodeG
    rw [State.code?_eq] at this ⊢
    simpa [State.setFrames] using this
  have hfs : handOver (s.setFrames (.native { method := m, args := #[.double a] } :: .java g :: r)) (some (.double (a &&& 0x7fffffffffffffff))) (.java g :: r)
      = some (.java { g with pc := g.pc + len, stack := .double (a &&& 0x7fffffffffffffff) :: g.stack } :: r) := by
    simp [handOver, hcode, hdg, Except.toOption]
  have hstep2 : (stepThread p.tables e (s.setFrames (.java (entryFrame m #[.double a] 2) :: .java g :: r))).1 = s.setTop { g with pc := g.pc + len, stack := .double (a &&& 0x7fffffffffffffff) :: g.stack } := by
    unfold stepThread
    simp only [hf1, hov]
    simp [entryFrame, argsToLocals, Value.category, argCount, hb3, hb2, hparams, htake, hr2, afterNative]
    rw [doReturn_native (f := { method := m, args := #[.double a] }) (below := .java g :: r) (State.frames_setFrames _ hcur) rfl hfs, State.setFrames_setFrames, ← State.setTop_of_frames _ hr]
  refine Steps.head ⟨hrunning, by simpa using hrunnable, by simpa using haloneS⟩ ⟨.java (entryFrame m #[.double a] 2) :: .java g :: mid, by rw [hf1]; rw [hr] at hmid; simp at hmid; simp [hmid], by simp, by simp⟩ ?_
  rw [hstep2]
  exact hrest
theorem zb_absD_pays {l : Launch} {R : Room} {p : Program} {e : Env} {below : List Frame} {s : State} {sargs : Array Value} {len W : Nat} (a : UInt64) (hcode : (Cond.code zb_absDN zb_absDCode 2 (some .double)).before sargs s = true)
    (hfr : 1 ≤ R.frames) (hlo : W + 13 ≤ R.locals) :
    Back l R p e below s sargs zb_absDN len W (fun A a' => A.cells ≤ R.cells ∧ A.slots ≤ R.slots ∧ a' = #[.double a] ∧ vf_n64 a) (fun A _ v B => v = some (.double (a &&& 0x7fffffffffffffff)) ∧ B = A) := by
  intro m meth c A g ig mk a' X hg hsize hdg hW hnamed ⟨hc, hs, ha', ha⟩
  subst ha'
  have hcodeU : (Cond.code zb_absDN zb_absDCode 2 (some .double)).before sargs A.U = true := Cond.tabsOnly_warm (args' := sargs) (T := A.U) X.warmed _ rfl hcode
  obtain ⟨methM, cM, hmethM, hcodeM', -, hlocalsM, -, hlocksM, -, hsigM⟩ := Cond.code_spec hnamed hcodeU
  obtain ⟨kP, hkP, hkname⟩ := className_of_methodNamed hnamed
  obtain ⟨hmnM, hmdM⟩ := name_of_methodNamed hnamed hmethM
  have hxP : kP.methods[mk.idx]? = some methM := by simpa [Vm.method?, hkP] using hmethM
  have hbootP : kP.loader = none := Vm.bootOf_findClass (findClass_of_methodNamed hnamed) hkP
  refine ⟨some (.double (a &&& 0x7fffffffffffffff)), A, X, ⟨rfl, rfl⟩, ?_⟩
  exact zb_Steps_absD p X.here.top X.here.above X.here.running X.here.runnable X.here.alone (by rw [hg]; exact X.here.code) [] hkP hxP hbootP hkname hmnM hmdM hsigM hcodeM' hlocalsM hlocksM
    (X.room_calling hsize hmethM hcodeM' (R' := {}) (by show 0 + 1 ≤ R.frames; omega) (by rw [hlocalsM]; show _ + (2 + 11) + 0 ≤ R.locals; omega) (by show A.cells + 0 ≤ R.cells; omega) (by show A.slots + 0 ≤ R.slots; omega)) ha hdg (Steps.refl _)
end ZB
section CJ
variable {E : cj_E} {y : MethodName} {bytes : ByteArray} {maxL : Nat} {ret : Option FieldType} {p : Program} {e : Env} {s : State} {m : MethodId} {args : Array Value} {below : List Frame} {meth : Method} {c : Code} {H : Heap} {locs : List Loc} {Q : State → Prop} {d : Nat} {pc : Nat} {ls : Array Slot} {rest : List Value} {σ : cj_S} {l : Launch} {R : Room} {cells slots : Nat} {a : Nat}
theorem cj_mabsD (hcx : cj_cx E y bytes maxL ret p s m args meth c) (hsz : ls.size = maxL) {index : Nat} (hlink : Cond.methodLink y.cls index ⟨"java/lang/Math", "abs", "(D)D"⟩ ∈ lw_all) {x : UInt64} (hn : vf_n64 x) (hframes : 1 ≤ R.frames) (hlocals : (rest.map fun v => v.category).sum + 21 ≤ R.locals) (hroom : (rest.map fun v => v.category).sum ≤ 8) (hc : cells ≤ R.cells) (hs : slots ≤ R.slots) (hdg : decode bytes pc = .ok (.invokestatic index, 3))
    (kk : W p l e R s m args below meth c H locs cells slots Q (F0 m (pc + 3) ls (.double (x &&& 0x7fffffffffffffff) :: rest))) : W p l e R s m args below meth c H locs cells slots Q (F0 m pc ls (.double x :: rest)) := by
  obtain ⟨hx, hb, -, -, hml, hown, hts, -⟩ := hcx
  have hcode : (Cond.code zb_absDN zb_absDCode 2 (some .double)).before args s = true := hts _ q1137
  have hlo : 8 + 13 ≤ R.locals := by omega
  intro T hT X
  obtain ⟨v, vm₁, ⟨U', l2, c2, s2⟩, hW₁, X', hpost, st⟩ := callS X hx (y := zb_absDN) (bytes := zb_absDCode) (maxL := 2) (ret := some .double) hown (hts _ hlink) (hts _ q1136) (hts _ q139) hcode ⟨by decide, by decide⟩ (zb_absD_pays (len := 3) (W := 8) x hcode hframes hlo) (g := F0 m pc ls (.double x :: rest)) rfl (by rw [hml]; exact hsz) (argsL := [.double x]) (rest := rest) (fun sig h => by rw [show zb_absDN.desc = "(D)D" from rfl] at h; rw [show parseMethodDescriptor "(D)D" = some { parameters := [.double], returnType := some .double } by decide +kernel] at h; rw [← Option.some.inj h]; rfl) rfl (lv_room hroom) (by rw [hb]; exact hdg) (fun vm₁ hW₁ => ⟨hc, hs, rfl, hn⟩)
  obtain ⟨hv, hB⟩ := hpost
  dsimp only [Pt.U, Pt.locs, Pt.cells, Pt.slots] at X' st
  cases hB
  subst hv
  obtain ⟨t, a1, b1⟩ := kk (T.setVm vm₁) hT X'
  exact ⟨t, st t a1, b1⟩
end CJ
