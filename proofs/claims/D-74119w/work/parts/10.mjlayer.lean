/-! THE MODEL'S LAYER: the one object of LeapJoinModel and its 27 arrays as a pure state (fields, the long, arrays by their field's number); judgements mj_G (a method's body at a place), mj_M (a method's contract); a row an instruction over it -/
set_option maxRecDepth 100000
abbrev mj_S : Type := (Nat → Int32) × Int64 × (Nat → Nat → Int32)
def mj_F (σ : mj_S) (k : Nat) : Int32 := σ.1 k
def mj_J (σ : mj_S) : Int64 := σ.2.1
def mj_A (σ : mj_S) (k i : Nat) : Int32 := σ.2.2 k i
def mj_sF (σ : mj_S) (k : Nat) (v : Int32) : mj_S := (fun j => if j = k then v else σ.1 j, σ.2.1, σ.2.2)
def mj_sJ (σ : mj_S) (v : Int64) : mj_S := (σ.1, v, σ.2.2)
def mj_sA (σ : mj_S) (k i : Nat) (v : Int32) : mj_S := (σ.1, σ.2.1, fun j q => if j = k then (if q = i then v else σ.2.2 j q) else σ.2.2 j q)
theorem mj_FF (σ : mj_S) (k : Nat) (v : Int32) (j : Nat) : mj_F (mj_sF σ k v) j = if j = k then v else mj_F σ j := rfl
theorem mj_FA (σ : mj_S) (k i : Nat) (v : Int32) (j : Nat) : mj_F (mj_sA σ k i v) j = mj_F σ j := rfl
theorem mj_FJ (σ : mj_S) (v : Int64) (j : Nat) : mj_F (mj_sJ σ v) j = mj_F σ j := rfl
theorem mj_AF (σ : mj_S) (k : Nat) (v : Int32) (j q : Nat) : mj_A (mj_sF σ k v) j q = mj_A σ j q := rfl
theorem mj_AJ (σ : mj_S) (v : Int64) (j q : Nat) : mj_A (mj_sJ σ v) j q = mj_A σ j q := rfl
theorem mj_AA (σ : mj_S) (k i : Nat) (v : Int32) (j q : Nat) : mj_A (mj_sA σ k i v) j q = if j = k then (if q = i then v else mj_A σ j q) else mj_A σ j q := rfl
theorem mj_JF (σ : mj_S) (k : Nat) (v : Int32) : mj_J (mj_sF σ k v) = mj_J σ := rfl
theorem mj_JA (σ : mj_S) (k i : Nat) (v : Int32) : mj_J (mj_sA σ k i v) = mj_J σ := rfl
theorem mj_JJ (σ : mj_S) (v : Int64) : mj_J (mj_sJ σ v) = v := rfl
/-- which field is an array; which an int (or boolean); lengths -/
def mj_ar (k : Nat) : Bool := match tyX4 k with | .array _ => true | _ => false
def mj_ik (k : Nat) : Bool := match tyX4 k with | .array _ => false | .long => false | _ => true
def mj_N (k : Nat) : Nat := match k with
  | 1 => 400 | 5 => 4 | 6 => 12 | 7 => 4 | 8 => 144 | 10 => 300 | 11 => 5 | 13 => 331 | 14 => 4 | 15 => 4 | 16 => 12 | 18 => 4 | 20 => 4 | 21 => 192 | 22 => 16 | 23 => 16 | 24 => 5 | 25 => 82944 | 28 => 13240 | 34 => 400 | 35 => 400 | 36 => 4 | 37 => 20736 | 38 => 100 | 39 => 4 | 40 => 150 | 41 => 331 | _ => 0
/-- what is fixed in a run: launch, the class, its slots, the array classes, the object, its arrays, the cells that may change -/
abbrev mj_E : Type := Launch × ClassId × (Nat → Nat) × ClassId × ClassId × Nat × (Nat → Nat) × (Nat → Prop)
def mj_l (E : mj_E) : Launch := E.1
def mj_cC (E : mj_E) : ClassId := E.2.1
def mj_iS (E : mj_E) : Nat → Nat := E.2.2.1
def mj_cI (E : mj_E) : ClassId := E.2.2.2.1
def mj_cZ (E : mj_E) : ClassId := E.2.2.2.2.1
def mj_o (E : mj_E) : Nat := E.2.2.2.2.2.1
def mj_ad (E : mj_E) : Nat → Nat := E.2.2.2.2.2.2.1
def mj_P (E : mj_E) : Nat → Prop := E.2.2.2.2.2.2.2
def mj_cA (E : mj_E) (k : Nat) : ClassId := if k = 37 then mj_cZ E else mj_cI E
def mj_ok (E : mj_E) : Prop := (∀ j k, mj_ar j = true → mj_ar k = true → mj_ad E j = mj_ad E k → j = k) ∧ (∀ k, mj_ar k = true → mj_ad E k ≠ mj_o E) ∧ mj_P E (mj_o E) ∧ ∀ k, mj_ar k = true → mj_P E (mj_ad E k)
def mj_V (ad : Nat → Nat) (σ : mj_S) (k : Nat) : Value := match tyX4 k with
  | .array _ => .ref (ad k)
  | .long => .long (mj_J σ)
  | _ => .int (mj_F σ k)
theorem mj_Vi {ad : Nat → Nat} {σ : mj_S} {k : Nat} (hv : mj_ik k = true) : mj_V ad σ k = .int (mj_F σ k) := by unfold mj_ik at hv; unfold mj_V; split <;> simp_all
def mj_W (E : mj_E) (σ : mj_S) (H : Heap) : Prop := t_OB (mj_o E) (mj_cC E) 43 (mj_iS E) H (mj_V (mj_ad E) σ) ∧ ∀ k, mj_ar k = true → H[mj_ad E k]? = some (arrV (mj_cA E k) (mj_N k) (fun j => .int (mj_A σ k j)))
def mj_K (E : mj_E) (U : State) : Prop := u_Kn U RX4 TX4 43 (mj_cC E) (mj_iS E) ∧ ArrOfT U (mj_cI E) .int ∧ ArrOfT U (mj_cZ E) .boolean
theorem mj_K_moved {E : mj_E} {u U : State} (hvm : u.vm.Alike U.vm) (h : mj_K E u) : mj_K E U := ⟨u_Kn_moved hvm h.1, arrOfT_moved hvm h.2.1, arrOfT_moved hvm h.2.2⟩
theorem mj_kv {E : mj_E} {s : State} (h : mj_K E s) : va_K (fun _ => mj_cC E, fun _ => mj_iS E) [(RX4, TX4, 43)] [] s := by
  refine ⟨fun c q hq => ?_, fun k q hq => by simp at hq⟩
  match c, hq with
  | 0, hq => cases hq; exact h.1
  | c + 1, hq => simp at hq
def mj_rm (d : Nat) : Room := { frames := d + 1, cells := 0, slots := 0, locals := (12000 + 64 * (d + 1)) }
def mj_B (E : mj_E) (σ : mj_S) (U : State) : Prop := mj_W E σ U.heap ∧ mj_K E U
def mj_cx (E : mj_E) (bytes : ByteArray) (maxL : Nat) (ret : Option FieldType) (p : Program) (s : State) (m : MethodId) (args : Array Value) (meth : Method) (c : Code) : Prop := p.tables.exec = Jvm.exec ∧ c.code = bytes ∧ meth.sig.returnType = ret ∧ meth.locks = false ∧ c.maxLocals = maxL ∧ s.vm.findClass RX4 = some m.cls ∧ (∀ w ∈ lw_all, w.before args s = true) ∧ mj_K E s ∧ mj_ok E
/-- the method's body, at a place -/
def mj_G (E : mj_E) (k : Nat) (bytes : ByteArray) (maxL : Nat) (ret : Option FieldType) (Q : Array Value → State → Outcome → State → Prop) (pc : Nat) (lv : List (Nat × Value)) (st : List Value) (σ : mj_S) : Prop :=
  ∀ (d : Nat), k ≤ d → ∀ (p : Program) (e : Env) (s : State) (m : MethodId) (args : Array Value) (below : List Frame) (meth : Method) (c : Code), mj_cx E bytes maxL ret p s m args meth c → ∀ (H : Heap) (locs : List Loc) (ls : Array Slot), mj_W E σ H → va_S (mj_P E) s.heap H locs → lv_has ls maxL lv → W p (mj_l E) e (mj_rm d) s m args below meth c H locs 0 0 (MQ below Q args s 0 0 (mj_P E)) (F0 m pc ls st)
/-- the method's contract -/
def mj_M (E : mj_E) (k : Nat) (y : MethodName) (bytes : ByteArray) (maxL : Nat) (ret : Option FieldType) (av : List Value) (σ : mj_S) (Q : Array Value → State → Outcome → State → Prop) : Prop :=
  ∀ d : Nat, k ≤ d → Met (mj_l E) y (ws_ y bytes maxL ret) (mj_rm d) (va_Pc av (mj_B E σ)) Q 0 0 (mj_P E)
abbrev mj_Qi (E : mj_E) (P : Int32 → mj_S → Prop) := va_Qi P (mj_B E) (mj_P E)
abbrev mj_Ql (E : mj_E) (P : Int64 → mj_S → Prop) := va_Ql P (mj_B E) (mj_P E)
abbrev mj_Qd (E : mj_E) (P : UInt64 → mj_S → Prop) := va_Qd P (mj_B E) (mj_P E)
abbrev mj_Qv (E : mj_E) (P : mj_S → Prop) := va_Qv P (mj_B E) (mj_P E)
theorem mj_enter {E : mj_E} {k : Nat} {y : MethodName} {bytes : ByteArray} {maxL : Nat} {ret : Option FieldType} {av : List Value} {σ : mj_S} {Q : Array Value → State → Outcome → State → Prop} (hE : mj_ok E) (hy : y.cls = RX4) (hn : (lg_sl av).length ≤ maxL) {lv : List (Nat × Value)} (hlv : lv_args 0 av = lv) (h : mj_G E k bytes maxL ret Q 0 lv [] σ) : mj_M E k y bytes maxL ret av σ Q := by
  intro d hd
  refine Met.ofW (cc := bytes) (maxL := maxL) (ret := ret) (by rw [hy]; decide) rfl ?_
  intro p e s m args below meth c s₁ B hml hv
  obtain ⟨rfl, hW, hK⟩ := hv
  have hts := atoms_spec (ws := ws_ y bytes maxL ret) B.pre
  have hown : s.vm.findClass RX4 = some m.cls := by
    have h1 := findClass_of_methodNamed B.named
    rw [hy] at h1
    exact h1
  have hl := lv_entry av (n := maxL) hn
  rw [hlv] at hl
  rw [lg_entry_eq]
  exact h d hd p e s m av.toArray below meth c ⟨B.exec, B.bytes, B.returns, B.notSynchronized, hml, hown, fun w hw => hts w (List.mem_cons_of_mem _ hw), hK, hE⟩ s.heap [] _ hW va_S.rf hl
section MJ
variable {E : mj_E} {bytes : ByteArray} {maxL : Nat} {ret : Option FieldType} {p : Program} {e : Env} {s : State} {m : MethodId} {args : Array Value} {below : List Frame} {meth : Method} {c : Code} {H : Heap} {locs : List Loc} {Q : State → Prop} {d : Nat} {pc : Nat} {ls : Array Slot} {rest : List Value} {σ : mj_S} {H0 : Heap}
theorem mj_fld (hcx : mj_cx E bytes maxL ret p s m args meth c) (hW : mj_W E σ H) (k : Nat) (hk : k < 43) {v : Value} (hv : mj_V (mj_ad E) σ k = v) {index : Nat} (hlink : Cond.fieldLink RX4 index (TX4 k).1 (TX4 k).2.1 (TX4 k).2.2.1 ∈ lw_all) (hdg : decode bytes pc = .ok (.getfield index, 3)) {l : Launch} {R : Room} {cells slots : Nat}
    (kk : W p l e R s m args below meth c H locs cells slots Q (F0 m (pc + 3) ls (v :: rest))) : W p l e R s m args below meth c H locs cells slots Q (F0 m pc ls (.ref (mj_o E) :: rest)) := by
  obtain ⟨hx, hb, -, -, -, hown, hts, ⟨⟨hS, hfc, kC, hkC, hkind⟩, -⟩, -⟩ := hcx
  obtain ⟨⟨cell, q1, q2, q3, q4⟩, -⟩ := hW
  obtain ⟨cf, kf, fi, f, hi, hsl⟩ := hS k hk
  refine W.getf hx hb hown (hts _ hlink) hi (u_facts hfc hkC (u_lays hts in_X4 hk) hi).1 q1 (by rw [q3]; exact fun h => by cases h) (v := v) ?_ rfl rfl hdg kk
  rw [hsl, q4 k hk, hv]
theorem mj_geti (hcx : mj_cx E bytes maxL ret p s m args meth c) (hW : mj_W E σ H) (k : Nat) (hk : k < 43) (hv : mj_ik k = true) {index : Nat} (hlink : Cond.fieldLink RX4 index (TX4 k).1 (TX4 k).2.1 (TX4 k).2.2.1 ∈ lw_all) (hdg : decode bytes pc = .ok (.getfield index, 3)) {l : Launch} {R : Room} {cells slots : Nat}
    (kk : W p l e R s m args below meth c H locs cells slots Q (F0 m (pc + 3) ls (.int (mj_F σ k) :: rest))) : W p l e R s m args below meth c H locs cells slots Q (F0 m pc ls (.ref (mj_o E) :: rest)) :=
  mj_fld hcx hW k hk (by unfold mj_ik at hv; unfold mj_V; split <;> simp_all) hlink hdg kk
theorem mj_geta (hcx : mj_cx E bytes maxL ret p s m args meth c) (hW : mj_W E σ H) (k : Nat) (hk : k < 43) (hv : mj_ar k = true) {index : Nat} (hlink : Cond.fieldLink RX4 index (TX4 k).1 (TX4 k).2.1 (TX4 k).2.2.1 ∈ lw_all) (hdg : decode bytes pc = .ok (.getfield index, 3)) {l : Launch} {R : Room} {cells slots : Nat}
    (kk : W p l e R s m args below meth c H locs cells slots Q (F0 m (pc + 3) ls (.ref (mj_ad E k) :: rest))) : W p l e R s m args below meth c H locs cells slots Q (F0 m pc ls (.ref (mj_o E) :: rest)) :=
  mj_fld hcx hW k hk (by unfold mj_ar at hv; unfold mj_V; split <;> simp_all) hlink hdg kk
theorem mj_getl (hcx : mj_cx E bytes maxL ret p s m args meth c) (hW : mj_W E σ H) {index : Nat} (hlink : Cond.fieldLink RX4 index (TX4 30).1 (TX4 30).2.1 (TX4 30).2.2.1 ∈ lw_all) (hdg : decode bytes pc = .ok (.getfield index, 3)) {l : Launch} {R : Room} {cells slots : Nat}
    (kk : W p l e R s m args below meth c H locs cells slots Q (F0 m (pc + 3) ls (.long (mj_J σ) :: rest))) : W p l e R s m args below meth c H locs cells slots Q (F0 m pc ls (.ref (mj_o E) :: rest)) :=
  mj_fld hcx hW 30 (by decide) rfl hlink hdg kk
theorem mj_put (hcx : mj_cx E bytes maxL ret p s m args meth c) (hW : mj_W E σ H) (hS0 : va_S (mj_P E) H0 H locs) (k : Nat) (hk : k < 43) (hfin : (TX4 k).2.2.2 = false) {v : Value} (hn : narrow (tyX4 k) v = v) (hfit : fits (tyX4 k) v = true) {σ1 : mj_S} (h1 : ∀ j, j < 43 → updV (mj_V (mj_ad E) σ) k v j = mj_V (mj_ad E) σ1 j) (h2 : σ1.2.2 = σ.2.2) {index : Nat} (hlink : Cond.fieldLink RX4 index (TX4 k).1 (TX4 k).2.1 (TX4 k).2.2.1 ∈ lw_all) (hdg : decode bytes pc = .ok (.putfield index, 3)) {l : Launch} {R : Room} {cells slots : Nat}
    (kk : ∀ (H1 : Heap) (locs1 : List Loc), mj_W E σ1 H1 → va_S (mj_P E) H0 H1 locs1 → W p l e R s m args below meth c H1 locs1 cells slots Q (F0 m (pc + 3) ls rest)) : W p l e R s m args below meth c H locs cells slots Q (F0 m pc ls (v :: .ref (mj_o E) :: rest)) := by
  obtain ⟨hx, hb, -, -, -, hown, hts, hK, hE⟩ := hcx
  have hap := va_apart (own := RX4) (ci := 0) hts in_X4 tyX4 tyX4_ok nmX4 (mj_kv hK) rfl
  obtain ⟨⟨hS, hfc, kC, hkC, hkind⟩, -⟩ := hK
  obtain ⟨⟨cell, q1, q2, q3, q4⟩, q5⟩ := hW
  obtain ⟨cf, kf, fi, f, hi, hsl⟩ := hS k hk
  have hlay := hts _ (in_X4 _ (u_in_lay hk))
  unfold u_lay at hlay
  rw [if_neg (by rw [hfin]; decide)] at hlay
  have hst := (u_facts hfc hkC (u_lays hts in_X4 hk) hi).1
  have h6 := u_store hfc hkC hkind hlay hi (tyX4_ok k hk) hn hfit
  refine W.putK hx hb (f := f) ⟨hown, hts _ hlink, ⟨_, _, _, hi⟩, hst⟩ (by rw [q2]; exact h6) q1 q3 (by rw [hsl]; exact k2_hasslot (q4 k hk)) rfl rfl hdg fun H' e1 e2 e3 => ?_
  rw [hsl] at e1 ⊢
  refine kk H' _ ⟨t_OB.to (V := updV (mj_V (mj_ad E) σ) k v) ⟨_, e1, q2, q3, t_set q4 hap hk v⟩ h1, fun j hj => ?_⟩ (hS0.put e2 e3 hE.2.2.1)
  rw [e3 _ (hE.2.1 j hj), q5 j hj]
  simp only [mj_A, h2]
theorem mj_puti (hcx : mj_cx E bytes maxL ret p s m args meth c) (hW : mj_W E σ H) (hS0 : va_S (mj_P E) H0 H locs) (k : Nat) (hk : k < 43) (hi : mj_ik k = true) (hfin : (TX4 k).2.2.2 = false) {v : Int32} (hn : narrow (tyX4 k) (.int v) = .int v) (hfit : fits (tyX4 k) (.int v) = true) {index : Nat} (hlink : Cond.fieldLink RX4 index (TX4 k).1 (TX4 k).2.1 (TX4 k).2.2.1 ∈ lw_all) (hdg : decode bytes pc = .ok (.putfield index, 3)) {l : Launch} {R : Room} {cells slots : Nat}
    (kk : ∀ (H1 : Heap) (locs1 : List Loc), mj_W E (mj_sF σ k v) H1 → va_S (mj_P E) H0 H1 locs1 → W p l e R s m args below meth c H1 locs1 cells slots Q (F0 m (pc + 3) ls rest)) : W p l e R s m args below meth c H locs cells slots Q (F0 m pc ls (.int v :: .ref (mj_o E) :: rest)) := by
  refine mj_put hcx hW hS0 k hk hfin hn hfit (σ1 := mj_sF σ k v) (fun j hj => ?_) rfl hlink hdg kk
  by_cases hjk : j = k
  · subst hjk
    rw [mj_Vi hi]
    simp [updV, mj_FF]
  · simp only [updV, if_neg hjk, mj_V, mj_FF, mj_JF]
theorem mj_putl (hcx : mj_cx E bytes maxL ret p s m args meth c) (hW : mj_W E σ H) (hS0 : va_S (mj_P E) H0 H locs) {v : Int64} {index : Nat} (hlink : Cond.fieldLink RX4 index (TX4 30).1 (TX4 30).2.1 (TX4 30).2.2.1 ∈ lw_all) (hdg : decode bytes pc = .ok (.putfield index, 3)) {l : Launch} {R : Room} {cells slots : Nat}
    (kk : ∀ (H1 : Heap) (locs1 : List Loc), mj_W E (mj_sJ σ v) H1 → va_S (mj_P E) H0 H1 locs1 → W p l e R s m args below meth c H1 locs1 cells slots Q (F0 m (pc + 3) ls rest)) : W p l e R s m args below meth c H locs cells slots Q (F0 m pc ls (.long v :: .ref (mj_o E) :: rest)) := by
  refine mj_put hcx hW hS0 30 (by decide) rfl rfl rfl (σ1 := mj_sJ σ v) (fun j hj => ?_) rfl hlink hdg kk
  by_cases hjk : j = 30
  · subst hjk
    rfl
  · simp only [updV, if_neg hjk, mj_V, mj_FJ, mj_JJ]
    have h30 : tyX4 j ≠ .long := by
      have h43 : ∀ j, j < 43 → j ≠ 30 → tyX4 j ≠ .long := by decide
      exact h43 j hj hjk
    split <;> simp_all
theorem mj_ald (hcx : mj_cx E bytes maxL ret p s m args meth c) (hW : mj_W E σ H) (k : Nat) (hk : mj_ar k = true) (hk2 : mj_cA E k = mj_cI E) {i : Int32} (hin : vp_in i (mj_N k)) (hdg : decode bytes pc = .ok (.iaload, 1)) {l : Launch} {R : Room} {cells slots : Nat}
    (kk : W p l e R s m args below meth c H locs cells slots Q (F0 m (pc + 1) ls (.int (mj_A σ k i.toNatClampNeg) :: rest))) : W p l e R s m args below meth c H locs cells slots Q (F0 m pc ls (.int i :: .ref (mj_ad E k) :: rest)) := by
  obtain ⟨hx, hb, -, -, -, hown, hts, hK, hE⟩ := hcx
  have hlt : i.toNatClampNeg < mj_N k := Nat.not_le.mp fun q => hin (Or.inr q)
  have hc := hW.2 k hk
  rw [hk2] at hc
  exact W.iald (v := .int (mj_A σ k i.toNatClampNeg)) hx hb hc (hK.2.1 _ _) (fun q => by cases q) (by rw [arrV_size]; exact hin) (by rw [arrV_read _ _ hlt]) rfl rfl hdg kk
theorem mj_zld (hcx : mj_cx E bytes maxL ret p s m args meth c) (hW : mj_W E σ H) {i : Int32} (hin : vp_in i (mj_N 37)) (hdg : decode bytes pc = .ok (.baload, 1)) {l : Launch} {R : Room} {cells slots : Nat}
    (kk : W p l e R s m args below meth c H locs cells slots Q (F0 m (pc + 1) ls (.int (mj_A σ 37 i.toNatClampNeg) :: rest))) : W p l e R s m args below meth c H locs cells slots Q (F0 m pc ls (.int i :: .ref (mj_ad E 37) :: rest)) := by
  obtain ⟨hx, hb, -, -, -, hown, hts, hK, hE⟩ := hcx
  have hlt : i.toNatClampNeg < mj_N 37 := Nat.not_le.mp fun q => hin (Or.inr q)
  have hc := hW.2 37 rfl
  rw [show mj_cA E 37 = mj_cZ E from rfl] at hc
  exact W.zald (v := .int (mj_A σ 37 i.toNatClampNeg)) hx hb hc (hK.2.2 _ _) (fun q => by cases q) (by rw [arrV_size]; exact hin) (by rw [arrV_read _ _ hlt]) rfl rfl hdg kk
theorem mj_stW (hE : mj_ok E) (hW : mj_W E σ H) {k : Nat} (hk : mj_ar k = true) {H1 : Heap} {i : Nat} {x : Int32} (h1 : H1[mj_ad E k]? = some ((arrV (mj_cA E k) (mj_N k) (fun j => .int (mj_A σ k j))).setSlot i (.int x))) (oq : ∀ q : Nat, q ≠ mj_ad E k → H1[q]? = H[q]?) : mj_W E (mj_sA σ k i x) H1 := by
  refine ⟨hW.1.kept (oq _ (Ne.symm (hE.2.1 k hk))) |>.to fun j hj => rfl, fun j hj => ?_⟩
  by_cases hjk : j = k
  · subst hjk
    rw [h1, arrV_store]
    congr 2
    funext q
    by_cases hq : q = i
    · subst hq
      simp [updV, mj_AA]
    · simp [updV, mj_AA, hq]
  · rw [oq _ (fun z => hjk (hE.1 j k hj hk z)), hW.2 j hj]
    simp only [mj_AA, if_neg hjk]
theorem mj_ast (hcx : mj_cx E bytes maxL ret p s m args meth c) (hW : mj_W E σ H) (hS0 : va_S (mj_P E) H0 H locs) (k : Nat) (hk : mj_ar k = true) (hk2 : mj_cA E k = mj_cI E) {i x : Int32} (hin : vp_in i (mj_N k)) (hdg : decode bytes pc = .ok (.iastore, 1)) {l : Launch} {R : Room} {cells slots : Nat}
    (kk : ∀ (H1 : Heap) (locs1 : List Loc), mj_W E (mj_sA σ k i.toNatClampNeg x) H1 → va_S (mj_P E) H0 H1 locs1 → W p l e R s m args below meth c H1 locs1 cells slots Q (F0 m (pc + 1) ls rest)) : W p l e R s m args below meth c H locs cells slots Q (F0 m pc ls (.int x :: .int i :: .ref (mj_ad E k) :: rest)) := by
  obtain ⟨hx, hb, -, -, -, hown, hts, hK, hE⟩ := hcx
  have hc := hW.2 k hk
  have hA : s.isArrayOf (arrV (mj_cA E k) (mj_N k) (fun j => .int (mj_A σ k j))) .int := by rw [hk2]; exact hK.2.1 _ _
  refine W.iast hx hb hc hA (fun q => by cases q) (by rw [arrV_size]; exact hin) rfl rfl hdg fun H1 e z oq => ?_
  exact kk H1 _ (mj_stW hE hW hk e oq) (hS0.put z oq (hE.2.2.2 k hk))
theorem mj_zst (hcx : mj_cx E bytes maxL ret p s m args meth c) (hW : mj_W E σ H) (hS0 : va_S (mj_P E) H0 H locs) {i x : Int32} (hin : vp_in i (mj_N 37)) (hx0 : narrow .boolean (.int x) = .int x) (hdg : decode bytes pc = .ok (.bastore, 1)) {l : Launch} {R : Room} {cells slots : Nat}
    (kk : ∀ (H1 : Heap) (locs1 : List Loc), mj_W E (mj_sA σ 37 i.toNatClampNeg x) H1 → va_S (mj_P E) H0 H1 locs1 → W p l e R s m args below meth c H1 locs1 cells slots Q (F0 m (pc + 1) ls rest)) : W p l e R s m args below meth c H locs cells slots Q (F0 m pc ls (.int x :: .int i :: .ref (mj_ad E 37) :: rest)) := by
  obtain ⟨hx, hb, -, -, -, hown, hts, hK, hE⟩ := hcx
  have hc := hW.2 37 rfl
  have hA : s.isArrayOf (arrV (mj_cA E 37) (mj_N 37) (fun j => .int (mj_A σ 37 j))) .boolean := hK.2.2 _ _
  refine W.zast hx hb hc hA (fun q => by cases q) (by rw [arrV_size]; exact hin) rfl rfl hdg fun H1 e z oq => ?_
  rw [hx0] at e
  exact kk H1 _ (mj_stW hE hW rfl e oq) (hS0.put z oq (hE.2.2.2 37 rfl))
theorem mj_blind (E : mj_E) (σ : mj_S) (av : List Value) : FrameBlind (va_Pc av (mj_B E σ)) := fun a U g mk q => ⟨q.1, q.2.1, mj_K_moved (u := U) (U := U.calling g mk a) (Vm.Alike.refl U.vm) q.2.2⟩
theorem mj_preV {E : mj_E} (hcx : mj_cx E bytes maxL ret p s m args meth c) (hW : mj_W E σ H) (As : List Value) : PreV s H RX4 (mj_o E) (va_Pc (.ref (mj_o E) :: As) (mj_B E σ)) As := by
  obtain ⟨hx, hb, -, -, -, hown, hts, hK, hE⟩ := hcx
  refine ⟨mj_blind E σ _, ?_, fun U hU hW' => ⟨rfl, by rw [hU]; exact hW, mj_K_moved hW'.alike hK⟩⟩
  obtain ⟨⟨cell, q1, q2, q3, q4⟩, -⟩ := hW
  exact ⟨cell, q1, by rw [q3]; rfl, by rw [q2]; exact hK.1.2.1⟩
theorem mj_preS {E : mj_E} (hcx : mj_cx E bytes maxL ret p s m args meth c) (hW : mj_W E σ H) (As : List Value) : PreS s H (va_Pc As (mj_B E σ)) As := by
  obtain ⟨hx, hb, -, -, -, hown, hts, hK, hE⟩ := hcx
  exact ⟨mj_blind E σ _, fun U hU hW' => ⟨rfl, by rw [hU]; exact hW, mj_K_moved hW'.alike hK⟩⟩
theorem mj_runV {Q0 : Array Value → State → Outcome → State → Prop} (hcx : mj_cx E bytes maxL ret p s m args meth c) (hW : mj_W E σ H) {k n L index : Nat} {y : MethodName} {b : ByteArray} {r : Option FieldType} (As : List Value) (hM : mj_M E k y b L r (.ref (mj_o E) :: As) σ Q0) (hkd : k + 1 ≤ d) (hG : GoodIn lw_all (wsV RX4 index RX4 y (ws_ y b L r))) (hd : y.cls = RX4 ∧ y.cls ≠ "java/lang/invoke/MethodHandle" ∧ y.cls ≠ "java/lang/invoke/VarHandle" ∧ (parseMethodDescriptor y.desc).map (fun d => d.parameters.length) = some n) (hL : L ≤ 45) (hn : As.length = n) {st0 : List Value} (hst : st0 = As.reverse ++ .ref (mj_o E) :: rest) (hroom : (rest.map fun v => v.category).sum ≤ 8) (hsz : ls.size = maxL) (hdg : decode bytes pc = .ok (.invokevirtual index, 3)) :
    va_Run p (mj_l E) e (mj_rm d) s m args below meth c H locs 0 0 0 0 (F0 m pc ls st0) rest (Q0 (.ref (mj_o E) :: As).toArray) (mj_P E) := by
  have hcx0 := hcx
  obtain ⟨hx, hb, -, -, hml, hown, hts, hK, hE⟩ := hcx
  have hd1 : k ≤ d - 1 := by omega
  have hcw : CallW (mj_rm d) s args RX4 RX4 index y b L r (ws_ y b L r) (mj_rm (d - 1)) 0 0 n := cwV n hts hG rfl rfl rfl hd ⟨by show d - 1 + 1 + 1 ≤ d + 1; omega, by show 8 + (L + 11) + (12000 + 64 * (d - 1 + 1)) ≤ (12000 + 64 * (d + 1)); omega⟩
  exact va_runV (As := As) (rest := rest) ⟨hx, hb, hml, hown, hts⟩ (hM (d - 1) hd1) hcw (mj_preV hcx0 hW As) rfl hn hsz hst (lv_room hroom) hdg ⟨Nat.le_refl 0, Nat.le_refl 0⟩
theorem mj_runS {Q0 : Array Value → State → Outcome → State → Prop} (hcx : mj_cx E bytes maxL ret p s m args meth c) (hW : mj_W E σ H) {k n L index : Nat} {y : MethodName} {b : ByteArray} {r : Option FieldType} (As : List Value) (hM : mj_M E k y b L r As σ Q0) (hkd : k + 1 ≤ d) (hG : GoodIn lw_all (va_wsS RX4 index y (ws_ y b L r))) (hd : y.cls ≠ "java/lang/invoke/MethodHandle" ∧ y.cls ≠ "java/lang/invoke/VarHandle" ∧ (parseMethodDescriptor y.desc).map (fun d => d.parameters.length) = some n) (hL : L ≤ 45) (hn : As.length = n) {st0 : List Value} (hst : st0 = As.reverse ++ rest) (hroom : (rest.map fun v => v.category).sum ≤ 8) (hsz : ls.size = maxL) (hdg : decode bytes pc = .ok (.invokestatic index, 3)) :
    va_Run p (mj_l E) e (mj_rm d) s m args below meth c H locs 0 0 0 0 (F0 m pc ls st0) rest (Q0 As.toArray) (mj_P E) := by
  have hcx0 := hcx
  obtain ⟨hx, hb, -, -, hml, hown, hts, hK, hE⟩ := hcx
  have hd1 : k ≤ d - 1 := by omega
  have hcw := va_cwS (R := mj_rm d) (s := s) (args := args) (own := RX4) (index := index) (y := y) (bytes := b) (maxL := L) (ret := r) (ws := ws_ y b L r) (rm := mj_rm (d - 1)) n hts hG rfl rfl rfl hd ⟨by show d - 1 + 1 + 1 ≤ d + 1; omega, by show 8 + (L + 11) + (12000 + 64 * (d - 1 + 1)) ≤ (12000 + 64 * (d + 1)); omega⟩
  exact va_runS (As := As) (rest := rest) ⟨hx, hb, hml, hown, hts⟩ (hM (d - 1) hd1) hcw (mj_preS hcx0 hW As) rfl hn hsz hst (lv_room hroom) hdg ⟨Nat.le_refl 0, Nat.le_refl 0⟩
theorem mj_ci {P : Int32 → mj_S → Prop} {a : Array Value} {st0 : List Value} (hr : va_Run p (mj_l E) e (mj_rm d) s m args below meth c H locs 0 0 0 0 (F0 m pc ls st0) rest (mj_Qi E P a) (mj_P E)) (hS : va_S (mj_P E) H0 H locs)
    (kk : ∀ (r : Int32) (σ1 : mj_S), P r σ1 → ∀ (H1 : Heap) (locs1 : List Loc), mj_W E σ1 H1 → va_S (mj_P E) H0 H1 locs1 → W p (mj_l E) e (mj_rm d) s m args below meth c H1 locs1 0 0 Q (F0 m (pc + 3) ls (.int r :: rest))) : W p (mj_l E) e (mj_rm d) s m args below meth c H locs 0 0 Q (F0 m pc ls st0) :=
  va_calli hr hS (fun _ _ h => h) (fun _ h => h) (fun r u t H1 locs1 ht _ hp hB _ _ hS => kk r u hp H1 locs1 (by rw [← ht]; exact hB.1) hS)
theorem mj_cd {P : UInt64 → mj_S → Prop} {a : Array Value} {st0 : List Value} (hr : va_Run p (mj_l E) e (mj_rm d) s m args below meth c H locs 0 0 0 0 (F0 m pc ls st0) rest (mj_Qd E P a) (mj_P E)) (hS : va_S (mj_P E) H0 H locs)
    (kk : ∀ (r : UInt64) (σ1 : mj_S), P r σ1 → ∀ (H1 : Heap) (locs1 : List Loc), mj_W E σ1 H1 → va_S (mj_P E) H0 H1 locs1 → W p (mj_l E) e (mj_rm d) s m args below meth c H1 locs1 0 0 Q (F0 m (pc + 3) ls (.double r :: rest))) : W p (mj_l E) e (mj_rm d) s m args below meth c H locs 0 0 Q (F0 m pc ls st0) :=
  va_calld hr hS (fun _ _ h => h) (fun _ h => h) (fun r u t H1 locs1 ht _ hp hB _ _ hS => kk r u hp H1 locs1 (by rw [← ht]; exact hB.1) hS)
theorem mj_cl {P : Int64 → mj_S → Prop} {a : Array Value} {st0 : List Value} (hr : va_Run p (mj_l E) e (mj_rm d) s m args below meth c H locs 0 0 0 0 (F0 m pc ls st0) rest (mj_Ql E P a) (mj_P E)) (hS : va_S (mj_P E) H0 H locs)
    (kk : ∀ (r : Int64) (σ1 : mj_S), P r σ1 → ∀ (H1 : Heap) (locs1 : List Loc), mj_W E σ1 H1 → va_S (mj_P E) H0 H1 locs1 → W p (mj_l E) e (mj_rm d) s m args below meth c H1 locs1 0 0 Q (F0 m (pc + 3) ls (.long r :: rest))) : W p (mj_l E) e (mj_rm d) s m args below meth c H locs 0 0 Q (F0 m pc ls st0) :=
  va_calll hr hS (fun _ _ h => h) (fun _ h => h) (fun r u t H1 locs1 ht _ hp hB _ _ hS => kk r u hp H1 locs1 (by rw [← ht]; exact hB.1) hS)
theorem mj_cv {P : mj_S → Prop} {a : Array Value} {st0 : List Value} (hr : va_Run p (mj_l E) e (mj_rm d) s m args below meth c H locs 0 0 0 0 (F0 m pc ls st0) rest (mj_Qv E P a) (mj_P E)) (hS : va_S (mj_P E) H0 H locs)
    (kk : ∀ (σ1 : mj_S), P σ1 → ∀ (H1 : Heap) (locs1 : List Loc), mj_W E σ1 H1 → va_S (mj_P E) H0 H1 locs1 → W p (mj_l E) e (mj_rm d) s m args below meth c H1 locs1 0 0 Q (F0 m (pc + 3) ls rest)) : W p (mj_l E) e (mj_rm d) s m args below meth c H locs 0 0 Q (F0 m pc ls st0) :=
  va_callv hr hS (fun _ _ h => h) (fun _ h => h) (fun u t H1 locs1 ht _ hp hB _ _ hS => kk u hp H1 locs1 (by rw [← ht]; exact hB.1) hS)
theorem mj_reti {P : Int32 → mj_S → Prop} {v : Int32} {ty : FieldType} (hcx : mj_cx E bytes maxL (some ty) p s m args meth c) (hW : mj_W E σ H) (hS : va_S (mj_P E) s.heap H locs) (hn : narrow ty (.int v) = .int v) (hp : P v σ) (hdg : decode bytes pc = .ok (.ireturn, 1)) : W p (mj_l E) e (mj_rm d) s m args below meth c H locs 0 0 (MQ below (mj_Qi E P) args s 0 0 (mj_P E)) (F0 m pc ls [.int v]) :=
  W.zret (v := v) hcx.1 hcx.2.1 hcx.2.2.1 hn (fun t ht hW' => ⟨⟨v, σ, rfl, hp, by rw [ht]; exact hW, mj_K_moved hW'.alike hcx.2.2.2.2.2.2.2.1⟩, hS.F ht⟩) hS.2.2 hdg hcx.2.2.2.1
theorem mj_retl {P : Int64 → mj_S → Prop} {v : Int64} (hcx : mj_cx E bytes maxL (some .long) p s m args meth c) (hW : mj_W E σ H) (hS : va_S (mj_P E) s.heap H locs) (hp : P v σ) (hdg : decode bytes pc = .ok (.lreturn, 1)) : W p (mj_l E) e (mj_rm d) s m args below meth c H locs 0 0 (MQ below (mj_Ql E P) args s 0 0 (mj_P E)) (F0 m pc ls [.long v]) :=
  W.lret (v := v) hcx.1 hcx.2.1 hcx.2.2.1 (fun t ht hW' => ⟨⟨v, σ, rfl, hp, by rw [ht]; exact hW, mj_K_moved hW'.alike hcx.2.2.2.2.2.2.2.1⟩, hS.F ht⟩) hS.2.2 hdg hcx.2.2.2.1
theorem mj_retd {P : UInt64 → mj_S → Prop} {v : UInt64} (hcx : mj_cx E bytes maxL (some .double) p s m args meth c) (hW : mj_W E σ H) (hS : va_S (mj_P E) s.heap H locs) (hp : P v σ) (hdg : decode bytes pc = .ok (.dreturn, 1)) : W p (mj_l E) e (mj_rm d) s m args below meth c H locs 0 0 (MQ below (mj_Qd E P) args s 0 0 (mj_P E)) (F0 m pc ls [.double v]) :=
  W.dret (v := v) hcx.1 hcx.2.1 hcx.2.2.1 (fun t ht hW' => ⟨⟨v, σ, rfl, hp, by rw [ht]; exact hW, mj_K_moved hW'.alike hcx.2.2.2.2.2.2.2.1⟩, hS.F ht⟩) hS.2.2 hdg hcx.2.2.2.1
theorem mj_retv {P : mj_S → Prop} (hcx : mj_cx E bytes maxL none p s m args meth c) (hW : mj_W E σ H) (hS : va_S (mj_P E) s.heap H locs) (hp : P σ) (hdg : decode bytes pc = .ok (.return_, 1)) : W p (mj_l E) e (mj_rm d) s m args below meth c H locs 0 0 (MQ below (mj_Qv E P) args s 0 0 (mj_P E)) (F0 m pc ls []) :=
  W.vret hcx.1 hcx.2.1 hcx.2.2.1 (fun t ht hW' => ⟨⟨σ, rfl, hp, by rw [ht]; exact hW, mj_K_moved hW'.alike hcx.2.2.2.2.2.2.2.1⟩, hS.F ht⟩) hS.2.2 hdg hcx.2.2.2.1
theorem mj_mmax (hcx : mj_cx E bytes maxL ret p s m args meth c) (hsz : ls.size = maxL) {index : Nat} (hlink : Cond.methodLink RX4 index Lib.Math.max.name ∈ lw_all) (hroom : (rest.map fun v => v.category).sum + 13 ≤ 64) {x y : Int32} (hdg : decode bytes pc = .ok (.invokestatic index, 3))
    (kk : W p (mj_l E) e (mj_rm d) s m args below meth c H locs 0 0 Q (F0 m (pc + 3) ls (.int (if x < y then y else x) :: rest))) : W p (mj_l E) e (mj_rm d) s m args below meth c H locs 0 0 Q (F0 m pc ls (.int y :: .int x :: rest)) := by
  obtain ⟨hx, hb, -, -, hml, hown, hts, hK, hE⟩ := hcx
  exact va_mmax hx hb (by rw [hml, hsz]) hown (hts _ hlink) (hts _ q667) (hts _ q139) (hts _ q668) (by show 1 ≤ d + 1; omega) (by show _ ≤ (12000 + 64 * (d + 1)); omega) (Nat.zero_le _) (Nat.zero_le _) hdg kk
end MJ
