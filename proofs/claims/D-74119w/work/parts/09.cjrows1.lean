/-! THE SYSTEM'S LAYER: a row an instruction over the typed store -/
set_option maxRecDepth 100000
theorem cj_rf {r : Option Nat} {a : Nat} (h : r = some a) : va_rf r = .ref a := by rw [h]; rfl
theorem cj_cat (r : Option Nat) : (va_rf r).category = 1 := by cases r <;> rfl
theorem cj_T_sF (σ : cj_S) (k a : Nat) (v : Int32) (b : Nat) : cj_T (cj_sF σ k a v) b = cj_T σ b := rfl
theorem cj_setI {σ : cj_S} {a ci k : Nat} {x : Int32} (hk : cj_ik ci k = true) : (cj_fs σ a ci).set k (.int x) = cj_fs (cj_sF σ (100 * (ci + 1) + k) a x) a ci := by
  refine cj_fsset fun j hj => ?_
  by_cases h : j = k
  · subst h
    rw [if_pos rfl, cj_vi hk]
    simp [cj_F, cj_sF, cj_u2]
  · rw [if_neg h]
    rcases cj_vcase ci j with h1 | h1 | h1
    · rw [cj_vi h1, cj_vi h1]
      simp [cj_F, cj_sF, cj_u2, h]
    · rw [cj_vr h1, cj_vr h1]; rfl
    · rw [cj_vl h1, cj_vl h1]; rfl
theorem cj_setR {σ : cj_S} {a ci k : Nat} {x : Option Nat} (hk : cj_rk ci k = true) : (cj_fs σ a ci).set k (va_rf x) = cj_fs (cj_sR σ (100 * (ci + 1) + k) a x) a ci := by
  refine cj_fsset fun j hj => ?_
  by_cases h : j = k
  · subst h
    rw [if_pos rfl, cj_vr hk]
    simp [cj_R, cj_sR, cj_u2]
  · rw [if_neg h]
    rcases cj_vcase ci j with h1 | h1 | h1
    · rw [cj_vi h1, cj_vi h1]; rfl
    · rw [cj_vr h1, cj_vr h1]
      simp [cj_R, cj_sR, cj_u2, h]
    · rw [cj_vl h1, cj_vl h1]; rfl
theorem cj_setJ {σ : cj_S} {a k : Nat} {x : Int64} (hk : cj_lk 0 k = true) (hu : ∀ j, j < cj_n 0 → j ≠ k → cj_lk 0 j = false) : (cj_fs σ a 0).set k (.long x) = cj_fs (cj_sJ σ a x) a 0 := by
  refine cj_fsset fun j hj => ?_
  by_cases h : j = k
  · subst h
    rw [if_pos rfl, cj_vl hk]
    simp [cj_J, cj_sJ]
  · rw [if_neg h]
    rcases cj_vcase 0 j with h1 | h1 | h1
    · rw [cj_vi h1, cj_vi h1]; rfl
    · rw [cj_vr h1, cj_vr h1]; rfl
    · rw [hu j hj h] at h1; cases h1
theorem cj_e_F {E : cj_E} {σ : cj_S} {k a b : Nat} {x : Int32} (h : b ≠ a) : cj_e E (cj_sF σ k a x) b = cj_e E σ b := cj_e_eq rfl rfl (fun j => by simp [cj_F, cj_sF, cj_u2, h]) (fun _ => rfl) rfl rfl rfl
theorem cj_e_R {E : cj_E} {σ : cj_S} {k a b : Nat} {x : Option Nat} (h : b ≠ a) : cj_e E (cj_sR σ k a x) b = cj_e E σ b := cj_e_eq rfl rfl (fun _ => rfl) (fun j => by simp [cj_R, cj_sR, cj_u2, h]) rfl rfl rfl
theorem cj_e_J {E : cj_E} {σ : cj_S} {a b : Nat} {x : Int64} (h : b ≠ a) : cj_e E (cj_sJ σ a x) b = cj_e E σ b := cj_e_eq rfl rfl (fun _ => rfl) (fun _ => rfl) (by simp [cj_J, cj_sJ, h]) rfl rfl
theorem cj_e_A {E : cj_E} {σ : cj_S} {a b : Nat} {f : Nat → Int32} (h : b ≠ a) : cj_e E (cj_mA σ a f) b = cj_e E σ b := cj_e_eq rfl rfl (fun _ => rfl) (fun _ => rfl) rfl (by funext i; simp [cj_A, cj_mA, h]) rfl
theorem cj_e_B {E : cj_E} {σ : cj_S} {a b : Nat} {f : Nat → Option Nat} (h : b ≠ a) : cj_e E (cj_mB σ a f) b = cj_e E σ b := cj_e_eq rfl rfl (fun _ => rfl) (fun _ => rfl) rfl rfl (by funext i; simp [cj_B, cj_mB, h])
theorem cj_e_mk {E : cj_E} {σ : cj_S} {q t n b : Nat} {fa : Nat → Int32} {fb : Nat → Option Nat} (h : b ≠ q) : cj_e E (cj_mk σ q t n fa fb) b = cj_e E σ b := cj_e_eq (by simp [cj_T, cj_mk, h]) (by simp [cj_N, cj_mk, h]) (fun _ => by simp [cj_F, cj_mk, h]) (fun _ => by simp [cj_R, cj_mk, h]) (by simp [cj_J, cj_mk, h]) (by funext i; simp [cj_A, cj_mk, h]) (by funext i; simp [cj_B, cj_mk, h])
theorem cj_sA_m (σ : cj_S) (a i : Nat) (v : Int32) : cj_sA σ a i v = cj_mA σ a (upd (cj_A σ a) i v) := by
  unfold cj_sA cj_mA
  refine congrArg (fun z => (σ.1, σ.2.1, σ.2.2.1, σ.2.2.2.1, σ.2.2.2.2.1, z, σ.2.2.2.2.2.2)) ?_
  funext x y
  by_cases hx : x = a
  · subst hx
    by_cases hy : y = i
    · simp [cj_u2, hy, upd]
    · simp [cj_u2, hy, upd, cj_A]
  · simp [cj_u2, hx]
theorem cj_sB_m (σ : cj_S) (a i : Nat) (v : Option Nat) : cj_sB σ a i v = cj_mB σ a (va_up (cj_B σ a) i v) := by
  unfold cj_sB cj_mB
  refine congrArg (fun z => (σ.1, σ.2.1, σ.2.2.1, σ.2.2.2.1, σ.2.2.2.2.1, σ.2.2.2.2.2.1, z)) ?_
  funext x y
  by_cases hx : x = a
  · subst hx
    by_cases hy : y = i
    · simp [cj_u2, hy, va_up]
    · simp [cj_u2, hy, va_up, cj_B]
  · simp [cj_u2, hx]
theorem cj_mA_self (σ : cj_S) (a : Nat) (f : Nat → Int32) : cj_A (cj_mA σ a f) a = f := by funext i; simp [cj_A, cj_mA]
theorem cj_mB_self (σ : cj_S) (a : Nat) (f : Nat → Option Nat) : cj_B (cj_mB σ a f) a = f := by funext i; simp [cj_B, cj_mB]
section CJ
variable {E : cj_E} {y : MethodName} {bytes : ByteArray} {maxL : Nat} {ret : Option FieldType} {p : Program} {e : Env} {s : State} {m : MethodId} {args : Array Value} {below : List Frame} {meth : Method} {c : Code} {H : Heap} {locs : List Loc} {Q : State → Prop} {d : Nat} {pc : Nat} {ls : Array Slot} {rest : List Value} {σ : cj_S} {H0 : Heap} {l : Launch} {R : Room} {cells slots : Nat} {a : Nat}
theorem cj_fld (hcx : cj_cx E y bytes maxL ret p s m args meth c) (hW : cj_W E σ H) (ci : Nat) (hT : cj_T σ a = ci + 1) (h19 : ci < 19) {C : String} {T : u_T} {N : Nat} (hc : cj_cl[ci]? = some (C, T, N)) (hin : ∀ w ∈ u_ws C T N, w ∈ lw_all) (k : Nat) (hk : k < N) (hk2 : k < cj_n ci) {index : Nat} (hlink : Cond.fieldLink y.cls index (T k).1 (T k).2.1 (T k).2.2.1 ∈ lw_all) (hdg : decode bytes pc = .ok (.getfield index, 3)) {v : Value} (hv : cj_v σ a ci k = v)
    (kk : W p l e R s m args below meth c H locs cells slots Q (F0 m (pc + 3) ls (v :: rest))) : W p l e R s m args below meth c H locs cells slots Q (F0 m pc ls (.ref a :: rest)) := by
  obtain ⟨hx, hb, -, -, -, hown, hts, hK, -⟩ := hcx
  obtain ⟨ws, hP, hD, hl, hr⟩ := cj_list hW
  obtain ⟨q0, hq⟩ := hl a (by omega)
  rw [cj_eo hT h19] at hq
  exact va_get hx hb hts hin hown hK.1 hP q0 hq hc k hk (hts _ hlink) (fun _ h => h) (by rw [cj_fsget _ _ _ hk2, hv]) hdg kk
theorem cj_fldN (hcx : cj_cx E y bytes maxL ret p s m args meth c) (hW : cj_W E σ H) (ci : Nat) (hT : cj_T σ a = ci + 1) (h19 : ci < 19) {C host : String} {T : u_T} {N : Nat} (hc : cj_cl[ci]? = some (C, T, N)) (hin : ∀ w ∈ u_ws C T N, w ∈ lw_all) (k : Nat) (hk : k < N) (hk2 : k < cj_n ci) {index : Nat} (hlink : (y.cls, index, (T k).1, (T k).2.1, (T k).2.2.1, host) ∈ cj_nF) (hdg : decode bytes pc = .ok (.getfield index, 3)) {v : Value} (hv : cj_v σ a ci k = v)
    (kk : W p l e R s m args below meth c H locs cells slots Q (F0 m (pc + 3) ls (v :: rest))) : W p l e R s m args below meth c H locs cells slots Q (F0 m pc ls (.ref a :: rest)) := by
  obtain ⟨hx, hb, -, -, -, hown, hts, hK, -⟩ := hcx
  obtain ⟨ws, hP, hD, hl, hr⟩ := cj_list hW
  obtain ⟨q0, hq⟩ := hl a (by omega)
  rw [cj_eo hT h19] at hq
  exact va_getN hx hb hts hin hown hK.1 hP q0 hq hc k hk (va_Nw.use rfl (hK.2.1 _ hlink)) (fun _ h => h) (by rw [cj_fsget _ _ _ hk2, hv]) hdg kk
/-- a field's store, its effect on the store: one of cj_pI, cj_pR, cj_pJ -/
def cj_eff (σ σ1 : cj_S) (a ci k : Nat) (v : Value) : Prop := (∀ b, cj_T σ1 b = cj_T σ b) ∧ (cj_fs σ a ci).set k v = cj_fs σ1 a ci ∧ ∀ (E : cj_E) (b : Nat), b ≠ a → cj_e E σ1 b = cj_e E σ b
theorem cj_pI {ci k : Nat} {x : Int32} (hk : cj_ik ci k = true) : cj_eff σ (cj_sF σ (100 * (ci + 1) + k) a x) a ci k (.int x) := ⟨fun _ => rfl, cj_setI hk, fun _ _ h => cj_e_F h⟩
theorem cj_pR {ci k : Nat} {x : Option Nat} (hk : cj_rk ci k = true) : cj_eff σ (cj_sR σ (100 * (ci + 1) + k) a x) a ci k (va_rf x) := ⟨fun _ => rfl, cj_setR hk, fun _ _ h => cj_e_R h⟩
theorem cj_pJ {k : Nat} {x : Int64} (hk : cj_lk 0 k = true) (hu : ∀ j, j < cj_n 0 → j ≠ k → cj_lk 0 j = false) : cj_eff σ (cj_sJ σ a x) a 0 k (.long x) := ⟨fun _ => rfl, cj_setJ hk hu, fun _ _ h => cj_e_J h⟩
theorem cj_put (hcx : cj_cx E y bytes maxL ret p s m args meth c) (hW : cj_W E σ H) (hS : va_S (cj_P E) s.heap H locs) (ci : Nat) (hT : cj_T σ a = ci + 1) (h19 : ci < 19) {C : String} {T : u_T} {N : Nat} (hc : cj_cl[ci]? = some (C, T, N)) (hin : ∀ w ∈ u_ws C T N, w ∈ lw_all) (hty : ∀ k, k < N → parseFieldDescriptor (T k).2.2.1 = some (cj_ty ci k)) (hnm : ∀ a, a < N → ∀ b, b < N → a ≠ b → (T a).2.1 ≠ (T b).2.1) (k : Nat) (hk : k < N) (hk2 : k < cj_n ci) (hfin : (T k).2.2.2 = false) {v : Value} (hn : narrow (cj_ty ci k) v = v) (hfit : fits (cj_ty ci k) v = true) {σ1 : cj_S} (hp : cj_eff σ σ1 a ci k v) {index : Nat} (hlink : Cond.fieldLink y.cls index (T k).1 (T k).2.1 (T k).2.2.1 ∈ lw_all) (hdg : decode bytes pc = .ok (.putfield index, 3))
    (kk : ∀ (H1 : Heap) (locs1 : List Loc), cj_W E (σ1) H1 → va_S (cj_P E) s.heap H1 locs1 → W p l e R s m args below meth c H1 locs1 cells slots Q (F0 m (pc + 3) ls (rest))) : W p l e R s m args below meth c H locs cells slots Q (F0 m pc ls (v :: .ref a :: rest)) := by
  have hW0 := hW
  obtain ⟨hx, hb, -, -, hml, hown, hts, hK, hA, hnm0, hz⟩ := hcx
  obtain ⟨ws, hP, hD, hl, hr⟩ := cj_list hW
  obtain ⟨q0, hq⟩ := hl a (by omega)
  have hq' := hq
  rw [cj_eo hT h19] at hq'
  refine va_put hx hb hts hin (cj_ty ci) hty hnm hown hK.1 hP hD hS q0 hq' hc k hk (hts _ hlink) (fun _ h => h) hfin (hty k hk) hn hfit (by rw [cj_fslen]; exact hk2) hdg fun H1 locs1 hP1 hD1 hS1 => ?_
  exact kk H1 locs1 (cj_after hD hl hq hP1 hD1 (cj_hb hz hW0 hS hS1) hp.1 (by rw [cj_eo ((hp.1 a).trans hT) h19, ← hp.2.1]) (fun b hb => hp.2.2 E b hb)) hS1
theorem cj_putF (hcx : cj_cx E y bytes maxL ret p s m args meth c) (hW : cj_W E σ H) (hS : va_S (cj_P E) s.heap H locs) (ci : Nat) (hT : cj_T σ a = ci + 1) (h19 : ci < 19) {C : String} {T : u_T} {N : Nat} (hc : cj_cl[ci]? = some (C, T, N)) (hin : ∀ w ∈ u_ws C T N, w ∈ lw_all) (hty : ∀ k, k < N → parseFieldDescriptor (T k).2.2.1 = some (cj_ty ci k)) (hnm : ∀ a, a < N → ∀ b, b < N → a ≠ b → (T a).2.1 ≠ (T b).2.1) (k : Nat) (hk : k < N) (hk2 : k < cj_n ci) (hfin : (T k).2.2.2 = true) (hin2 : y.name = "<init>") (hdecl : (T k).1 = y.cls) {v : Value} (hn : narrow (cj_ty ci k) v = v) (hfit : fits (cj_ty ci k) v = true) {σ1 : cj_S} (hp : cj_eff σ σ1 a ci k v) {index : Nat} (hlink : Cond.fieldLink y.cls index (T k).1 (T k).2.1 (T k).2.2.1 ∈ lw_all) (hdg : decode bytes pc = .ok (.putfield index, 3))
    (kk : ∀ (H1 : Heap) (locs1 : List Loc), cj_W E (σ1) H1 → va_S (cj_P E) s.heap H1 locs1 → W p l e R s m args below meth c H1 locs1 cells slots Q (F0 m (pc + 3) ls (rest))) : W p l e R s m args below meth c H locs cells slots Q (F0 m pc ls (v :: .ref a :: rest)) := by
  have hW0 := hW
  obtain ⟨hx, hb, -, -, hml, hown, hts, hK, hA, hnm0, hz⟩ := hcx
  obtain ⟨ws, hP, hD, hl, hr⟩ := cj_list hW
  obtain ⟨q0, hq⟩ := hl a (by omega)
  have hq' := hq
  rw [cj_eo hT h19] at hq'
  refine va_putF hx hb hts hin (cj_ty ci) hty hnm hown hK.1 hP hD hS q0 hq' hc k hk (hts _ hlink) (fun _ h => h) hfin (hnm0.trans hin2) hdecl (hty k hk) hn hfit (by rw [cj_fslen]; exact hk2) hdg fun H1 locs1 hP1 hD1 hS1 => ?_
  exact kk H1 locs1 (cj_after hD hl hq hP1 hD1 (cj_hb hz hW0 hS hS1) hp.1 (by rw [cj_eo ((hp.1 a).trans hT) h19, ← hp.2.1]) (fun b hb => hp.2.2 E b hb)) hS1
theorem cj_putN (hcx : cj_cx E y bytes maxL ret p s m args meth c) (hW : cj_W E σ H) (hS : va_S (cj_P E) s.heap H locs) (ci : Nat) (hT : cj_T σ a = ci + 1) (h19 : ci < 19) {C : String} {T : u_T} {N : Nat} (hc : cj_cl[ci]? = some (C, T, N)) (hin : ∀ w ∈ u_ws C T N, w ∈ lw_all) (hty : ∀ k, k < N → parseFieldDescriptor (T k).2.2.1 = some (cj_ty ci k)) (hnm : ∀ a, a < N → ∀ b, b < N → a ≠ b → (T a).2.1 ≠ (T b).2.1) (k : Nat) (hk : k < N) (hk2 : k < cj_n ci) (hfin : (T k).2.2.2 = false) {v : Value} (hn : narrow (cj_ty ci k) v = v) (hfit : fits (cj_ty ci k) v = true) {σ1 : cj_S} (hp : cj_eff σ σ1 a ci k v) {index : Nat} {host : String} (hlink : (y.cls, index, (T k).1, (T k).2.1, (T k).2.2.1, host) ∈ cj_nF) (hdg : decode bytes pc = .ok (.putfield index, 3))
    (kk : ∀ (H1 : Heap) (locs1 : List Loc), cj_W E (σ1) H1 → va_S (cj_P E) s.heap H1 locs1 → W p l e R s m args below meth c H1 locs1 cells slots Q (F0 m (pc + 3) ls (rest))) : W p l e R s m args below meth c H locs cells slots Q (F0 m pc ls (v :: .ref a :: rest)) := by
  have hW0 := hW
  obtain ⟨hx, hb, -, -, hml, hown, hts, hK, hA, hnm0, hz⟩ := hcx
  obtain ⟨ws, hP, hD, hl, hr⟩ := cj_list hW
  obtain ⟨q0, hq⟩ := hl a (by omega)
  have hq' := hq
  rw [cj_eo hT h19] at hq'
  refine va_putN hx hb hts hin (cj_ty ci) hty hnm hown hK.1 hP hD hS q0 hq' hc k hk (va_Nw.use rfl (hK.2.1 _ hlink)) (fun _ h => h) hfin (hty k hk) hn hfit (by rw [cj_fslen]; exact hk2) hdg fun H1 locs1 hP1 hD1 hS1 => ?_
  exact kk H1 locs1 (cj_after hD hl hq hP1 hD1 (cj_hb hz hW0 hS hS1) hp.1 (by rw [cj_eo ((hp.1 a).trans hT) h19, ← hp.2.1]) (fun b hb => hp.2.2 E b hb)) hS1
theorem cj_iald (hcx : cj_cx E y bytes maxL ret p s m args meth c) (hW : cj_W E σ H) (hT : cj_T σ a = 21) {i : Int32} (hi : vp_in i (cj_N σ a)) (hdg : decode bytes pc = .ok (.iaload, 1))
    (kk : W p l e R s m args below meth c H locs cells slots Q (F0 m (pc + 1) ls (.int (cj_A σ a i.toNatClampNeg) :: rest))) : W p l e R s m args below meth c H locs cells slots Q (F0 m pc ls (.int i :: .ref a :: rest)) := by
  have hW0 := hW
  obtain ⟨hx, hb, -, -, hml, hown, hts, hK, hA, hnm0, hz⟩ := hcx
  obtain ⟨ws, hP, hD, hl, hr⟩ := cj_list hW
  obtain ⟨q0, hq⟩ := hl a (by omega)
  have hq' := hq
  rw [cj_ei hT (by decide) (by decide)] at hq'
  exact va_iald hx hb hK.1 hP q0 1 hq' rfl hi hdg kk
theorem cj_bald (hcx : cj_cx E y bytes maxL ret p s m args meth c) (hW : cj_W E σ H) (hT : cj_T σ a = 20) {i : Int32} (hi : vp_in i (cj_N σ a)) (hdg : decode bytes pc = .ok (.baload, 1))
    (kk : W p l e R s m args below meth c H locs cells slots Q (F0 m (pc + 1) ls (.int (cj_A σ a i.toNatClampNeg) :: rest))) : W p l e R s m args below meth c H locs cells slots Q (F0 m pc ls (.int i :: .ref a :: rest)) := by
  have hW0 := hW
  obtain ⟨hx, hb, -, -, hml, hown, hts, hK, hA, hnm0, hz⟩ := hcx
  obtain ⟨ws, hP, hD, hl, hr⟩ := cj_list hW
  obtain ⟨q0, hq⟩ := hl a (by omega)
  have hq' := hq
  rw [cj_ei hT (by decide) (by decide)] at hq'
  exact va_bald hx hb hK.1 hP q0 0 hq' rfl hi hdg kk
theorem cj_iast (hcx : cj_cx E y bytes maxL ret p s m args meth c) (hW : cj_W E σ H) (hS : va_S (cj_P E) s.heap H locs) (hT : cj_T σ a = 21) {i x : Int32} (hi : vp_in i (cj_N σ a)) (hdg : decode bytes pc = .ok (.iastore, 1))
    (kk : ∀ (H1 : Heap) (locs1 : List Loc), cj_W E (cj_sA σ a i.toNatClampNeg x) H1 → va_S (cj_P E) s.heap H1 locs1 → W p l e R s m args below meth c H1 locs1 cells slots Q (F0 m (pc + 1) ls (rest))) : W p l e R s m args below meth c H locs cells slots Q (F0 m pc ls (.int x :: .int i :: .ref a :: rest)) := by
  have hW0 := hW
  obtain ⟨hx, hb, -, -, hml, hown, hts, hK, hA, hnm0, hz⟩ := hcx
  obtain ⟨ws, hP, hD, hl, hr⟩ := cj_list hW
  obtain ⟨q0, hq⟩ := hl a (by omega)
  have hq' := hq
  rw [cj_ei hT (by decide) (by decide)] at hq'
  refine va_iast hx hb hK.1 hP hD hS q0 1 hq' rfl hi hdg fun H1 locs1 hP1 hD1 hS1 => ?_
  refine kk H1 locs1 ?_ hS1
  rw [cj_sA_m]
  refine cj_after hD hl hq hP1 hD1 (cj_hb hz hW0 hS hS1) (fun _ => rfl) ?_ (fun b hb => cj_e_A hb)
  rw [cj_ei (t := 21) (show cj_T (cj_mA σ a (upd (cj_A σ a) i.toNatClampNeg x)) a = 21 from hT) (by decide) (by decide)]
  rw [cj_mA_self]
  rfl
theorem cj_bast (hcx : cj_cx E y bytes maxL ret p s m args meth c) (hW : cj_W E σ H) (hS : va_S (cj_P E) s.heap H locs) (hT : cj_T σ a = 20) {i x : Int32} (hi : vp_in i (cj_N σ a)) (hx0 : vp_nar .byte x = x) (hdg : decode bytes pc = .ok (.bastore, 1))
    (kk : ∀ (H1 : Heap) (locs1 : List Loc), cj_W E (cj_sA σ a i.toNatClampNeg x) H1 → va_S (cj_P E) s.heap H1 locs1 → W p l e R s m args below meth c H1 locs1 cells slots Q (F0 m (pc + 1) ls (rest))) : W p l e R s m args below meth c H locs cells slots Q (F0 m pc ls (.int x :: .int i :: .ref a :: rest)) := by
  have hW0 := hW
  obtain ⟨hx, hb, -, -, hml, hown, hts, hK, hA, hnm0, hz⟩ := hcx
  obtain ⟨ws, hP, hD, hl, hr⟩ := cj_list hW
  obtain ⟨q0, hq⟩ := hl a (by omega)
  have hq' := hq
  rw [cj_ei hT (by decide) (by decide)] at hq'
  refine va_bast hx hb hK.1 hP hD hS q0 0 hq' rfl hi hdg fun H1 locs1 hP1 hD1 hS1 => ?_
  refine kk H1 locs1 ?_ hS1
  rw [cj_sA_m]
  refine cj_after hD hl hq hP1 hD1 (cj_hb hz hW0 hS hS1) (fun _ => rfl) ?_ (fun b hb => cj_e_A hb)
  rw [cj_ei (t := 20) (show cj_T (cj_mA σ a (upd (cj_A σ a) i.toNatClampNeg x)) a = 20 from hT) (by decide) (by decide)]
  rw [cj_mA_self, hx0]
  rfl
/-- the arrays of references -/
def cj_rt (t : Nat) : Prop := t = 22 ∨ t = 23 ∨ t = 24 ∨ t = 26 ∨ t = 27 ∨ t = 28 ∨ t = 29 ∨ t = 30
def cj_at_ (t : Nat) : Prop := t = 20 ∨ t = 21 ∨ cj_rt t
theorem cj_rtt {E : cj_E} {t : Nat} (h : cj_rt t) : (cj_tys E)[t - 20]? = some (cj_cA E t, cj_aty (t - 20)) ∧ 22 ≤ t ∧ (cj_aty (t - 20)).isReference = true := by
  rcases h with h | h | h | h | h | h | h | h <;> subst h <;> exact ⟨rfl, by decide, rfl⟩
theorem cj_att {E : cj_E} {t : Nat} (h : cj_at_ t) : (cj_tys E)[t - 20]? = some (cj_cA E t, cj_aty (t - 20)) ∧ 20 ≤ t := by
  rcases h with h | h | h
  · subst h; exact ⟨rfl, by decide⟩
  · subst h; exact ⟨rfl, by decide⟩
  · exact ⟨(cj_rtt h).1, Nat.le_trans (by decide) (cj_rtt (E := E) h).2.1⟩
theorem cj_aald (hcx : cj_cx E y bytes maxL ret p s m args meth c) (hW : cj_W E σ H) {t : Nat} (hT : cj_T σ a = t) (ht : cj_rt t) {i : Int32} (hi : vp_in i (cj_N σ a)) (hdg : decode bytes pc = .ok (.aaload, 1))
    (kk : W p l e R s m args below meth c H locs cells slots Q (F0 m (pc + 1) ls (va_rf (cj_B σ a i.toNatClampNeg) :: rest))) : W p l e R s m args below meth c H locs cells slots Q (F0 m pc ls (.int i :: .ref a :: rest)) := by
  have hW0 := hW
  obtain ⟨hx, hb, -, -, hml, hown, hts, hK, hA, hnm0, hz⟩ := hcx
  obtain ⟨ws, hP, hD, hl, hr⟩ := cj_list hW
  obtain ⟨h1, h2, h3⟩ := cj_rtt (E := E) ht
  obtain ⟨q0, hq⟩ := hl a (by omega)
  rw [cj_eb hT h2] at hq
  have hlt : i.toNatClampNeg < cj_N σ a := Nat.not_le.mp fun q => hi (Or.inr q)
  exact W.aald (v := va_rf (cj_B σ a i.toNatClampNeg)) (ty := cj_aty (t - 20)) hx hb (hP q0 _ hq) ((hK.1.2 _ _ h1).1 _ (fun j => va_rf (cj_B σ a j))) h3 (fun q => by cases q) (by show ¬ (i < 0 ∨ (arrV _ _ _).slots.size ≤ _); rw [arrV_size]; exact hi) (by show (arrV _ _ _).slots[_]? = _; rw [arrV_read _ _ hlt]) rfl rfl hdg kk
theorem cj_alen (hcx : cj_cx E y bytes maxL ret p s m args meth c) (hW : cj_W E σ H) {t : Nat} (hT : cj_T σ a = t) (ht : cj_at_ t) (hdg : decode bytes pc = .ok (.arraylength, 1))
    (kk : W p l e R s m args below meth c H locs cells slots Q (F0 m (pc + 1) ls (.int (nI (cj_N σ a)) :: rest))) : W p l e R s m args below meth c H locs cells slots Q (F0 m pc ls (.ref a :: rest)) := by
  have hW0 := hW
  obtain ⟨hx, hb, -, -, hml, hown, hts, hK, hA, hnm0, hz⟩ := hcx
  obtain ⟨ws, hP, hD, hl, hr⟩ := cj_list hW
  obtain ⟨h1, h2⟩ := cj_att (E := E) ht
  obtain ⟨q0, hq⟩ := hl a (by omega)
  have hq2 : ∃ x : vp_A, ws[q0]? = some (a, .inl (cj_cA E t, x)) ∧ x.1 = cj_N σ a := by
    by_cases h22 : t < 22
    · rw [cj_ei hT h2 h22] at hq; exact ⟨_, hq, rfl⟩
    · rw [cj_eb hT (by omega)] at hq; exact ⟨_, hq, rfl⟩
  obtain ⟨x, hq3, hn⟩ := hq2
  exact va_alen hx hb hK.1 hP q0 (t - 20) hq3 h1 (by rw [hn]; rfl) hdg kk
/-- a class whose objects an array of its own may hold -/
def cj_ok_ (t : Nat) : Prop := t = 2 ∨ t = 6 ∨ t = 7 ∨ t = 8 ∨ t = 9 ∨ t = 10
theorem cj_okk {E : cj_E} {t : Nat} (h : cj_ok_ t) : ∃ r : vw_C, cj_cl[t - 1]? = some r ∧ (cj_tys E)[t]? = some (cj_cA E (t + 20), .object r.1) := by
  rcases h with h | h | h | h | h | h <;> subst h <;> exact ⟨_, rfl, rfl⟩
theorem cj_aast (hcx : cj_cx E y bytes maxL ret p s m args meth c) (hW : cj_W E σ H) (hS : va_S (cj_P E) s.heap H locs) {v : Nat} (hv : cj_ok_ (cj_T σ v)) (hT : cj_T σ a = cj_T σ v + 20) {i : Int32} (hi : vp_in i (cj_N σ a)) (hdg : decode bytes pc = .ok (.aastore, 1))
    (kk : ∀ (H1 : Heap) (locs1 : List Loc), cj_W E (cj_sB σ a i.toNatClampNeg (some v)) H1 → va_S (cj_P E) s.heap H1 locs1 → W p l e R s m args below meth c H1 locs1 cells slots Q (F0 m (pc + 1) ls (rest))) : W p l e R s m args below meth c H locs cells slots Q (F0 m pc ls (.ref v :: .int i :: .ref a :: rest)) := by
  have hW0 := hW
  obtain ⟨hx, hb, -, -, hml, hown, hts, hK, hA, hnm0, hz⟩ := hcx
  obtain ⟨ws, hP, hD, hl, hr⟩ := cj_list hW
  obtain ⟨r, h1, h2⟩ := cj_okk (E := E) hv
  have hv1 : cj_T σ v = (cj_T σ v - 1) + 1 := by rcases hv with h | h | h | h | h | h <;> omega
  have hv3 : 2 ≤ cj_T σ v := by rcases hv with h | h | h | h | h | h <;> omega
  have hv2 : cj_T σ v - 1 < 19 := by rcases hv with h | h | h | h | h | h <;> omega
  obtain ⟨q0, hq⟩ := hl a (by omega)
  obtain ⟨q1, hqv⟩ := hl v (by omega)
  have hq' := hq
  rw [cj_eb hT (by omega)] at hq'
  rw [cj_eo hv1 hv2] at hqv
  refine va_astq hx hb hK.1 hP hD hS q0 _ q1 _ hq' h2 hqv h1 hi hdg fun H1 locs1 hP1 hD1 hS1 => ?_
  refine kk H1 locs1 ?_ hS1
  rw [cj_sB_m]
  refine cj_after hD hl hq hP1 hD1 (cj_hb hz hW0 hS hS1) (fun _ => rfl) ?_ (fun b hb => cj_e_B hb)
  rw [cj_eb (t := cj_T σ v + 20) (show cj_T (cj_mB σ a (va_up (cj_B σ a) i.toNatClampNeg (some v))) a = cj_T σ v + 20 from hT) (by omega)]
  rw [cj_mB_self]
  rfl
theorem cj_stk {st st' : List Value} {g : Nat} (h : st = st') (kk : W p l e R s m args below meth c H locs cells slots Q (F0 m g ls st')) : W p l e R s m args below meth c H locs cells slots Q (F0 m g ls st) := by rw [h]; exact kk
theorem cj_aload_n {cc : ByteArray} (hx : p.tables.exec = Jvm.exec) (hb : c.code = cc) {k : Fin 4} {i : Nat} {r : Option Nat} (hdg : decode cc pc = .ok (.aload_n k, 1)) (hi : (k : Nat) = i) (hl : ls[i]? = some (.val (va_rf r)))
    (kk : W p l e R s m args below meth c H locs cells slots Q (F0 m (pc + 1) ls (va_rf r :: rest))) : W p l e R s m args below meth c H locs cells slots Q (F0 m pc ls rest) := by
  cases r with
  | none => exact lv_aload_nN hx hb hdg hi hl kk
  | some a => exact lv_aload_n hx hb hdg hi hl kk
theorem cj_aload {cc : ByteArray} (hx : p.tables.exec = Jvm.exec) (hb : c.code = cc) {i : Nat} {r : Option Nat} (hdg : decode cc pc = .ok (.aload i, 2)) (hl : ls[i]? = some (.val (va_rf r)))
    (kk : W p l e R s m args below meth c H locs cells slots Q (F0 m (pc + 2) ls (va_rf r :: rest))) : W p l e R s m args below meth c H locs cells slots Q (F0 m pc ls rest) := by
  cases r with
  | none => exact lv_aloadN hx hb hdg hl kk
  | some a => exact lv_aload hx hb hdg hl kk
theorem cj_astore_n {cc : ByteArray} (hx : p.tables.exec = Jvm.exec) (hb : c.code = cc) {k : Fin 4} {i nL : Nat} {r : Option Nat} {lv lv' : List (Nat × Value)} (hdg : decode cc pc = .ok (.astore_n k, 1)) (hi : (k : Nat) = i) (h : lv_has ls nL lv) (hn : i < nL) (hl : (i, va_rf r) :: lv.filter (fun q => !(q.1 == i) && !(q.1 + 1 == i && q.2.category == 2)) = lv')
    (kk : ∀ ls' : Array Slot, lv_has ls' nL lv' → W p l e R s m args below meth c H locs cells slots Q (F0 m (pc + 1) ls' rest)) : W p l e R s m args below meth c H locs cells slots Q (F0 m pc ls (va_rf r :: rest)) := by
  cases r with
  | none => exact lv_astore_nN hx hb hdg hi h hn hl kk
  | some a => exact lv_astore_n hx hb hdg hi h hn hl kk
theorem cj_astore {cc : ByteArray} (hx : p.tables.exec = Jvm.exec) (hb : c.code = cc) {i nL : Nat} {r : Option Nat} {lv lv' : List (Nat × Value)} (hdg : decode cc pc = .ok (.astore i, 2)) (h : lv_has ls nL lv) (hn : i < nL) (hl : (i, va_rf r) :: lv.filter (fun q => !(q.1 == i) && !(q.1 + 1 == i && q.2.category == 2)) = lv')
    (kk : ∀ ls' : Array Slot, lv_has ls' nL lv' → W p l e R s m args below meth c H locs cells slots Q (F0 m (pc + 2) ls' rest)) : W p l e R s m args below meth c H locs cells slots Q (F0 m pc ls (va_rf r :: rest)) := by
  cases r with
  | none => exact lv_astoreN hx hb hdg h hn hl kk
  | some a => exact lv_astore hx hb hdg h hn hl kk
theorem cj_ifnull {cc : ByteArray} (hx : p.tables.exec = Jvm.exec) (hb : c.code = cc) {r : Option Nat} {off : Int} {tgt : Nat} (hdg : decode cc pc = .ok (.ifnull off, 3)) (ht : (pc : Int) + off = (tgt : Int))
    (kt : r = none → W p l e R s m args below meth c H locs cells slots Q (F0 m tgt ls rest)) (kf : ¬ r = none → W p l e R s m args below meth c H locs cells slots Q (F0 m (pc + 3) ls rest)) : W p l e R s m args below meth c H locs cells slots Q (F0 m pc ls (va_rf r :: rest)) := by
  cases r with
  | none => exact lv_ifnullN hx hb hdg ht (kt rfl)
  | some a => exact lv_ifnull hx hb hdg (kf (by simp))
theorem cj_ifnonnull {cc : ByteArray} (hx : p.tables.exec = Jvm.exec) (hb : c.code = cc) {r : Option Nat} {off : Int} {tgt : Nat} (hdg : decode cc pc = .ok (.ifnonnull off, 3)) (ht : (pc : Int) + off = (tgt : Int))
    (kt : ¬ r = none → W p l e R s m args below meth c H locs cells slots Q (F0 m tgt ls rest)) (kf : r = none → W p l e R s m args below meth c H locs cells slots Q (F0 m (pc + 3) ls rest)) : W p l e R s m args below meth c H locs cells slots Q (F0 m pc ls (va_rf r :: rest)) := by
  cases r with
  | none => exact lv_ifnonnullN hx hb hdg (kf rfl)
  | some a => exact lv_ifnonnull hx hb hdg ht (kt (by simp))
end CJ
