/-! THE SYSTEM'S LAYER: new cells, copies -/
set_option maxRecDepth 100000
def cj_nf (ci j : Nat) : Bool := match cj_ty ci j with | .float => false | .double => false | _ => true
def cj_zs (ci : Nat) : List Value := (List.range (cj_n ci)).map (fun j => defaultValue (cj_ty ci j))
theorem cj_zfs {σ : cj_S} {q ci : Nat} (h : (List.range (cj_n ci)).all (cj_nf ci) = true) : cj_fs (cj_new σ q (ci + 1)) q ci = cj_zs ci := by
  refine List.map_congr_left fun j hj => ?_
  have h1 := List.all_eq_true.mp h j hj
  have e1 : cj_F (cj_new σ q (ci + 1)) (100 * (ci + 1) + j) q = 0 := by simp [cj_F, cj_new, cj_mk]
  have e2 : cj_R (cj_new σ q (ci + 1)) (100 * (ci + 1) + j) q = none := by simp [cj_R, cj_new, cj_mk]
  have e3 : cj_J (cj_new σ q (ci + 1)) q = 0 := by simp [cj_J, cj_new, cj_mk]
  unfold cj_v
  rw [e1, e2, e3]
  unfold cj_nf at h1
  generalize cj_ty ci j = t at h1
  cases t <;> first | rfl | cases h1
theorem cj_T_mk (σ : cj_S) (q t n : Nat) (fa : Nat → Int32) (fb : Nat → Option Nat) : cj_T (cj_mk σ q t n fa fb) q = t := by simp [cj_T, cj_mk]
theorem cj_N_mk (σ : cj_S) (q t n : Nat) (fa : Nat → Int32) (fb : Nat → Option Nat) : cj_N (cj_mk σ q t n fa fb) q = n := by simp [cj_N, cj_mk]
theorem cj_A_mk (σ : cj_S) (q t n : Nat) (fa : Nat → Int32) (fb : Nat → Option Nat) : cj_A (cj_mk σ q t n fa fb) q = fa := by funext i; simp [cj_A, cj_mk]
theorem cj_B_mk (σ : cj_S) (q t n : Nat) (fa : Nat → Int32) (fb : Nat → Option Nat) : cj_B (cj_mk σ q t n fa fb) q = fb := by funext i; simp [cj_B, cj_mk]
section CJ
variable {E : cj_E} {y : MethodName} {bytes : ByteArray} {maxL : Nat} {ret : Option FieldType} {p : Program} {e : Env} {s : State} {m : MethodId} {args : Array Value} {below : List Frame} {meth : Method} {c : Code} {H : Heap} {locs : List Loc} {Q : State → Prop} {d : Nat} {pc : Nat} {ls : Array Slot} {rest : List Value} {σ : cj_S} {l : Launch} {R : Room} {cells slots : Nat} {a : Nat}
theorem cj_newo (hcx : cj_cx E y bytes maxL ret p s m args meth c) (hW : cj_W E σ H) (hS : va_S (cj_P E) s.heap H locs) (ci : Nat) (h19 : ci < 19) {C : String} {T : u_T} {N : Nat} (hc : cj_cl[ci]? = some (C, T, N)) (hin : ∀ w ∈ u_ws C T N, w ∈ lw_all) (hty : ∀ k, k < N → parseFieldDescriptor (T k).2.2.1 = some (cj_ty ci k)) (hN : N = cj_n ci) (hnf : (List.range (cj_n ci)).all (cj_nf ci) = true) {index : Nat} (hcl : Cond.classLink y.cls index C ∈ lw_all) (hinst : Cond.instantiable C N ∈ lw_all) (hini : Cond.initialized C ∈ lw_all) (hcells : cells + 1 ≤ R.cells) (hslots : slots + N ≤ R.slots) (hdg : decode bytes pc = .ok (.new index, 3))
    (kk : ∀ (q : Nat) (H1 : Heap), cj_T σ q = 0 → cj_W E (cj_new σ q (ci + 1)) H1 → va_S (cj_P E) s.heap H1 locs → W p l e R s m args below meth c H1 locs (cells + 1) (slots + N) Q (F0 m (pc + 3) ls (.ref q :: rest))) : W p l e R s m args below meth c H locs cells slots Q (F0 m pc ls rest) := by
  have hW0 := hW
  obtain ⟨hx, hb, -, -, hml, hown, hts, hK, hA, hnm0, hz⟩ := hcx
  obtain ⟨ws, hP, hD, hl, hr⟩ := cj_list hW
  refine va_new (fs := cj_zs ci) hx hb hts hin (cj_ty ci) hty hown (hts _ hcl) (hts _ hinst) (hts _ hini) hK.1 hP hD hS hA hc (fun j hj => ?_) hcells hslots hdg fun q H1 hP1 hD1 hS1 => ?_
  · subst hN
    simp [vp_V, cj_zs, List.getD_eq_getElem?_getD, List.getElem?_map, List.getElem?_range hj]
  · obtain ⟨h1, h2⟩ := cj_made (σ1 := cj_new σ q (ci + 1)) hl hP1 hD1 (cj_hb hz hW0 hS hS1) (fun b hb => by simp [cj_T, cj_new, cj_mk, hb]) (by rw [cj_eo (show cj_T (cj_new σ q (ci + 1)) q = ci + 1 from cj_T_mk _ _ _ _ _ _) h19, cj_zfs hnf]) (fun b hb => cj_e_mk hb)
    exact kk q H1 h1 h2 hS1
theorem cj_sameA {E : cj_E} {cA : ClassId} {ty : FieldType} {t : Nat} (hK : va_K (cj_D E) cj_cl (cj_tys E) s) (ht : (cj_tys E)[t]? = some (cj_cA E (t + 20), ty)) (hK1 : va_K (cj_D E) cj_cl (cj_tys E ++ [(cA, ty)]) s) : cA = cj_cA E (t + 20) := by
  have h1 := (hK.2 _ _ ht).2
  have h2 := (hK1.2 (cj_tys E).length (cA, ty) (by rw [List.getElem?_append_right (Nat.le_refl _), Nat.sub_self]; rfl)).2
  cases ty with
  | object C =>
    obtain ⟨_, _, _, _, _, h3⟩ := h1
    obtain ⟨_, _, _, _, _, h4⟩ := h2
    exact Option.some.inj (h4.symm.trans h3)
  | _ => exact Option.some.inj (Eq.trans (Eq.symm h2) h1)
theorem cj_newi (hcx : cj_cx E y bytes maxL ret p s m args meth c) (hW : cj_W E σ H) (hS : va_S (cj_P E) s.heap H locs) {n : Int32} {N : Nat} (hn : ¬ n < 0) (hN : n.toNatClampNeg = N) (hby : N ≤ 100000) (hcells : cells + 1 ≤ R.cells) (hslots : slots + N ≤ R.slots) (hdg : decode bytes pc = .ok (.newarray .int, 2))
    (kk : ∀ (q : Nat) (H1 : Heap), cj_T σ q = 0 → cj_W E (cj_newA σ q 21 N) H1 → va_S (cj_P E) s.heap H1 locs → W p l e R s m args below meth c H1 locs (cells + 1) (slots + N) Q (F0 m (pc + 2) ls (.ref q :: rest))) : W p l e R s m args below meth c H locs cells slots Q (F0 m pc ls (.int n :: rest)) := by
  have hW0 := hW
  obtain ⟨hx, hb, -, -, hml, hown, hts, hK, hA, hnm0, hz⟩ := hcx
  obtain ⟨ws, hP, hD, hl, hr⟩ := cj_list hW
  refine va_newa (atype := .int) (ty := .int) (a0 := (N, .inl (fun _ => 0))) hx hb (hts _ q215) rfl hK.1 hP hD hS hA (fun cA => rfl) hn hN (Nat.le_trans (Nat.mul_le_mul_right _ hby) (by decide)) hcells hslots hdg fun q cA H1 hK1 hP1 hD1 hS1 => ?_
  have hcA := cj_sameA (t := 1) hK.1 rfl hK1
  subst hcA
  obtain ⟨h1, h2⟩ := cj_made (σ1 := cj_newA σ q 21 N) hl hP1 hD1 (cj_hb hz hW0 hS hS1) (fun b hb => by simp [cj_T, cj_newA, cj_mk, hb]) (by unfold cj_newA; rw [cj_ei (cj_T_mk _ _ _ _ _ _) (by decide) (by decide), cj_N_mk, cj_A_mk]) (fun b hb => cj_e_mk hb)
  exact kk q H1 h1 h2 hS1
theorem cj_newiN (hcx : cj_cx E y bytes maxL ret p s m args meth c) (hW : cj_W E σ H) (hS : va_S (cj_P E) s.heap H locs) {n : Int32} {lim : Nat} (hn : ¬ n < 0) (hN : n.toNatClampNeg ≤ lim) (hby : lim ≤ 100000) (hcells : cells + 1 ≤ R.cells) (hslots : slots + lim ≤ R.slots) (hdg : decode bytes pc = .ok (.newarray .int, 2))
    (kk : ∀ (q : Nat) (H1 : Heap), cj_T σ q = 0 → cj_W E (cj_newA σ q 21 n.toNatClampNeg) H1 → va_S (cj_P E) s.heap H1 locs → W p l e R s m args below meth c H1 locs (cells + 1) (slots + lim) Q (F0 m (pc + 2) ls (.ref q :: rest))) : W p l e R s m args below meth c H locs cells slots Q (F0 m pc ls (.int n :: rest)) :=
  cj_newi hcx hW hS hn rfl (Nat.le_trans hN hby) hcells (Nat.le_trans (Nat.add_le_add_left hN _) hslots) hdg (fun q H1 h1 h2 h3 => W.widen (Nat.le_refl _) (Nat.add_le_add_left hN _) (kk q H1 h1 h2 h3))
theorem cj_newb (hcx : cj_cx E y bytes maxL ret p s m args meth c) (hW : cj_W E σ H) (hS : va_S (cj_P E) s.heap H locs) {n : Int32} {N : Nat} (hn : ¬ n < 0) (hN : n.toNatClampNeg = N) (hby : N ≤ 100000) (hcells : cells + 1 ≤ R.cells) (hslots : slots + N ≤ R.slots) (hdg : decode bytes pc = .ok (.newarray .byte, 2))
    (kk : ∀ (q : Nat) (H1 : Heap), cj_T σ q = 0 → cj_W E (cj_newA σ q 20 N) H1 → va_S (cj_P E) s.heap H1 locs → W p l e R s m args below meth c H1 locs (cells + 1) (slots + N) Q (F0 m (pc + 2) ls (.ref q :: rest))) : W p l e R s m args below meth c H locs cells slots Q (F0 m pc ls (.int n :: rest)) := by
  have hW0 := hW
  obtain ⟨hx, hb, -, -, hml, hown, hts, hK, hA, hnm0, hz⟩ := hcx
  obtain ⟨ws, hP, hD, hl, hr⟩ := cj_list hW
  refine va_newa (atype := .byte) (ty := .byte) (a0 := (N, .inl (fun _ => 0))) hx hb (hts _ q214) rfl hK.1 hP hD hS hA (fun cA => rfl) hn hN (Nat.le_trans (Nat.mul_le_mul_right _ hby) (by decide)) hcells hslots hdg fun q cA H1 hK1 hP1 hD1 hS1 => ?_
  have hcA := cj_sameA (t := 0) hK.1 rfl hK1
  subst hcA
  obtain ⟨h1, h2⟩ := cj_made (σ1 := cj_newA σ q 20 N) hl hP1 hD1 (cj_hb hz hW0 hS hS1) (fun b hb => by simp [cj_T, cj_newA, cj_mk, hb]) (by unfold cj_newA; rw [cj_ei (cj_T_mk _ _ _ _ _ _) (by decide) (by decide), cj_N_mk, cj_A_mk]) (fun b hb => cj_e_mk hb)
  exact kk q H1 h1 h2 hS1
theorem cj_newr (hcx : cj_cx E y bytes maxL ret p s m args meth c) (hW : cj_W E σ H) (hS : va_S (cj_P E) s.heap H locs) (u : Nat) (hu : cj_ok_ u) {C : String} (hC : (cj_tys E)[u]? = some (cj_cA E (u + 20), .object C)) (hO : C ∈ cj_nO) {index : Nat} (hlink : Cond.classLink y.cls index C ∈ lw_all) {n : Int32} {N : Nat} (hn : ¬ n < 0) (hN : n.toNatClampNeg = N) (hby : N ≤ 100000) (hcells : cells + 1 ≤ R.cells) (hslots : slots + N ≤ R.slots) (hdg : decode bytes pc = .ok (.anewarray index, 3))
    (kk : ∀ (q : Nat) (H1 : Heap), cj_T σ q = 0 → cj_W E (cj_newA σ q (u + 20) N) H1 → va_S (cj_P E) s.heap H1 locs → W p l e R s m args below meth c H1 locs (cells + 1) (slots + N) Q (F0 m (pc + 3) ls (.ref q :: rest))) : W p l e R s m args below meth c H locs cells slots Q (F0 m pc ls (.int n :: rest)) := by
  have hW0 := hW
  obtain ⟨hx, hb, -, -, hml, hown, hts, hK, hA, hnm0, hz⟩ := hcx
  obtain ⟨ws, hP, hD, hl, hr⟩ := cj_list hW
  refine va_newq hx hb hown (hts _ hlink) (hK.2.2.2.2.1 _ hO) hK.1 hP hD hS hA hn hN (by omega) hcells hslots hdg fun q cA H1 hK1 hP1 hD1 hS1 => ?_
  have hcA := cj_sameA (t := u) hK.1 hC hK1
  subst hcA
  have h22 : 22 ≤ u + 20 := by rcases hu with h | h | h | h | h | h <;> omega
  obtain ⟨h1, h2⟩ := cj_made (σ1 := cj_newA σ q (u + 20) N) hl hP1 hD1 (cj_hb hz hW0 hS hS1) (fun b hb => by simp [cj_T, cj_newA, cj_mk, hb]) (by unfold cj_newA; rw [cj_eb (cj_T_mk _ _ _ _ _ _) h22, cj_N_mk, cj_B_mk]) (fun b hb => cj_e_mk hb)
  exact kk q H1 h1 h2 hS1
theorem cj_copyi (hcx : cj_cx E y bytes maxL ret p s m args meth c) (hW : cj_W E σ H) (hS : va_S (cj_P E) s.heap H locs) (hsz : ls.size = maxL) {a0 : Nat} (hT0 : cj_T σ a0 = 21) (hT : cj_T σ a = 21) {index : Nat} (hlink : Cond.methodLink y.cls index arraycopyName ∈ lw_all) {sp dp n : Int32} (h1 : ¬ sp < 0) (h2 : ¬ dp < 0) (h3 : ¬ n < 0) (h4 : sp.toNatClampNeg + n.toNatClampNeg ≤ cj_N σ a0) (h5 : dp.toNatClampNeg + n.toNatClampNeg ≤ cj_N σ a) (hframes : 1 ≤ R.frames) (hlocals : (rest.map fun v => v.category).sum + (nativeFrameWords "java/lang/System" "arraycopy" 5 + 11) ≤ R.locals) (hdg : decode bytes pc = .ok (.invokestatic index, 3))
    (kk : ∀ (H1 : Heap) (locs1 : List Loc), cj_W E (cj_mA σ a (va_cpy (cj_A σ a0) (cj_A σ a) sp.toNatClampNeg dp.toNatClampNeg n.toNatClampNeg)) H1 → va_S (cj_P E) s.heap H1 locs1 → W p l e R s m args below meth c H1 locs1 cells slots Q (F0 m (pc + 3) ls rest)) : W p l e R s m args below meth c H locs cells slots Q (F0 m pc ls (.int n :: .int dp :: .ref a :: .int sp :: .ref a0 :: rest)) := by
  have hW0 := hW
  obtain ⟨hx, hb, -, -, hml, hown, hts, hK, hA, hnm0, hz⟩ := hcx
  obtain ⟨ws, hP, hD, hl, hr⟩ := cj_list hW
  obtain ⟨q0, hq0⟩ := hl a0 (by omega)
  obtain ⟨q1, hq1⟩ := hl a (by omega)
  have hq := hq1
  rw [cj_ei hT0 (by decide) (by decide)] at hq0
  rw [cj_ei hT (by decide) (by decide)] at hq1
  refine va_copyi hx hb (by rw [hml, hsz]) hown (hts _ hlink) (hts _ q460) (hts _ q459) (hts _ q130) hK.1 hP hD hS q0 q1 1 1 hq0 hq1 rfl rfl rfl h1 h2 h3 h4 h5 (fun i _ => rfl) hframes hlocals hdg fun H1 locs1 hP1 hD1 hS1 => ?_
  refine kk H1 locs1 (cj_after hD hl hq hP1 hD1 (cj_hb hz hW0 hS hS1) (fun _ => rfl) ?_ (fun b hb => cj_e_A hb)) hS1
  rw [cj_ei (t := 21) (σ := cj_mA σ a _) hT (by decide) (by decide), cj_mA_self]
  rfl
theorem cj_copyr (hcx : cj_cx E y bytes maxL ret p s m args meth c) (hW : cj_W E σ H) (hS : va_S (cj_P E) s.heap H locs) (hsz : ls.size = maxL) {a0 : Nat} (u : Nat) (hu : cj_ok_ u) (hT0 : cj_T σ a0 = u + 20) (hT : cj_T σ a = u + 20) {index : Nat} (hlink : Cond.methodLink y.cls index arraycopyName ∈ lw_all) {sp dp n : Int32} (h1 : ¬ sp < 0) (h2 : ¬ dp < 0) (h3 : ¬ n < 0) (h4 : sp.toNatClampNeg + n.toNatClampNeg ≤ cj_N σ a0) (h5 : dp.toNatClampNeg + n.toNatClampNeg ≤ cj_N σ a) (hel : ∀ i, i < n.toNatClampNeg → ∀ v, cj_B σ a0 (sp.toNatClampNeg + i) = some v → cj_T σ v = u) (hframes : 1 ≤ R.frames) (hlocals : (rest.map fun v => v.category).sum + (nativeFrameWords "java/lang/System" "arraycopy" 5 + 11) ≤ R.locals) (hdg : decode bytes pc = .ok (.invokestatic index, 3))
    (kk : ∀ (H1 : Heap) (locs1 : List Loc), cj_W E (cj_mB σ a (va_cpy (cj_B σ a0) (cj_B σ a) sp.toNatClampNeg dp.toNatClampNeg n.toNatClampNeg)) H1 → va_S (cj_P E) s.heap H1 locs1 → W p l e R s m args below meth c H1 locs1 cells slots Q (F0 m (pc + 3) ls rest)) : W p l e R s m args below meth c H locs cells slots Q (F0 m pc ls (.int n :: .int dp :: .ref a :: .int sp :: .ref a0 :: rest)) := by
  have hW0 := hW
  obtain ⟨hx, hb, -, -, hml, hown, hts, hK, hA, hnm0, hz⟩ := hcx
  obtain ⟨ws, hP, hD, hl, hr⟩ := cj_list hW
  obtain ⟨r, hr1, hr2⟩ := cj_okk (E := E) hu
  have hu1 : u = (u - 1) + 1 := by rcases hu with h | h | h | h | h | h <;> omega
  have hu2 : u - 1 < 19 := by rcases hu with h | h | h | h | h | h <;> omega
  have hu3 : 22 ≤ u + 20 := by rcases hu with h | h | h | h | h | h <;> omega
  obtain ⟨q0, hq0⟩ := hl a0 (by omega)
  obtain ⟨q1, hq1⟩ := hl a (by omega)
  have hq := hq1
  rw [cj_eb hT0 hu3] at hq0
  rw [cj_eb hT hu3] at hq1
  have hcls := (hK.1.1 _ r hr1).2
  refine va_copyq (C := r.1) hx hb (by rw [hml, hsz]) hown (hts _ hlink) (hts _ q460) (hts _ q459) (hts _ q130) hK.1 hP hD hS q0 q1 _ _ hq0 hq1 hr2 hr2 h1 h2 h3 h4 h5 (fun i hi v hv => ?_) (fun c1 c2 e1 e2 => by cases e1.symm.trans e2; cases e1.symm.trans hcls.1; exact va_assign hcls) hframes hlocals hdg fun H1 locs1 hP1 hD1 hS1 => ?_
  · have hTv := hel i hi v hv
    obtain ⟨q2, hq2⟩ := hl v (by omega)
    rw [cj_eo (hTv.trans hu1) hu2] at hq2
    exact va_recv hK.1 hP hr1 hq2
  refine kk H1 locs1 (cj_after hD hl hq hP1 hD1 (cj_hb hz hW0 hS hS1) (fun _ => rfl) ?_ (fun b hb => cj_e_B hb)) hS1
  rw [cj_eb (t := u + 20) (σ := cj_mB σ a _) hT hu3, cj_mB_self]
  rfl
theorem cj_objInit (hcx : cj_cx E y bytes maxL ret p s m args meth c) (hsz : ls.size = maxL) {index : Nat} (hlink : Cond.methodLink y.cls index Lib.objectInit ∈ lw_all) (hi : Cond.instanceMethod Lib.objectInit ∈ lw_all) (hcd : Cond.code Lib.objectInit ⟨#[0xb1]⟩ 1 none ∈ lw_all) (hdg : decode bytes pc = .ok (.invokespecial index, 3)) (hframes : 1 ≤ R.frames) (hlocals : (rest.map fun v => v.category).sum + 12 ≤ R.locals)
    (kk : W p l e R s m args below meth c H locs cells slots Q (F0 m (pc + 3) ls rest)) : W p l e R s m args below meth c H locs cells slots Q (F0 m pc ls (.ref a :: rest)) := by
  obtain ⟨hx, hb, -, -, hml, hown, hts, -⟩ := hcx
  exact W.objInit hx hb hown (hts _ hlink) (hts _ hi) (hts _ hcd) rfl (by show ls.size = _; rw [hml, hsz]) rfl hdg hframes (by show 2 * 0 + _ + 12 ≤ _; omega) kk
theorem cj_mmax (hcx : cj_cx E y bytes maxL ret p s m args meth c) (hsz : ls.size = maxL) {index : Nat} (hlink : Cond.methodLink y.cls index Lib.Math.max.name ∈ lw_all) {x z : Int32} (hframes : 1 ≤ R.frames) (hlocals : (rest.map fun v => v.category).sum + 13 ≤ R.locals) (hc : cells ≤ R.cells) (hs : slots ≤ R.slots) (hdg : decode bytes pc = .ok (.invokestatic index, 3))
    (kk : W p l e R s m args below meth c H locs cells slots Q (F0 m (pc + 3) ls (.int (if x < z then z else x) :: rest))) : W p l e R s m args below meth c H locs cells slots Q (F0 m pc ls (.int z :: .int x :: rest)) := by
  obtain ⟨hx, hb, -, -, hml, hown, hts, -⟩ := hcx
  exact va_mmax hx hb (by rw [hml, hsz]) hown (hts _ hlink) (hts _ q667) (hts _ q139) (hts _ q668) hframes hlocals hc hs hdg kk
theorem cj_mmin (hcx : cj_cx E y bytes maxL ret p s m args meth c) (hsz : ls.size = maxL) {index : Nat} (hlink : Cond.methodLink y.cls index Lib.Math.min.name ∈ lw_all) {x z : Int32} (hframes : 1 ≤ R.frames) (hlocals : (rest.map fun v => v.category).sum + 13 ≤ R.locals) (hc : cells ≤ R.cells) (hs : slots ≤ R.slots) (hdg : decode bytes pc = .ok (.invokestatic index, 3))
    (kk : W p l e R s m args below meth c H locs cells slots Q (F0 m (pc + 3) ls (.int (if z < x then z else x) :: rest))) : W p l e R s m args below meth c H locs cells slots Q (F0 m pc ls (.int z :: .int x :: rest)) := by
  obtain ⟨hx, hb, -, -, hml, hown, hts, -⟩ := hcx
  exact va_mmin hx hb (by rw [hml, hsz]) hown (hts _ hlink) (hts _ q670) (hts _ q139) (hts _ q671) hframes hlocals hc hs hdg kk
end CJ
