/-! Table.suits -/
set_option maxRecDepth 100000
theorem zf_shown {vm : Vm} {name : String} {c : ClassId} {k : Class} (h : vm.findClass name = some c) (hk : vm.classes[c]? = some k) : k.shown = dotted name := by
  obtain ⟨hlt, hp, _⟩ := Array.findIdx?_eq_some_iff_getElem.mp h
  have hk2 : vm.classes[c] = k := by
    have := hk
    rw [Array.getElem?_eq_getElem hlt] at this
    exact Option.some.inj this
  simp only [Bool.and_eq_true, beq_iff_eq, hk2] at hp
  have h1 : k.name = name := hp.1.1.1
  have h2 : k.hidden = none := by simp_all
  unfold Class.shown
  rw [h2, h1]
section CJ
variable {E : cj_E} {y : MethodName} {bytes : ByteArray} {maxL : Nat} {ret : Option FieldType} {p : Program} {e : Env} {s : State} {m : MethodId} {args : Array Value} {below : List Frame} {meth : Method} {c : Code} {H : Heap} {locs : List Loc} {Q : State → Prop} {d : Nat} {pc : Nat} {ls : Array Slot} {rest : List Value} {σ : cj_S} {l : Launch} {R : Room} {cells slots : Nat} {a : Nat}
theorem cj_aastN (hcx : cj_cx E y bytes maxL ret p s m args meth c) (hW : cj_W E σ H) (hS : va_S (cj_P E) s.heap H locs) {t : Nat} (hT : cj_T σ a = t) (ht : cj_rr t) {i : Int32} (hi : vp_in i (cj_N σ a)) (hdg : decode bytes pc = .ok (.aastore, 1))
    (kk : ∀ (H1 : Heap) (locs1 : List Loc), cj_W E (cj_sB σ a i.toNatClampNeg none) H1 → va_S (cj_P E) s.heap H1 locs1 → W p l e R s m args below meth c H1 locs1 cells slots Q (F0 m (pc + 1) ls rest)) : W p l e R s m args below meth c H locs cells slots Q (F0 m pc ls (.null :: .int i :: .ref a :: rest)) := by
  obtain ⟨C, ad, cT, kA0, w1, -⟩ := zc_known hcx ht
  have hW0 := hW
  obtain ⟨hx, hb, -, -, hml, hown, hts, hK, hA, hnm0, hz⟩ := hcx
  obtain ⟨ws, hP, hD, hl, hr⟩ := cj_list hW
  have h22 : 22 ≤ t := by rcases ht with h | h | h <;> omega
  obtain ⟨q0, hq⟩ := hl a (by omega)
  have hq' := hq
  rw [cj_eb hT h22] at hq'
  refine va_astqN hx hb hK.1 hP hD hS q0 _ hq' w1 hi hdg fun H1 locs1 hP1 hD1 hS1 => ?_
  refine kk H1 locs1 ?_ hS1
  rw [cj_sB_m]
  refine cj_after hD hl hq hP1 hD1 (cj_hb hz hW0 hS hS1) (fun _ => rfl) ?_ (fun b hb => cj_e_B hb)
  rw [cj_eb (t := t) (σ := cj_mB σ a _) hT h22, cj_mB_self]
  rfl
theorem zf_kind (hcx : cj_cx E y bytes maxL ret p s m args meth c) {t : Nat} (ht : cj_ro t) : ∃ (C : String) (r : vw_C), cj_cl[t - 1]? = some r ∧ r.1 = C ∧ s.vm.findClass C = some ((cj_D E).1 (t - 1)) ∧ (cj_tys E)[t]? = some (cj_cA E (t + 20), .object C) ∧ (stringBytes (stringToUtf16 (dotted C))).size ≤ 16 ∧ (dotted C == notModelled) = false ∧ ∀ t2, cj_ro t2 → t2 ≠ t → ∀ C2, s.vm.findClass C2 = some ((cj_D E).1 (t2 - 1)) → (cj_tys E)[t2]? = some (cj_cA E (t2 + 20), .object C2) → s.vm.assignable ((cj_D E).1 (t - 1)) ((cj_D E).1 (t2 - 1)) = false := by
  obtain ⟨hx, hb, -, -, hml, hown, hts, hK, hA, hnm0, hz⟩ := hcx
  have hN := hK.2.2.2.2.2.2.2.2.2
  have h6 := (hK.1.1 6 (RX9, TX9, 1) rfl).2.1
  have h7 := (hK.1.1 7 (RX10, TX10, 2) rfl).2.1
  have h8 := (hK.1.1 8 (RX11, TX11, 1) rfl).2.1
  have key : ∀ (C1 C2 : String) (c1 c2 : ClassId), va_Nc C1 C2 s → s.vm.findClass C1 = some c1 → s.vm.findClass C2 = some c2 → s.vm.assignable c1 c2 = false := by
    intro C1 C2 c1 c2 ⟨a1, a2, b1, b2, b3⟩ e1 e2
    cases b1.symm.trans e1
    cases b2.symm.trans e2
    exact b3
  rcases ht with ht | ht | ht <;> subst ht
  · refine ⟨"LeapJoin$One", _, rfl, rfl, h6, rfl, by decide +kernel, by decide +kernel, fun t2 ht2 hne C2 _ _ => ?_⟩
    rcases ht2 with h | h | h <;> subst h
    · exact absurd rfl hne
    · exact key _ _ _ _ (hN ("LeapJoin$One", "LeapJoin$Two") (List.mem_of_getElem? (i := 0) rfl)) h6 h7
    · exact key _ _ _ _ (hN ("LeapJoin$One", "LeapJoin$Three") (List.mem_of_getElem? (i := 1) rfl)) h6 h8
  · refine ⟨"LeapJoin$Two", _, rfl, rfl, h7, rfl, by decide +kernel, by decide +kernel, fun t2 ht2 hne C2 _ _ => ?_⟩
    rcases ht2 with h | h | h <;> subst h
    · exact key _ _ _ _ (hN ("LeapJoin$Two", "LeapJoin$One") (List.mem_of_getElem? (i := 2) rfl)) h7 h6
    · exact absurd rfl hne
    · exact key _ _ _ _ (hN ("LeapJoin$Two", "LeapJoin$Three") (List.mem_of_getElem? (i := 3) rfl)) h7 h8
  · refine ⟨"LeapJoin$Three", _, rfl, rfl, h8, rfl, by decide +kernel, by decide +kernel, fun t2 ht2 hne C2 _ _ => ?_⟩
    rcases ht2 with h | h | h <;> subst h
    · exact key _ _ _ _ (hN ("LeapJoin$Three", "LeapJoin$One") (List.mem_of_getElem? (i := 4) rfl)) h8 h6
    · exact key _ _ _ _ (hN ("LeapJoin$Three", "LeapJoin$Two") (List.mem_of_getElem? (i := 5) rfl)) h8 h7
    · exact absurd rfl hne
end CJ
