/-! Table.suits -/
set_option maxRecDepth 100000
theorem zf_shown {vm : Vm} {name : String} {c : ClassId} {k : Class} (h : vm.findClass name = some c) (hk : vm.classes[c]? = some k) : k.shown = dotted name := by
  obtain ⟨hlt, hp, _⟩ := Array.findIdx?_eq_some_iff_getElem.mp h
  have hk2 : vm.classes[c] = k := by
    have := hk
    rw [Array.getElem?_eq_getElem hlt] at this
    exact Option.some.inj this
  simp only [Bool.and_eq_true, beq_iff_eq, hk2] at hp
  have h1 : k.name = name := hp.1.1.1
  have h2 : k.hidden = none := by simp_all
  unfold Class.shown
  rw [h2, h1]
section CJ
variable {E : cj_E} {y : MethodName} {bytes : ByteArray} {maxL : Nat} {ret : Option FieldType} {p : Program} {e : Env} {s : State} {m : MethodId} {args : Array Value} {below : List Frame} {meth : Method} {c : Code} {H : Heap} {locs : List Loc} {Q : State → Prop} {d : Nat} {pc : Nat} {ls : Array Slot} {rest : List Value} {σ : cj_S} {l : Launch} {R : Room} {cells slots : Nat} {a : Nat}
theorem cj_aastN (hcx : cj_cx E y bytes maxL ret p s m args meth c) (hW : cj_W E σ H) (hS : va_S (cj_P E) s.heap H locs) {t : Nat} (hT : cj_T σ a = t) (ht : cj_rr t) {i : Int32} (hi : vp_in i (cj_N σ a)) (hdg : decode bytes pc = .ok (.aastore, 1))
    (kk : ∀ (H1 : Heap) (locs1 : List Loc), cj_W E (cj_sB σ a i.toNatClampNeg none) H1 → va_S (cj_P E) s.heap H1 locs1 → W p l e R s m args below meth c H1 locs1 cells slots Q (F0 m (pc + 1) ls rest)) : W p l e R s m args below meth c H locs cells slots Q (F0 m pc ls (.null :: .int i :: .ref a :: rest)) := by
  obtain ⟨C, ad, cT, kA0, w1, -⟩ := zc_known hcx ht
  have hW0 := hW
  obtain ⟨hx, hb, -, -, hml, hown, hts, hK, hA, hnm0, hz⟩ := hcx
  obtain ⟨ws, hP, hD, hl, hr⟩ := cj_list hW
  have h22 : 22 ≤ t := by rcases ht with h | h | h <;> omega
  obtain ⟨q0, hq⟩ := hl a (by omega)
  have hq' := hq
  rw [cj_eb hT h22] at hq'
  refine va_astqN hx hb hK.1 hP hD hS q0 _ hq' w1 hi hdg fun H1 locs1 hP1 hD1 hS1 => ?_
  refine kk H1 locs1 ?_ hS1
  rw [cj_sB_m]
  refine cj_after hD hl hq hP1 hD1 (cj_hb hz hW0 hS hS1) (fun _ => rfl) ?_ (fun b hb => cj_e_B hb)
  rw [cj_eb (t := t) (σ := cj_mB σ a _) hT h22, cj_mB_self]
  rfl
end CJ
