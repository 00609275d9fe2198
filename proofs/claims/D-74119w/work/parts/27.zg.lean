/-! Table.suits: the store that fails -/
set_option maxRecDepth 100000
section CJ
variable {E : cj_E} {y : MethodName} {bytes : ByteArray} {maxL : Nat} {ret : Option FieldType} {p : Program} {e : Env} {s : State} {m : MethodId} {args : Array Value} {below : List Frame} {meth : Method} {c : Code} {H : Heap} {locs : List Loc} {Q : State → Prop} {d : Nat} {pc : Nat} {ls : Array Slot} {rest : List Value} {σ : cj_S} {a : Nat}
theorem cj_aastX {mc ms cu su : Nat} (hcx : cj_cx E y bytes maxL ret p s m args meth c) (hW : cj_W E σ H) (hS : va_S (cj_P E) s.heap H locs) (hsz : ls.size = maxL) {v : Nat} (hv : cj_ro (cj_T σ v)) (ha : cj_rr (cj_T σ a)) (hne : cj_T σ a ≠ cj_T σ v + 20) {i : Int32} (hi : vp_in i (cj_N σ a)) {x : ExceptionTableEntry} (hsplit : c.exceptionTable.toList = [x]) (hcov : covers x pc = true) (h0 : x.catchType ≠ 0) (hlink : Cond.classLink y.cls x.catchType "java/lang/ArrayStoreException" ∈ lw_all) (hd : 8 ≤ d) (hroom : (rest.map fun v => v.category).sum ≤ 8) (hc : cu + 3 ≤ mc) (hs : su + 26 ≤ ms) (hdg : decode bytes pc = .ok (.aastore, 1))
    (kk : ∀ (H1 : Heap) (q9 : Nat), cj_W E σ H1 → va_S (cj_P E) s.heap H1 locs → W p (cj_l E) e (cj_rm d mc ms) s m args below meth c H1 locs (cu + 3) (su + 26) Q (F0 m x.handlerPc ls [.ref q9])) : W p (cj_l E) e (cj_rm d mc ms) s m args below meth c H locs cu su Q (F0 m pc ls (.ref v :: .int i :: .ref a :: rest)) := by
  obtain ⟨C, r, w1, w2, w3, w4, w5, w6, w7⟩ := zf_kind hcx hv
  obtain ⟨C2, ad, cT, kA0, u1, -⟩ := zc_known hcx ha
  have hcx0 := hcx
  have hW0 := hW
  obtain ⟨hx, hb, -, hlk, hml, hown, hts, hK, hA, hnm0, hz⟩ := hcx
  obtain ⟨ws, hP, hD, hl, hr⟩ := cj_list hW
  have h22 : 22 ≤ cj_T σ a := by rcases ha with h | h | h <;> omega
  have hv1 : cj_T σ v = (cj_T σ v - 1) + 1 := by rcases hv with h | h | h <;> omega
  have hv2 : cj_T σ v - 1 < 19 := by rcases hv with h | h | h <;> omega
  obtain ⟨q0, hq⟩ := hl a (by omega)
  obtain ⟨q1, hqv⟩ := hl v (by omega)
  rw [cj_eb rfl h22] at hq
  rw [cj_eo hv1 hv2] at hqv
  have hca : H[a]? = some (arrV (cj_cA E (cj_T σ a)) (cj_N σ a) (fun j => va_rf (cj_B σ a j))) := hP q0 _ hq
  obtain ⟨r', -, cellV, g1, g2, g3, -⟩ := hP q1 _ hqv
  have ht2 : cj_ro (cj_T σ a - 20) := by rcases ha with h | h | h <;> rw [h] <;> unfold cj_ro <;> decide
  have h20 : cj_T σ a - 20 + 20 = cj_T σ a := by omega
  obtain ⟨C3, r3, y1, y2, y3, y4, -⟩ := zf_kind hcx0 ht2
  obtain ⟨kA, comp, k1, k2, k3, -⟩ := (hK.1.2 _ _ y4).2
  rw [h20] at k1
  have hcomp : comp = (cj_D E).1 (cj_T σ a - 20 - 1) := Option.some.inj (k3.symm.trans y3)
  have hasg : s.vm.assignable cellV.cls comp = false := by
    rw [g2, hcomp]
    exact w7 _ ht2 (by omega) C3 y3 y4
  obtain ⟨kcomp, hkcomp, -⟩ := Vm.findClass_spec k3
  have hk : ∀ a : Nat, a < (cj_HB E).size → ¬ cj_P E a → s.heap[a]? = (cj_HB E)[a]? := fun a h1 h2 => by rw [← hS.2.1 a (Nat.lt_of_lt_of_le h1 hz) h2]; exact hW0.2.2 a h1 h2
  have hnote : vx_Note p (cj_l E) e (cj_rm d mc ms) s m args below meth c H locs cu su Q (F0 m pc ls rest) "java/lang/ArrayStoreException" (dotted C) := by
    refine vx_vm (names := ze_N) (nb := 16) (A := cj_P E) hx hK.2.2.2.2.2.2.2.2.1 (by decide +kernel) (by decide +kernel) (by decide +kernel) (by decide +kernel) (fun w hw => ?_) ze_ot (hK.2.2.2.2.2.2.1.kept hk) (hK.2.2.2.2.2.2.2.1.kept hk) hS (by rw [hml, hsz]) w6 w5 (by decide) (by show 2 + 4 < d + 1; omega) (by show _ + 10240 ≤ 12000 + 64 * (d + 1); omega) (by decide) hc hs hlk (fun H1 q9 ce z1 z2 z3 z4 z5 z6 => ?_)
    · rcases ze_bad w hw with h | h
      · exact hts _ (ze_good w (List.mem_filter.mpr ⟨hw, h⟩))
      · simp only [ze_sp, List.mem_cons, List.not_mem_nil, or_false] at h
        rcases h with h | h | h | h
        · subst h; exact va_Nw.use rfl (hK.2.2.2.1 ("java/lang/ArrayStoreException", "java/lang/ArrayStoreException") (by decide +kernel))
        · subst h; exact va_Nw.use rfl (hK.2.2.2.2.2.1 _ (by decide +kernel))
        · subst h; exact va_Nw.use rfl (hK.2.2.2.2.2.1 _ (by decide +kernel))
        · subst h; exact va_Nw.use rfl (hK.2.2.2.2.2.1 _ (by decide +kernel))
    · refine vx_catch (E := "java/lang/ArrayStoreException") (name := "java/lang/ArrayStoreException") (ce := ce) hown [] x [] hsplit (fun z hz => by cases hz) hcov h0 (hts _ hlink) (va_Nw.use rfl (hK.2.2.2.1 ("java/lang/ArrayStoreException", "java/lang/ArrayStoreException") (by decide +kernel))) z4 z5 z6 ?_
      exact kk H1 q9 ⟨fun b hb0 => ⟨(hW0.1 b hb0).1, (hW0.1 b hb0).2.kept (z2 b (hW0.1 b hb0).2.lt)⟩, Nat.le_trans hW0.2.1 z1, fun q h1 h2 => (z2 q (Nat.lt_of_lt_of_le h1 hW0.2.1)).trans (hW0.2.2 q h1 h2)⟩ z3
  intro T hT X
  obtain ⟨kv, hkv, -⟩ := Vm.findClass_spec (show T.vm.findClass C = some cellV.cls by rw [X.warmed.alike.findClass, g2]; exact w3)
  have hsh := zf_shown (show T.vm.findClass C = some cellV.cls by rw [X.warmed.alike.findClass, g2]; exact w3) hkv
  obtain ⟨t, st, q⟩ := hnote T hT X
  refine ⟨t, ?_, q⟩
  refine zd_aastBad X hx (a := a) (v := v) (cell := arrV (cj_cA E (cj_T σ a)) (cj_N σ a) (fun j => va_rf (cj_B σ a j))) (by rw [hT]; exact hca) (fun _ h => by cases h) (fun h => by cases h) k1 k2 hkcomp ⟨fun h => hi (Or.inl h), by rw [arrV_size]; exact Nat.not_le.mp fun h => hi (Or.inr h)⟩ (by rw [hT]; exact g1) (fun _ h => by rw [g3] at h; cases h) hkv hasg (g := F0 m pc ls (.ref v :: .int i :: .ref a :: rest)) rfl rfl (by rw [hb]; exact hdg) t ?_
  rw [hsh]
  exact st
end CJ
