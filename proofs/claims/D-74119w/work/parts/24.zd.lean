/-! an aastore that fails: ArrayStoreException -/
section ZD
variable {p : Program} {l : Launch} {e : Env} {R : Room} {s : State} {m : MethodId} {args : Array Value} {below : List Frame} {meth : Method} {c : Code} {T : State} {locs : List Loc} {cells slots : Nat}
theorem zd_aastBad (X : Stand p l e R s m args below meth c T locs cells slots) (hexec : p.tables.exec = Jvm.exec)
    {a v : Addr} {cell cv : Cell} {j : Int32} {k kv kcomp : Class} {comp : ClassId} {t : FieldType}
    (hcell : T.heap[a]? = some cell) (hobj : ∀ q, cell.vm ≠ .statics q) (hknown : cell.vm ≠ .unknown)
    (hk : s.vm.classes[cell.cls]? = some k) (hkind : k.kind = .array comp t) (hkcomp : s.vm.classes[comp]? = some kcomp)
    (hin : ¬ j < 0 ∧ j.toNatClampNeg < cell.slots.size)
    (hv : T.heap[v]? = some cv) (hvobj : ∀ q, cv.vm ≠ .statics q) (hkv : T.vm.classes[cv.cls]? = some kv) (hinst : s.vm.assignable cv.cls comp = false)
    {g : JFrame} (hg : g.method = m) {rest : List Value} (hstack : g.stack = .ref v :: .int j :: .ref a :: rest) (hdg : decode c.code g.pc = .ok (.aastore, 1)) :
    ∀ target, Steps p.tables e below ((T.setTop { g with stack := rest }).pushFrame (.throwNew "java/lang/ArrayStoreException" (some kv.shown) none)) target → Steps p.tables e below (T.setTop g) target := by
  intro target hrest
  have hal : s.vm.Alike T.vm := X.warmed.alike
  obtain ⟨k₁, hk₁, hek⟩ := hal.2.2 _ _ hk
  have hkind₁ : k₁.kind = .array comp t := by rw [hek]; exact hkind
  obtain ⟨kcomp₁, hkcomp₁, -⟩ := hal.2.2 _ _ hkcomp
  have hinst₁ : T.vm.assignable cv.cls comp = false := by rw [hal.assignable]; exact hinst
  have harr : T.isArray cell := ⟨hobj, k₁, hk₁, comp, t, hkind₁⟩
  subst hg
  jvm_step X.here [hexec, hdg, aastore.sem, X.here.top, hstack, hcell, hobj, hknown, hk₁, hkind₁, hin.1, hin.2, Nat.not_le.mpr hin.2, harr, hv, hvobj, hkv, hkcomp₁, hinst₁]
  exact hrest
end ZD
