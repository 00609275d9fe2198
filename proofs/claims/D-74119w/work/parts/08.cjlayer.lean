set_option maxRecDepth 100000
def cj_nF : List (String × Nat × String × String × String × String) := [("LeapJoin", 191, "LeapJoin$State", "tables", "[LLeapJoin$Table;", "LeapJoin"), ("LeapJoin", 178, "LeapJoin$State", "notes", "[I", "LeapJoin"), ("LeapJoin", 215, "LeapJoin$State", "used", "I", "LeapJoin"), ("LeapJoin", 125, "LeapJoin$State", "order", "I", "LeapJoin"), ("LeapJoin", 172, "LeapJoin$State", "noteMany", "I", "LeapJoin"), ("LeapJoin", 164, "LeapJoin$State", "came", "I", "LeapJoin"), ("LeapJoin", 245, "LeapJoin$Join", "begun", "[I", "LeapJoin"), ("LeapJoin", 156, "LeapJoin$Join", "many", "I", "LeapJoin"), ("LeapJoin", 239, "LeapJoin$Join", "leaps", "I", "LeapJoin"), ("LeapJoin", 242, "LeapJoin$Join", "deep", "I", "LeapJoin"), ("LeapJoin", 106, "LeapJoin$Wrong", "at", "I", "LeapJoin"), ("LeapJoin", 202, "LeapJoin$Table", "letters", "[I", "LeapJoin"), ("LeapJoin", 194, "LeapJoin$Table", "rows", "[LLeapJoin$Row;", "LeapJoin"), ("LeapJoin", 193, "LeapJoin$Table", "many", "I", "LeapJoin"), ("LeapJoin", 321, "LeapJoin$Script", "what", "[I", "LeapJoin"), ("LeapJoin", 318, "LeapJoin$Script", "many", "I", "LeapJoin"), ("LeapJoin$State", 29, "LeapJoin", "tablesRead", "[LLeapJoin$Table;", "LeapJoin"), ("LeapJoin$State", 25, "LeapJoin", "many", "I", "LeapJoin"), ("LeapJoin$State", 66, "LeapJoin$Table", "many", "I", "LeapJoin"), ("LeapJoin$Join", 80, "LeapJoin$State", "tables", "[LLeapJoin$Table;", "LeapJoin"), ("LeapJoin$Join", 77, "LeapJoin$State", "used", "I", "LeapJoin"), ("LeapJoin$Join", 89, "LeapJoin", "many", "I", "LeapJoin"), ("LeapJoin$Reader", 26, "LeapJoin", "tape", "[B", "LeapJoin"), ("LeapJoin$Reader", 23, "LeapJoin", "length", "I", "LeapJoin"), ("LeapJoin$Reader", 72, "LeapJoin$Table", "letters", "[I", "LeapJoin"), ("LeapJoin$Reader", 116, "LeapJoin$Script", "what", "[I", "LeapJoin"), ("LeapJoin$Reader", 124, "LeapJoin$Script", "numbers", "[I", "LeapJoin"), ("LeapJoin$Reader", 121, "LeapJoin$Script", "many", "I", "LeapJoin")]
def cj_nM : List (String × Nat × MethodName × String) := [("LeapJoin", 43, ⟨"LeapJoin$State", "<init>", "(LLeapJoin;)V"⟩, "LeapJoin"), ("LeapJoin", 61, ⟨"LeapJoin$Join", "<init>", "(LLeapJoin;)V"⟩, "LeapJoin"), ("LeapJoin", 88, ⟨"LeapJoin$Reader", "<init>", "(LLeapJoin;)V"⟩, "LeapJoin"), ("LeapJoin$Two", 1, ⟨"LeapJoin$Row", "<init>", "()V"⟩, "LeapJoin"), ("LeapJoin$Three", 3, ⟨"LeapJoin$Row", "<init>", "()V"⟩, "LeapJoin"), ("LeapJoin$State", 54, ⟨"LeapJoin", "isIn", "(JJJ)Z"⟩, "LeapJoin"), ("LeapJoin$State", 58, ⟨"LeapJoin", "has", "(II)Z"⟩, "LeapJoin"), ("LeapJoin$Join", 69, ⟨"LeapJoin", "has", "(II)Z"⟩, "LeapJoin"), ("LeapJoin$Reader", 53, ⟨"LeapJoin", "isIn", "(JJJ)Z"⟩, "LeapJoin"), ("LeapJoin$Reader", 57, ⟨"LeapJoin", "has", "(II)Z"⟩, "LeapJoin"), ("LeapJoin$Reader", 130, ⟨"LeapJoin$Script", "<init>", "()V"⟩, "LeapJoin"), ("LeapJoin$Table", 52, ⟨"LeapJoin", "has", "(II)Z"⟩, "LeapJoin"), ("LeapJoin$Row", 21, ⟨"LeapJoin", "isIn", "(JJJ)Z"⟩, "LeapJoin"), ("LeapJoin$One", 1, ⟨"LeapJoin$Row", "<init>", "()V"⟩, "LeapJoin")]
def cj_nC : List (String × String) := [("java/lang/Throwable", "java/lang/Object"), ("java/lang/ArrayStoreException", "java/lang/ArrayStoreException"), ("java/lang/ArrayStoreException", "java/lang/Object"), ("java/lang/String", "java/lang/Object"), ("java/util/NoSuchElementException", "java/util/NoSuchElementException"), ("java/util/NoSuchElementException", "java/lang/Object"), ("LeapJoin", "java/lang/Object"), ("LeapJoin$Two", "LeapJoin$Row"), ("LeapJoin$Two", "java/lang/Object"), ("LeapJoin$Three", "LeapJoin$Row"), ("LeapJoin$Three", "java/lang/Object"), ("LeapJoin$Script", "java/lang/Object"), ("LeapJoin$State", "java/lang/Object"), ("LeapJoin$Join", "java/lang/Object"), ("LeapJoinModel", "java/lang/Object"), ("LeapJoin$Reader", "java/lang/Object"), ("LeapJoin$Wrong", "LeapJoin$Wrong"), ("LeapJoin$Wrong", "java/lang/Object"), ("LeapJoin$Table", "java/lang/Object"), ("LeapJoin$One", "LeapJoin$Row"), ("LeapJoin$One", "java/lang/Object"), ("[I", "java/lang/Cloneable"), ("[LLeapJoin$One;", "java/lang/Cloneable"), ("[LLeapJoin$Row;", "java/lang/Cloneable"), ("[LLeapJoin$Three;", "java/lang/Cloneable"), ("[LLeapJoin$Two;", "java/lang/Cloneable")]
def cj_nO : List String := ["LeapJoin$Script", "LeapJoin$Table", "LeapJoin$State", "LeapJoin$One", "LeapJoin$Two", "LeapJoin$Three", "LeapJoin$Row"]
def cj_nD : List MethodName := [⟨"java/lang/Throwable", "<init>", "()V"⟩, ⟨"java/lang/Throwable", "<init>", "(Ljava/lang/String;)V"⟩, ⟨"java/lang/Exception", "<init>", "()V"⟩, ⟨"java/lang/Exception", "<init>", "(Ljava/lang/String;)V"⟩, ⟨"java/lang/RuntimeException", "<init>", "()V"⟩, ⟨"java/lang/RuntimeException", "<init>", "(Ljava/lang/String;)V"⟩, ⟨"LeapJoin$Row", "width", "()I"⟩, ⟨"LeapJoin$Row", "at", "(I)I"⟩]
/-! THE SYSTEM'S LAYER: the cells of LeapJoin and what it makes as a typed store (tags, lengths, int fields, ref fields, longs, int elements, ref elements); judgements cj_G, cj_M; a row an instruction over it.
tags: 1 LeapJoin 2 State 3 Join 4 Reader 5 Wrong 6 Table 7 One 8 Two 9 Three 10 Script; 20 byte[] 21 int[] 22 State[] 23 int[][] 24 int[][][] 26 Table[] 27 One[] 28 Two[] 29 Three[] 30 Script[]; a field's number: 100 * tag + its place -/
set_option maxRecDepth 100000
abbrev cj_S : Type := (Nat → Nat) × (Nat → Nat) × (Nat → Nat → Int32) × (Nat → Nat → Option Nat) × (Nat → Int64) × (Nat → Nat → Int32) × (Nat → Nat → Option Nat)
def cj_T (σ : cj_S) (a : Nat) : Nat := σ.1 a
def cj_N (σ : cj_S) (a : Nat) : Nat := σ.2.1 a
def cj_F (σ : cj_S) (k a : Nat) : Int32 := σ.2.2.1 k a
def cj_R (σ : cj_S) (k a : Nat) : Option Nat := σ.2.2.2.1 k a
def cj_J (σ : cj_S) (a : Nat) : Int64 := σ.2.2.2.2.1 a
def cj_A (σ : cj_S) (a i : Nat) : Int32 := σ.2.2.2.2.2.1 a i
def cj_B (σ : cj_S) (a i : Nat) : Option Nat := σ.2.2.2.2.2.2 a i
def cj_u2 {α : Type} (f : Nat → Nat → α) (k a : Nat) (v : α) : Nat → Nat → α := fun x y => if x = k ∧ y = a then v else f x y
def cj_sF (σ : cj_S) (k a : Nat) (v : Int32) : cj_S := (σ.1, σ.2.1, cj_u2 σ.2.2.1 k a v, σ.2.2.2)
def cj_sR (σ : cj_S) (k a : Nat) (v : Option Nat) : cj_S := (σ.1, σ.2.1, σ.2.2.1, cj_u2 σ.2.2.2.1 k a v, σ.2.2.2.2)
def cj_sJ (σ : cj_S) (a : Nat) (v : Int64) : cj_S := (σ.1, σ.2.1, σ.2.2.1, σ.2.2.2.1, (fun x => if x = a then v else σ.2.2.2.2.1 x), σ.2.2.2.2.2)
def cj_sA (σ : cj_S) (a i : Nat) (v : Int32) : cj_S := (σ.1, σ.2.1, σ.2.2.1, σ.2.2.2.1, σ.2.2.2.2.1, cj_u2 σ.2.2.2.2.2.1 a i v, σ.2.2.2.2.2.2)
def cj_sB (σ : cj_S) (a i : Nat) (v : Option Nat) : cj_S := (σ.1, σ.2.1, σ.2.2.1, σ.2.2.2.1, σ.2.2.2.2.1, σ.2.2.2.2.2.1, cj_u2 σ.2.2.2.2.2.2 a i v)
/-- an array's elements, all of them -/
def cj_mA (σ : cj_S) (a : Nat) (f : Nat → Int32) : cj_S := (σ.1, σ.2.1, σ.2.2.1, σ.2.2.2.1, σ.2.2.2.2.1, (fun x => if x = a then f else σ.2.2.2.2.2.1 x), σ.2.2.2.2.2.2)
def cj_mB (σ : cj_S) (a : Nat) (f : Nat → Option Nat) : cj_S := (σ.1, σ.2.1, σ.2.2.1, σ.2.2.2.1, σ.2.2.2.2.1, σ.2.2.2.2.2.1, (fun x => if x = a then f else σ.2.2.2.2.2.2 x))
/-- a new cell: its tag, length, elements; fields at nought -/
def cj_mk (σ : cj_S) (q t n : Nat) (fa : Nat → Int32) (fb : Nat → Option Nat) : cj_S :=
  ((fun x => if x = q then t else σ.1 x), (fun x => if x = q then n else σ.2.1 x), (fun k x => if x = q then 0 else σ.2.2.1 k x), (fun k x => if x = q then none else σ.2.2.2.1 k x), (fun x => if x = q then 0 else σ.2.2.2.2.1 x), (fun x => if x = q then fa else σ.2.2.2.2.2.1 x), (fun x => if x = q then fb else σ.2.2.2.2.2.2 x))
def cj_new (σ : cj_S) (q t : Nat) : cj_S := cj_mk σ q t 0 (fun _ => 0) (fun _ => none)
def cj_newA (σ : cj_S) (q t n : Nat) : cj_S := cj_mk σ q t n (fun _ => 0) (fun _ => none)
def cj_cl : List vw_C := [(RX1, TX1, 22), (RX2, TX2, 7), (RX3, TX3, 13), (RX5, TX5, 3), (RX6, TX6, 7), (RX7, TX7, 4), (RX9, TX9, 1), (RX10, TX10, 2), (RX11, TX11, 1), (RX12, TX12, 3)]
def cj_ty (ci : Nat) (j : Nat) : FieldType := match ci with
  | 0 => tyX1 j | 1 => tyX2 j | 2 => tyX3 j | 3 => tyX5 j | 4 => tyX6 j | 5 => tyX7 j | 6 => tyX9 j | 7 => tyX10 j | 8 => tyX11 j | _ => tyX12 j
def cj_n (ci : Nat) : Nat := match ci with
  | 0 => 22 | 1 => 7 | 2 => 13 | 3 => 3 | 4 => 7 | 5 => 4 | 6 => 1 | 7 => 2 | 8 => 1 | _ => 3
def cj_v (σ : cj_S) (a ci j : Nat) : Value := match cj_ty ci j with
  | .object _ => va_rf (cj_R σ (100 * (ci + 1) + j) a)
  | .array _ => va_rf (cj_R σ (100 * (ci + 1) + j) a)
  | .long => .long (cj_J σ a)
  | _ => .int (cj_F σ (100 * (ci + 1) + j) a)
def cj_ik (ci j : Nat) : Bool := match cj_ty ci j with | .object _ => false | .array _ => false | .long => false | _ => true
def cj_rk (ci j : Nat) : Bool := match cj_ty ci j with | .object _ => true | .array _ => true | _ => false
def cj_lk (ci j : Nat) : Bool := match cj_ty ci j with | .long => true | _ => false
theorem cj_vi {σ : cj_S} {a ci j : Nat} (h : cj_ik ci j = true) : cj_v σ a ci j = .int (cj_F σ (100 * (ci + 1) + j) a) := by unfold cj_ik at h; unfold cj_v; split <;> simp_all
theorem cj_vr {σ : cj_S} {a ci j : Nat} (h : cj_rk ci j = true) : cj_v σ a ci j = va_rf (cj_R σ (100 * (ci + 1) + j) a) := by unfold cj_rk at h; unfold cj_v; split <;> simp_all
theorem cj_vl {σ : cj_S} {a ci j : Nat} (h : cj_lk ci j = true) : cj_v σ a ci j = .long (cj_J σ a) := by unfold cj_lk at h; unfold cj_v; split <;> simp_all
theorem cj_vcase (ci j : Nat) : cj_ik ci j = true ∨ cj_rk ci j = true ∨ cj_lk ci j = true := by unfold cj_ik cj_rk cj_lk; split <;> simp_all
def cj_fs (σ : cj_S) (a ci : Nat) : List Value := (List.range (cj_n ci)).map (cj_v σ a ci)
/-- launch, class ids, slots, array classes by tag, the cells that may change, the heap at the start -/
abbrev cj_E : Type := Launch × (Nat → ClassId) × (Nat → Nat → Nat) × (Nat → ClassId) × (Nat → Prop) × Heap
def cj_l (E : cj_E) : Launch := E.1
def cj_D (E : cj_E) : va_G := (E.2.1, E.2.2.1)
def cj_cA (E : cj_E) : Nat → ClassId := E.2.2.2.1
def cj_P (E : cj_E) : Nat → Prop := E.2.2.2.2.1
def cj_HB (E : cj_E) : Heap := E.2.2.2.2.2
def cj_e (E : cj_E) (σ : cj_S) (a : Nat) : va_E := if cj_T σ a < 20 then .inr (cj_T σ a - 1, cj_fs σ a (cj_T σ a - 1)) else if cj_T σ a < 22 then .inl (cj_cA E (cj_T σ a), (cj_N σ a, .inl (cj_A σ a))) else .inl (cj_cA E (cj_T σ a), (cj_N σ a, .inr (.inr (.inr (.inr (cj_B σ a))))))
def cj_W (E : cj_E) (σ : cj_S) (H : Heap) : Prop := (∀ a, cj_T σ a ≠ 0 → cj_P E a ∧ va_at (cj_D E) cj_cl (a, cj_e E σ a) H) ∧ (cj_HB E).size ≤ H.size ∧ ∀ q, q < (cj_HB E).size → ¬ cj_P E q → H[q]? = (cj_HB E)[q]?
def cj_aty (j : Nat) : FieldType := match j with
  | 0 => .byte | 1 => .int | 2 => .object "LeapJoin$State" | 3 => .array .int | 4 => .array (.array .int) | 5 => .int | 6 => .object "LeapJoin$Table" | 7 => .object "LeapJoin$One" | 8 => .object "LeapJoin$Two" | 9 => .object "LeapJoin$Three" | _ => .object "LeapJoin$Script"
def cj_tys (E : cj_E) : List (ClassId × FieldType) := [(cj_cA E 20, cj_aty 0), (cj_cA E 21, cj_aty 1), (cj_cA E 22, cj_aty 2), (cj_cA E 23, cj_aty 3), (cj_cA E 24, cj_aty 4), (cj_cA E 21, cj_aty 5), (cj_cA E 26, cj_aty 6), (cj_cA E 27, cj_aty 7), (cj_cA E 28, cj_aty 8), (cj_cA E 29, cj_aty 9), (cj_cA E 30, cj_aty 10)]
/-- words that don't ride in the lists -/
def cj_kF (U : State) : Prop := ∀ x ∈ cj_nF, va_Nw (.fieldLinkNest x.1 x.2.1 x.2.2.1 x.2.2.2.1 x.2.2.2.2.1 x.2.2.2.2.2) U
def cj_kM (U : State) : Prop := ∀ x ∈ cj_nM, va_Nw (.methodLinkNest x.1 x.2.1 x.2.2.1 x.2.2.2) U
def cj_kC (U : State) : Prop := ∀ x ∈ cj_nC, va_Nw (.castable x.1 x.2) U
def cj_kO (U : State) : Prop := ∀ x ∈ cj_nO, va_AO x U
def cj_kD (U : State) : Prop := ∀ x ∈ cj_nD, va_Nw (.declares x) U
/-- rows of unlike widths aren't of one another's class -/
def cj_kN (U : State) : Prop := ∀ x ∈ ([("LeapJoin$One", "LeapJoin$Two"), ("LeapJoin$One", "LeapJoin$Three"), ("LeapJoin$Two", "LeapJoin$One"), ("LeapJoin$Two", "LeapJoin$Three"), ("LeapJoin$Three", "LeapJoin$One"), ("LeapJoin$Three", "LeapJoin$Two")] : List (String × String)), va_Nc x.1 x.2 U
/-- Throwable's statics, no stack traces -/
def cj_kZ (E : cj_E) (U : State) : Prop := vx_Zq "java/lang/Throwable" "UNASSIGNED_STACK" "[Ljava/lang/StackTraceElement;" (cj_P E) U (cj_HB E) ∧ vx_Zq "java/lang/Throwable" "SUPPRESSED_SENTINEL" "Ljava/util/List;" (cj_P E) U (cj_HB E) ∧ (cj_l E).stackTraces = false ∧ cj_kN U
def cj_K (E : cj_E) (U : State) : Prop := va_K (cj_D E) cj_cl (cj_tys E) U ∧ cj_kF U ∧ cj_kM U ∧ cj_kC U ∧ cj_kO U ∧ cj_kD U ∧ cj_kZ E U
theorem cj_K_warm {E : cj_E} {s U : State} (hW : s.WarmedH U.vm) (h : cj_K E s) : cj_K E U :=
  ⟨va_K.moved hW.alike h.1, fun x hx => va_Nw.warmF hW (h.2.1 x hx), fun x hx => va_Nw.warmM hW (h.2.2.1 x hx), fun x hx => va_Nw.warmC hW (h.2.2.2.1 x hx), fun x hx => va_AO.moved hW.alike (h.2.2.2.2.1 x hx), fun x hx => va_Nw.warmD hW (h.2.2.2.2.2.1 x hx), vx_Zq.moved hW.alike h.2.2.2.2.2.2.1, vx_Zq.moved hW.alike h.2.2.2.2.2.2.2.1, h.2.2.2.2.2.2.2.2.1, fun x hx => va_Nc.moved hW.alike (h.2.2.2.2.2.2.2.2.2 x hx)⟩
theorem cj_K_same {E : cj_E} {u U : State} (hv : u.vm = U.vm) (h : cj_K E u) : cj_K E U :=
  ⟨va_K.moved (by rw [hv]; exact Vm.Alike.refl _) h.1, fun x hx => va_Nw.same rfl hv (h.2.1 x hx), fun x hx => va_Nw.same rfl hv (h.2.2.1 x hx), fun x hx => va_Nw.same rfl hv (h.2.2.2.1 x hx), fun x hx => va_AO.moved (by rw [hv]; exact Vm.Alike.refl _) (h.2.2.2.2.1 x hx), fun x hx => va_Nw.same rfl hv (h.2.2.2.2.2.1 x hx), vx_Zq.moved (by rw [hv]; exact Vm.Alike.refl _) h.2.2.2.2.2.2.1, vx_Zq.moved (by rw [hv]; exact Vm.Alike.refl _) h.2.2.2.2.2.2.2.1, h.2.2.2.2.2.2.2.2.1, fun x hx => va_Nc.moved (by rw [hv]; exact Vm.Alike.refl _) (h.2.2.2.2.2.2.2.2.2 x hx)⟩
theorem cj_list {E : cj_E} {σ : cj_S} {H : Heap} (hW : cj_W E σ H) : ∃ ws : va_W, va_P (cj_D E) cj_cl ws H ∧ va_D (cj_P E) ws ∧ (∀ a, cj_T σ a ≠ 0 → ∃ k : Nat, ws[k]? = some (a, cj_e E σ a)) ∧ ∀ (k : Nat) (q : Nat × va_E), ws[k]? = some q → cj_T σ q.1 ≠ 0 ∧ q.2 = cj_e E σ q.1 := by
  have hlt : ∀ a, cj_T σ a ≠ 0 → a < H.size := fun a ha => (hW.1 a ha).2.lt
  generalize hL : (List.range H.size).filter (fun a => decide (cj_T σ a ≠ 0)) = L
  have hnd : L.Nodup := by rw [← hL]; exact List.Nodup.sublist List.filter_sublist List.nodup_range
  have hm : ∀ a, a ∈ L ↔ cj_T σ a ≠ 0 := by
    intro a
    rw [← hL, List.mem_filter, List.mem_range]
    simp only [decide_eq_true_eq]
    exact ⟨fun h => h.2, fun h => ⟨hlt a h, h⟩⟩
  have key : ∀ (k : Nat) (q : Nat × va_E), (L.map (fun a => (a, cj_e E σ a)))[k]? = some q → L[k]? = some q.1 ∧ q = (q.1, cj_e E σ q.1) := by
    intro k q hq
    rw [List.getElem?_map] at hq
    cases hk : L[k]? with
    | none => rw [hk] at hq; cases hq
    | some a => rw [hk] at hq; cases hq; exact ⟨rfl, rfl⟩
  refine ⟨L.map (fun a => (a, cj_e E σ a)), fun k q hq => ?_, ⟨fun i j x y hi hj hxy => ?_, fun k q hq => ?_⟩, fun a ha => ?_, fun k q hq => ?_⟩
  · obtain ⟨h1, h2⟩ := key k q hq
    rw [h2]
    exact (hW.1 _ ((hm _).mp (List.mem_of_getElem? h1))).2
  · obtain ⟨h1, -⟩ := key i x hi
    obtain ⟨h2, -⟩ := key j y hj
    have hlen := (List.getElem?_eq_some_iff.mp h1).1
    exact (List.getElem?_inj hlen hnd).mp (by rw [h1, h2, hxy])
  · obtain ⟨h1, -⟩ := key k q hq
    exact (hW.1 _ ((hm _).mp (List.mem_of_getElem? h1))).1
  · obtain ⟨k, hk⟩ := List.getElem?_of_mem ((hm a).mpr ha)
    exact ⟨k, by rw [List.getElem?_map, hk]; rfl⟩
  · obtain ⟨h1, h2⟩ := key k q hq
    exact ⟨(hm _).mp (List.mem_of_getElem? h1), by rw [h2]⟩
/-- the start's other cells stay -/
theorem cj_hb {E : cj_E} {σ : cj_S} {H H1 H0 : Heap} {locs locs1 : List Loc} (hz : (cj_HB E).size ≤ H0.size) (hW : cj_W E σ H) (hS : va_S (cj_P E) H0 H locs) (hS1 : va_S (cj_P E) H0 H1 locs1) : (cj_HB E).size ≤ H1.size ∧ ∀ q, q < (cj_HB E).size → ¬ cj_P E q → H1[q]? = (cj_HB E)[q]? :=
  ⟨Nat.le_trans hz hS1.1, fun q h1 h2 => by rw [hS1.2.1 q (Nat.lt_of_lt_of_le h1 hz) h2, ← hS.2.1 q (Nat.lt_of_lt_of_le h1 hz) h2]; exact hW.2.2 q h1 h2⟩
theorem cj_after {E : cj_E} {σ σ1 : cj_S} {H1 : Heap} {ws : va_W} {q0 a : Nat} {e0 : va_E} (hD : va_D (cj_P E) ws) (hl : ∀ a, cj_T σ a ≠ 0 → ∃ k : Nat, ws[k]? = some (a, cj_e E σ a)) (hq : ws[q0]? = some (a, cj_e E σ a)) (hP1 : va_P (cj_D E) cj_cl (ws.set q0 (a, e0)) H1) (hD1 : va_D (cj_P E) (ws.set q0 (a, e0))) (hb : (cj_HB E).size ≤ H1.size ∧ ∀ q, q < (cj_HB E).size → ¬ cj_P E q → H1[q]? = (cj_HB E)[q]?)
    (hT : ∀ b, cj_T σ1 b = cj_T σ b) (he : cj_e E σ1 a = e0) (ho : ∀ b, b ≠ a → cj_e E σ1 b = cj_e E σ b) : cj_W E σ1 H1 := by
  refine ⟨fun b hb => ?_, hb⟩
  rw [hT] at hb
  obtain ⟨k, hk⟩ := hl b hb
  by_cases hba : b = a
  · subst hba
    have hq1 : (ws.set q0 (b, e0))[q0]? = some (b, e0) := List.getElem?_set_self (List.getElem?_eq_some_iff.mp hq).1
    exact ⟨hD1.2 _ _ hq1, by rw [he]; exact hP1 _ _ hq1⟩
  · have hkq : q0 ≠ k := by
      intro z
      subst z
      rw [hk] at hq
      exact hba (congrArg Prod.fst (Option.some.inj hq))
    have hk1 : (ws.set q0 (a, e0))[k]? = some (b, cj_e E σ b) := by rw [List.getElem?_set_ne hkq]; exact hk
    exact ⟨hD1.2 _ _ hk1, by rw [ho b hba]; exact hP1 _ _ hk1⟩
theorem cj_made {E : cj_E} {σ σ1 : cj_S} {H1 : Heap} {ws : va_W} {q : Nat} {e0 : va_E} (hl : ∀ a, cj_T σ a ≠ 0 → ∃ k : Nat, ws[k]? = some (a, cj_e E σ a)) (hP1 : va_P (cj_D E) cj_cl (ws ++ [(q, e0)]) H1) (hD1 : va_D (cj_P E) (ws ++ [(q, e0)])) (hb : (cj_HB E).size ≤ H1.size ∧ ∀ q, q < (cj_HB E).size → ¬ cj_P E q → H1[q]? = (cj_HB E)[q]?)
    (hT : ∀ b, b ≠ q → cj_T σ1 b = cj_T σ b) (he : cj_e E σ1 q = e0) (ho : ∀ b, b ≠ q → cj_e E σ1 b = cj_e E σ b) : cj_T σ q = 0 ∧ cj_W E σ1 H1 := by
  have hlast : (ws ++ [(q, e0)])[ws.length]? = some (q, e0) := by rw [List.getElem?_append_right (Nat.le_refl _), Nat.sub_self]; rfl
  refine ⟨Classical.byContradiction fun hq => ?_, fun b hb => ?_, hb⟩
  · obtain ⟨k, hk⟩ := hl q hq
    have hlt := (List.getElem?_eq_some_iff.mp hk).1
    have h1 : (ws ++ [(q, e0)])[k]? = some (q, cj_e E σ q) := by rw [List.getElem?_append_left hlt]; exact hk
    have := hD1.1 k ws.length _ _ h1 hlast rfl
    omega
  · by_cases hbq : b = q
    · subst hbq
      exact ⟨hD1.2 _ _ hlast, by rw [he]; exact hP1 _ _ hlast⟩
    · rw [hT b hbq] at hb
      obtain ⟨k, hk⟩ := hl b hb
      have h1 : (ws ++ [(q, e0)])[k]? = some (b, cj_e E σ b) := by rw [List.getElem?_append_left (List.getElem?_eq_some_iff.mp hk).1]; exact hk
      exact ⟨hD1.2 _ _ h1, by rw [ho b hbq]; exact hP1 _ _ h1⟩
theorem cj_fsset {n k : Nat} {f g : Nat → Value} {v : Value} (h : ∀ j, j < n → g j = if j = k then v else f j) : ((List.range n).map f).set k v = (List.range n).map g := by
  apply List.ext_getElem?
  intro i
  rw [List.getElem?_set]
  by_cases hi : i < n
  · simp only [List.length_map, List.length_range, List.getElem?_map, List.getElem?_range hi, Option.map_some, h i hi]
    by_cases hik : k = i
    · subst hik; simp [hi]
    · simp [hik, Ne.symm hik]
  · have h1 : (List.range n)[i]? = none := by simp; omega
    simp only [List.length_map, List.length_range, List.getElem?_map, h1, Option.map_none]
    split
    · rename_i h2; subst h2; simp [hi]
    · rfl
theorem cj_fslen (σ : cj_S) (a ci : Nat) : (cj_fs σ a ci).length = cj_n ci := by simp [cj_fs]
theorem cj_fsget (σ : cj_S) (a ci : Nat) {k : Nat} (hk : k < cj_n ci) : (cj_fs σ a ci)[k]? = some (cj_v σ a ci k) := by simp [cj_fs, List.getElem?_map, List.getElem?_range hk]
theorem cj_eo {E : cj_E} {σ : cj_S} {a ci : Nat} (hT : cj_T σ a = ci + 1) (h : ci < 19) : cj_e E σ a = .inr (ci, cj_fs σ a ci) := by
  unfold cj_e; rw [hT, if_pos (by omega)]; rfl
theorem cj_ei {E : cj_E} {σ : cj_S} {a t : Nat} (hT : cj_T σ a = t) (h1 : 20 ≤ t) (h2 : t < 22) : cj_e E σ a = .inl (cj_cA E t, (cj_N σ a, .inl (cj_A σ a))) := by
  unfold cj_e; rw [hT, if_neg (by omega), if_pos h2]
theorem cj_eb {E : cj_E} {σ : cj_S} {a t : Nat} (hT : cj_T σ a = t) (h1 : 22 ≤ t) : cj_e E σ a = .inl (cj_cA E t, (cj_N σ a, .inr (.inr (.inr (.inr (cj_B σ a)))))) := by
  unfold cj_e; rw [hT, if_neg (by omega), if_neg (by omega)]
/-- what a cell's entry rests on -/
theorem cj_e_eq {E : cj_E} {σ σ1 : cj_S} {b : Nat} (h1 : cj_T σ1 b = cj_T σ b) (h2 : cj_N σ1 b = cj_N σ b) (h3 : ∀ k, cj_F σ1 k b = cj_F σ k b) (h4 : ∀ k, cj_R σ1 k b = cj_R σ k b) (h5 : cj_J σ1 b = cj_J σ b) (h6 : cj_A σ1 b = cj_A σ b) (h7 : cj_B σ1 b = cj_B σ b) : cj_e E σ1 b = cj_e E σ b := by
  have hv : ∀ ci j, cj_v σ1 b ci j = cj_v σ b ci j := fun ci j => by unfold cj_v; rw [h3, h4, h5]
  have hf : ∀ ci, cj_fs σ1 b ci = cj_fs σ b ci := fun ci => by unfold cj_fs; exact List.map_congr_left fun j _ => hv ci j
  unfold cj_e
  rw [h1, h2, h6, h7, hf]
def cj_rm (d mc ms : Nat) : Room := { frames := d + 1, cells := mc, slots := ms, locals := (12000 + 64 * (d + 1)) }
def cj_B_ (E : cj_E) (σ : cj_S) (U : State) : Prop := cj_W E σ U.heap
def cj_Pc (E : cj_E) (σ : cj_S) (U : State) : Prop := cj_W E σ U.heap ∧ cj_K E U ∧ ∀ q, U.heap.size ≤ q → cj_P E q
def cj_cx (E : cj_E) (y : MethodName) (bytes : ByteArray) (maxL : Nat) (ret : Option FieldType) (p : Program) (s : State) (m : MethodId) (args : Array Value) (meth : Method) (c : Code) : Prop := p.tables.exec = Jvm.exec ∧ c.code = bytes ∧ meth.sig.returnType = ret ∧ meth.locks = false ∧ c.maxLocals = maxL ∧ s.vm.findClass y.cls = some m.cls ∧ (∀ w ∈ lw_all, w.before args s = true) ∧ cj_K E s ∧ (∀ q, s.heap.size ≤ q → cj_P E q) ∧ meth.name = y.name ∧ (cj_HB E).size ≤ s.heap.size
def cj_G (E : cj_E) (k mc ms : Nat) (y : MethodName) (bytes : ByteArray) (maxL : Nat) (ret : Option FieldType) (Q : Array Value → State → Outcome → State → Prop) (pc : Nat) (lv : List (Nat × Value)) (st : List Value) (σ : cj_S) (cu su : Nat) : Prop :=
  ∀ (d : Nat), k ≤ d → ∀ (p : Program) (e : Env) (s : State) (m : MethodId) (args : Array Value) (below : List Frame) (meth : Method) (c : Code), cj_cx E y bytes maxL ret p s m args meth c → ∀ (H : Heap) (locs : List Loc) (ls : Array Slot), cj_W E σ H → va_S (cj_P E) s.heap H locs → lv_has ls maxL lv → W p (cj_l E) e (cj_rm d mc ms) s m args below meth c H locs cu su (MQ below Q args s mc ms (cj_P E)) (F0 m pc ls st)
def cj_M (E : cj_E) (k mc ms : Nat) (y : MethodName) (bytes : ByteArray) (maxL : Nat) (ret : Option FieldType) (av : List Value) (σ : cj_S) (Q : Array Value → State → Outcome → State → Prop) : Prop :=
  ∀ d : Nat, k ≤ d → Met (cj_l E) y (ws_ y bytes maxL ret) (cj_rm d mc ms) (va_Pc av (cj_Pc E σ)) Q mc ms (cj_P E)
def cj_MW (E : cj_E) (k mc ms : Nat) (y : MethodName) (bytes : ByteArray) (maxL : Nat) (ret : Option FieldType) (hh : List (Nat × Nat × Nat × Nat)) (av : List Value) (σ : cj_S) (Q : Array Value → State → Outcome → State → Prop) : Prop :=
  ∀ d : Nat, k ≤ d → Met (cj_l E) y (wsW_ y bytes maxL ret hh) (cj_rm d mc ms) (va_Pc av (cj_Pc E σ)) Q mc ms (cj_P E)
abbrev cj_Qi (E : cj_E) (P : Int32 → cj_S → Prop) := va_Qi P (cj_B_ E) (cj_P E)
abbrev cj_Ql (E : cj_E) (P : Int64 → cj_S → Prop) := va_Ql P (cj_B_ E) (cj_P E)
abbrev cj_Qd (E : cj_E) (P : UInt64 → cj_S → Prop) := va_Qd P (cj_B_ E) (cj_P E)
abbrev cj_Qv (E : cj_E) (P : cj_S → Prop) := va_Qv P (cj_B_ E) (cj_P E)
abbrev cj_Qq (E : cj_E) (P : Option Nat → cj_S → Prop) := va_Qq P (cj_B_ E) (cj_P E)
theorem cj_enter {E : cj_E} {k mc ms : Nat} {y : MethodName} {bytes : ByteArray} {maxL : Nat} {ret : Option FieldType} {av : List Value} {σ : cj_S} {Q : Array Value → State → Outcome → State → Prop} (hy : plainName y.cls = true) (hn : (lg_sl av).length ≤ maxL) {lv : List (Nat × Value)} (hlv : lv_args 0 av = lv) (h : cj_G E k mc ms y bytes maxL ret Q 0 lv [] σ 0 0) : cj_M E k mc ms y bytes maxL ret av σ Q := by
  intro d hd
  refine Met.ofW (cc := bytes) (maxL := maxL) (ret := ret) hy rfl ?_
  intro p e s m args below meth c s₁ B hml hv
  obtain ⟨rfl, hW, hK, hA⟩ := hv
  have hts := atoms_spec (ws := ws_ y bytes maxL ret) B.pre
  have hl := lv_entry av (n := maxL) hn
  rw [hlv] at hl
  rw [lg_entry_eq]
  exact h d hd p e s m av.toArray below meth c ⟨B.exec, B.bytes, B.returns, B.notSynchronized, hml, findClass_of_methodNamed B.named, fun w hw => hts w (List.mem_cons_of_mem _ hw), hK, hA, (name_of_methodNamed B.named B.method).1, hW.2.1⟩ s.heap [] _ hW va_S.rf hl
