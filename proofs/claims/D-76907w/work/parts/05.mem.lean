/-! THE MEMORY: heaps as partial maps; every method's contract is said over a map -/
/-- the classes whose objects are in the map, by number -/
def xCl : List vw_C := [(RX0, TX0, 25), (RX1, TX1, 4), (RX2, TX2, 32), (RX3, TX3, 6), (RX4, TX4, 7), (RJ3, TJ3, 4), (RJ33, TJ33, 3), (RJ29, TJ29, 5), (RJ5, TJ5, 3), (RJ6, TJ6, 4), (RJ4, TJ4, 3), (RJ40, TJ40, 3), (RJ39, TJ39, 2), (RJ14, TJ14, 4), (RJ15, TJ15, 4), (RJ32, TJ32, 1), (RJ31, TJ31, 1)]
/-- the array types, by number -/
def xTy : Nat → FieldType := fun k => match k with
  | 0 => .int
  | 1 => .long
  | 2 => .boolean
  | 3 => .byte
  | 4 => .object "java/lang/Object"
  | 5 => .object "CellReducer$Cell"
  | 6 => .array .long
  | 7 => .object "java/lang/Integer"
  | _ => .object "java/lang/Long"
abbrev Ob : Type := (Nat × vp_A) ⊕ (Nat × List Value)
abbrev Mm : Type := (Nat → Option Ob) × Nat × Nat
/-- n0 (what was there before), the greatest heap, the greatest number of slots, the statics' values, the cells that were there before and are read -/
abbrev Ev : Type := Nat × Nat × Nat × (Nat → Value) × (Nat → Option Ob)
abbrev Dx : Type := va_G × (Nat → ClassId)
def xtot (H : Heap) : Nat := (H.toList.map (·.slots.size)).sum
def xcv (D : Dx) (e : Ob) : va_E := match e with
  | .inl x => .inl (D.2 x.1, x.2)
  | .inr o => .inr o
def xat (D : Dx) (a : Nat) (e : Ob) (H : Heap) : Prop := va_at D.1 xCl (a, xcv D e) H
/-- the heap H is the map σ (and what was there before is as it was) -/
def Hs (D : Dx) (H0 : Heap) (ev : Ev) (σ : Mm) (H : Heap) : Prop :=
  H.size = σ.2.1 ∧ xtot H = σ.2.2 ∧ ev.1 ≤ σ.2.1 ∧ σ.2.1 ≤ ev.2.1 ∧ σ.2.2 ≤ ev.2.2.1 ∧ (∀ q : Nat, q < ev.1 → H[q]? = H0[q]?) ∧ (∀ (a : Nat) (e : Ob), ev.1 ≤ a → σ.1 a = some e → xat D a e H) ∧ ∀ a : Nat, a < ev.1 → σ.1 a = ev.2.2.2.2 a
def xval (c : (Nat → Int32) ⊕ (Nat → Int64) ⊕ (Nat → UInt32) ⊕ (Nat → UInt64) ⊕ (Nat → Option Nat)) (j : Nat) : Value := match c with
  | .inl f => .int (f j)
  | .inr (.inl f) => .long (f j)
  | .inr (.inr (.inl f)) => .float (f j)
  | .inr (.inr (.inr (.inl f))) => .double (f j)
  | .inr (.inr (.inr (.inr f))) => va_rf (f j)
/-- a cell that was there before: it can be read -/
def xro (D : Dx) (a : Nat) (e : Ob) (U : State) (H : Heap) : Prop := match e with
  | .inl x => ∃ cell : Cell, H[a]? = some cell ∧ U.isArrayOf cell (xTy x.1) ∧ cell.vm ≠ .unknown ∧ (x.2.1 ≤ cell.slots.size ∧ cell.slots.size.toInt32 = Int32.ofNat x.2.1) ∧ ∀ j : Nat, j < x.2.1 → cell.slots[j]? = some (xval x.2.2 j)
  | .inr o => ∃ r : vw_C, xCl[o.1]? = some r ∧ ∃ cell : Cell, H[a]? = some cell ∧ cell.vm.isStatics = false ∧ cell.vm ≠ .unknown ∧ U.vm.findClass r.1 = some cell.cls ∧ ∀ (k : Nat) (v : Value), k < r.2.2 → o.2[k]? = some v → cell.slots[D.1.2 o.1 k]? = some v
theorem xro.moved {D : Dx} {a : Nat} {e : Ob} {u U : State} {H : Heap} (hvm : u.vm.Alike U.vm) (h : xro D a e u H) : xro D a e U H := by
  cases e with
  | inl x =>
    obtain ⟨cell, h1, h2, h3⟩ := h
    exact ⟨cell, h1, State.isArrayOf_alike hvm h2, h3⟩
  | inr o =>
    obtain ⟨r, hr, cell, h1, h2, h3, h4, h5⟩ := h
    exact ⟨r, hr, cell, h1, h2, h3, by rw [hvm.findClass]; exact h4, h5⟩
/-- the tables -/
def xTys (D : Dx) : List (ClassId × FieldType) := [(D.2 0, xTy 0), (D.2 1, xTy 1), (D.2 2, xTy 2), (D.2 3, xTy 3), (D.2 4, xTy 4), (D.2 5, xTy 5), (D.2 6, xTy 6)]
/-- words that don't ride in lw_all: links of nest mates (host CellReducer) -/
def xNF : List (String × Nat × String × String × String × String) := [("CellReducer", 139, "CellReducer$Cell", "s", "[J", "CellReducer"), ("CellReducer", 259, "CellReducer$Cell", "d", "[J", "CellReducer"), ("CellReducer", 145, "CellReducer$Cell", "column", "[[J", "CellReducer"), ("CellReducer$Reader", 75, "CellReducer", "tried", "LCellReducer$Cell;", "CellReducer"), ("CellReducer$Reader", 35, "CellReducer", "tape", "[B", "CellReducer"), ("CellReducer$Reader", 32, "CellReducer", "length", "I", "CellReducer"), ("CellReducer", 398, "CellReducer$Reader", "begins", "[I", "CellReducer"), ("CellReducer", 390, "CellReducer$Reader", "parts", "I", "CellReducer"), ("CellReducer", 403, "CellReducer$Fault", "code", "I", "CellReducer"), ("java/util/Arrays", 112, "java/util/Arrays$LegacyMergeSort", "userRequested", "Z", "java/util/Arrays")]
def xNM : List (String × Nat × MethodName × String) := [("CellReducer", 17, ⟨"CellReducer$Cell", "<init>", "()V"⟩, "CellReducer"), ("CellReducer$Cell", 45, ⟨"CellReducer", "isIn", "(JJJ)Z"⟩, "CellReducer"), ("CellReducer", 209, ⟨"CellReducer$Cell", "areAbove", "(I)Z"⟩, "CellReducer"), ("CellReducer", 383, ⟨"CellReducer$Reader", "<init>", "(LCellReducer;)V"⟩, "CellReducer"), ("CellReducer$Reader", 59, ⟨"CellReducer", "isIn", "(JJJ)Z"⟩, "CellReducer"), ("java/util/ImmutableCollections", 43, ⟨"java/util/ImmutableCollections$ListN", "<init>", "([Ljava/lang/Object;Z)V"⟩, "java/util/ImmutableCollections")]
/-- pairs of classes, the one castable to the other -/
def xCa : List (String × String) := [("CellReducer$Cell", "java/lang/Object"), ("java/lang/Integer", "java/lang/Object"), ("java/lang/Long", "java/lang/Object"), ("java/lang/Integer", "java/lang/Comparable"), ("java/lang/Long", "java/lang/Comparable"), ("java/util/LinkedList$ListItr", "java/util/Iterator"), ("java/util/ArrayDeque$DeqIterator", "java/util/Iterator"), ("java/util/ArrayList", "java/util/List"), ("java/util/ImmutableCollections$ListN", "java/util/List"), ("[J", "java/lang/Object"), ("[B", "java/lang/Object"), ("[B", "java/lang/Cloneable")]
/-- statics that are read, by number -/
def xSt : List (String × String × String) := [("java/lang/Integer$IntegerCache", "high", "I"), ("java/lang/Integer$IntegerCache", "cache", "[Ljava/lang/Integer;"), ("java/lang/Long$LongCache", "cache", "[Ljava/lang/Long;"), ("java/lang/String", "COMPACT_STRINGS", "Z"), ("java/lang/Integer", "DigitOnes", "[B"), ("java/lang/Integer", "DigitTens", "[B"), ("java/util/ArrayList", "DEFAULTCAPACITY_EMPTY_ELEMENTDATA", "[Ljava/lang/Object;"), ("java/util/Arrays$LegacyMergeSort", "userRequested", "Z"), ("java/util/BitSet", "$assertionsDisabled", "Z"), ("java/util/ComparableTimSort", "$assertionsDisabled", "Z"), ("java/util/ImmutableCollections", "$assertionsDisabled", "Z"), ("java/util/ImmutableCollections", "EMPTY_LIST", "Ljava/util/ImmutableCollections$ListN;"), ("java/lang/Throwable", "SUPPRESSED_SENTINEL", "Ljava/util/List;"), ("java/lang/Throwable", "UNASSIGNED_STACK", "[Ljava/lang/StackTraceElement;"), ("jdk/internal/util/Preconditions", "SIOOBE_FORMATTER", "Ljava/util/function/BiFunction;")]
/-- interface methods, by the receiver's class -/
def xFw : List (String × MethodName × MethodName) := [("java/util/LinkedList$ListItr", ⟨"java/util/Iterator", "hasNext", "()Z"⟩, ⟨"java/util/LinkedList$ListItr", "hasNext", "()Z"⟩), ("java/util/LinkedList$ListItr", ⟨"java/util/Iterator", "next", "()Ljava/lang/Object;"⟩, ⟨"java/util/LinkedList$ListItr", "next", "()Ljava/lang/Object;"⟩), ("java/util/LinkedList$ListItr", ⟨"java/util/Iterator", "remove", "()V"⟩, ⟨"java/util/LinkedList$ListItr", "remove", "()V"⟩), ("java/util/ArrayDeque$DeqIterator", ⟨"java/util/Iterator", "hasNext", "()Z"⟩, ⟨"java/util/ArrayDeque$DeqIterator", "hasNext", "()Z"⟩), ("java/util/ArrayDeque$DeqIterator", ⟨"java/util/Iterator", "next", "()Ljava/lang/Object;"⟩, ⟨"java/util/ArrayDeque$DeqIterator", "next", "()Ljava/lang/Object;"⟩), ("java/util/ArrayDeque$DeqIterator", ⟨"java/util/Iterator", "remove", "()V"⟩, ⟨"java/util/ArrayDeque$DeqIterator", "remove", "()V"⟩), ("java/util/ArrayList", ⟨"java/util/List", "add", "(Ljava/lang/Object;)Z"⟩, ⟨"java/util/ArrayList", "add", "(Ljava/lang/Object;)Z"⟩), ("java/util/ArrayList", ⟨"java/util/List", "get", "(I)Ljava/lang/Object;"⟩, ⟨"java/util/ArrayList", "get", "(I)Ljava/lang/Object;"⟩), ("java/util/ArrayList", ⟨"java/util/List", "sort", "(Ljava/util/Comparator;)V"⟩, ⟨"java/util/ArrayList", "sort", "(Ljava/util/Comparator;)V"⟩), ("java/util/ImmutableCollections$ListN", ⟨"java/util/List", "indexOf", "(Ljava/lang/Object;)I"⟩, ⟨"java/util/ImmutableCollections$ListN", "indexOf", "(Ljava/lang/Object;)I"⟩), ("java/lang/Long", ⟨"java/lang/Comparable", "compareTo", "(Ljava/lang/Object;)I"⟩, ⟨"java/lang/Long", "compareTo", "(Ljava/lang/Object;)I"⟩)]
theorem xFw_ok : ∀ q ∈ xFw, q.2.1.cls ≠ "java/lang/invoke/MethodHandle" ∧ q.2.1.cls ≠ "java/lang/invoke/VarHandle" := by decide
/-- constants that are strings: their addresses are statics 100, 101, .. of ev -/
def xLd : List (String × Nat × String) := [("CellReducer", 75, ""), ("CellReducer", 408, "g")]
/-- private methods that are called upon objects of a subclass -/
def xPv : List MethodName := [⟨"java/lang/AbstractStringBuilder", "appendNull", "()Ljava/lang/AbstractStringBuilder;"⟩, ⟨"java/lang/AbstractStringBuilder", "ensureCapacityInternal", "(I)V"⟩, ⟨"java/lang/AbstractStringBuilder", "newCapacity", "(I)I"⟩, ⟨"java/lang/AbstractStringBuilder", "putStringAt", "(ILjava/lang/String;)V"⟩, ⟨"java/lang/AbstractStringBuilder", "inflateIfNeededFor", "(Ljava/lang/String;)V"⟩, ⟨"java/lang/AbstractStringBuilder", "inflate", "()V"⟩]
theorem xPv_moved {y : MethodName} {u U : State} (hvm : u.vm.Alike U.vm) (h : (Cond.privateMethod y).before #[] u = true) : (Cond.privateMethod y).before #[] U = true := by
  have e := Cond.onTables_vm (A := #[]) (A' := #[]) (U := u) (U' := U) U.vm (Cond.privateMethod y) rfl
  have hU : U.setVm U.vm = U := rfl
  rw [hU] at e
  rw [← e, Cond.privateMethod_setVm hvm]
  exact h
/-- methods that a class below declares anew -/
def xDe : List MethodName := [⟨"java/util/AbstractList", "listIterator", "(I)Ljava/util/ListIterator;"⟩]
/-- words of the tables that don't ride and are carried all through -/
def xcd (w : Cond) : Bool := match w with
  | .castable _ _ => true
  | .declares _ => true
  | _ => false
theorem xcd_warm {w : Cond} (h : xcd w = true) {u U : State} (hW : u.WarmedH U.vm) (hw : va_Nw w u) : va_Nw w U := by
  cases w <;> first | (exact va_Nw.warmC hW hw) | (exact va_Nw.warmD hW hw) | (exact absurd h (by simp [xcd]))
theorem xcd_ot {w : Cond} (h : xcd w = true) : w.onTables = true := by
  cases w <;> first | rfl | (exact absurd h (by simp [xcd]))
def xEx (H0 : Heap) (ev : Ev) (U : State) : Prop := va_AO "java/lang/Object" U ∧ (Cond.arrayOver (.array .long)).before #[] U = true ∧ (∀ (k : Nat) (q : String × Nat × String), xLd[k]? = some q → ∃ a : Nat, ev.2.2.2.1 (100 + k) = .ref a ∧ vk_R q.1 q.2.1 q.2.2 a U) ∧ (∀ y ∈ xPv, (Cond.privateMethod y).before #[] U = true) ∧ (∀ y ∈ xDe, va_Nw (.declares y) U) ∧ (∀ w ∈ lw_tbl, xcd w = true → va_Nw w U) ∧ vx_Zq Bundle.tN "UNASSIGNED_STACK" Bundle.steD (fun a => ev.1 ≤ a) U H0 ∧ vx_Zq Bundle.tN "SUPPRESSED_SENTINEL" Bundle.listD (fun a => ev.1 ≤ a) U H0 ∧ va_Nc "java/lang/ArrayIndexOutOfBoundsException" "java/lang/NullPointerException" U
theorem xEx.warm {H0 : Heap} {ev : Ev} {u U : State} (hW : u.WarmedH U.vm) (h : xEx H0 ev u) : xEx H0 ev U := by
  obtain ⟨h1, h2, h3, h4, h5, h6, h7, h8, h9⟩ := h
  exact ⟨va_AO.moved hW.alike h1, over_moved hW.alike h2, (fun k q hq => by obtain ⟨a, g1, g2⟩ := h3 k q hq; exact ⟨a, g1, vk_R.warm hW g2⟩), (fun y hy => xPv_moved hW.alike (h4 y hy)), (fun y hy => va_Nw.warmD hW (h5 y hy)), (fun w hw hc => xcd_warm hc hW (h6 w hw hc)), vx_Zq.moved hW.alike h7, vx_Zq.moved hW.alike h8, va_Nc.moved hW.alike h9⟩
theorem xEx.same {H0 : Heap} {ev : Ev} {u U : State} (hW : u.vm = U.vm) (h : xEx H0 ev u) : xEx H0 ev U := by
  have ha : u.vm.Alike U.vm := by rw [← hW]; exact Vm.Alike.refl u.vm
  obtain ⟨h1, h2, h3, h4, h5, h6, h7, h8, h9⟩ := h
  exact ⟨va_AO.moved ha h1, over_moved ha h2, (fun k q hq => by obtain ⟨a, g1, g2⟩ := h3 k q hq; exact ⟨a, g1, vk_R.same hW.symm g2⟩), (fun y hy => xPv_moved ha (h4 y hy)), (fun y hy => va_Nw.same rfl hW (h5 y hy)), (fun w hw hc => va_Nw.same (xcd_ot hc) hW (h6 w hw hc)), vx_Zq.moved ha h7, vx_Zq.moved ha h8, va_Nc.moved ha h9⟩
def Kx (D : Dx) (H0 : Heap) (ev : Ev) (U : State) : Prop := va_K D.1 xCl (xTys D) U ∧ (∀ q ∈ xNF, va_Nw (.fieldLinkNest q.1 q.2.1 q.2.2.1 q.2.2.2.1 q.2.2.2.2.1 q.2.2.2.2.2) U) ∧ (∀ q ∈ xNM, va_Nw (.methodLinkNest q.1 q.2.1 q.2.2.1 q.2.2.2) U) ∧ va_AO "CellReducer$Cell" U ∧ xEx H0 ev U ∧ (∀ q ∈ xCa, va_Nw (.castable q.1 q.2) U) ∧ (∀ q ∈ xFw, va_Fw q.1 q.2.1 q.2.2 U) ∧ (∀ (k : Nat) (q : String × String × String), xSt[k]? = some q → va_Z q.1 q.2.1 q.2.2 (ev.2.2.2.1 k) (fun a => ev.1 ≤ a) U H0) ∧ (ArrOfT U (D.2 7) (xTy 7) ∧ ArrOfT U (D.2 8) (xTy 8)) ∧ ∀ (a : Nat) (e : Ob), ev.2.2.2.2 a = some e → xro D a e U H0
theorem Kx.warm {D : Dx} {H0 : Heap} {ev : Ev} {u U : State} (hW : u.WarmedH U.vm) (h : Kx D H0 ev u) : Kx D H0 ev U := ⟨va_K.moved hW.alike h.1, fun q hq => va_Nw.warmF hW (h.2.1 q hq), fun q hq => va_Nw.warmM hW (h.2.2.1 q hq), va_AO.moved hW.alike h.2.2.2.1, h.2.2.2.2.1.warm hW, fun q hq => va_Nw.warmC hW (h.2.2.2.2.2.1 q hq), fun q hq => va_Fw.moved (xFw_ok q hq) hW.alike (h.2.2.2.2.2.2.1 q hq), fun k q hq => va_Z.moved hW.alike (h.2.2.2.2.2.2.2.1 k q hq), ⟨fun n z => State.isArrayOf_alike hW.alike (h.2.2.2.2.2.2.2.2.1.1 n z), fun n z => State.isArrayOf_alike hW.alike (h.2.2.2.2.2.2.2.2.1.2 n z)⟩, fun a e he => xro.moved hW.alike (h.2.2.2.2.2.2.2.2.2 a e he)⟩
theorem Kx.same {D : Dx} {H0 : Heap} {ev : Ev} {u U : State} (hW : u.vm = U.vm) (h : Kx D H0 ev u) : Kx D H0 ev U := by
  have ha : u.vm.Alike U.vm := by rw [← hW]; exact Vm.Alike.refl u.vm
  exact ⟨va_K.moved ha h.1, fun q hq => va_Nw.same rfl hW (h.2.1 q hq), fun q hq => va_Nw.same rfl hW (h.2.2.1 q hq), va_AO.moved ha h.2.2.2.1, h.2.2.2.2.1.same hW, fun q hq => va_Nw.same rfl hW (h.2.2.2.2.2.1 q hq), fun q hq => va_Fw.moved (xFw_ok q hq) ha (h.2.2.2.2.2.2.1 q hq), fun k q hq => va_Z.moved ha (h.2.2.2.2.2.2.2.1 k q hq), ⟨fun n z => State.isArrayOf_alike ha (h.2.2.2.2.2.2.2.2.1.1 n z), fun n z => State.isArrayOf_alike ha (h.2.2.2.2.2.2.2.2.1.2 n z)⟩, fun a e he => xro.moved ha (h.2.2.2.2.2.2.2.2.2 a e he)⟩
theorem xTys_at {D : Dx} {κ : Nat} (h : κ < 7) : (xTys D)[κ]? = some (D.2 κ, xTy κ) := by
  match κ, h with
  | 0, _ => rfl
  | 1, _ => rfl
  | 2, _ => rfl
  | 3, _ => rfl
  | 4, _ => rfl
  | 5, _ => rfl
  | 6, _ => rfl
theorem Kx_arr {D : Dx} {H0 : Heap} {ev : Ev} {s : State} (hK : Kx D H0 ev s) {κ : Nat} (h : κ < 9) : ArrOfT s (D.2 κ) (xTy κ) := by
  rcases Nat.lt_or_ge κ 7 with h7 | h7
  · exact (hK.1.2 κ _ (xTys_at (D := D) h7)).1
  · rcases Nat.lt_or_ge κ 8 with h8 | h8
    · obtain rfl : κ = 7 := by omega
      exact hK.2.2.2.2.2.2.2.2.1.1
    · obtain rfl : κ = 8 := by omega
      exact hK.2.2.2.2.2.2.2.2.1.2
theorem xsz {n m : Nat} {A : Prop} (h : m = n) : n ≤ m ∧ m.toInt32 = Int32.ofNat n ∧ (A → m = n) := ⟨by omega, by rw [h], fun _ => h⟩
/-- an array of the map, wherever it lies -/
theorem Hs_arr {D : Dx} {H0 : Heap} {ev : Ev} {σ : Mm} {H : Heap} {s : State} (hH : Hs D H0 ev σ H) (hK : Kx D H0 ev s) {a : Nat} {x : Nat × vp_A} (h9 : x.1 < 9) (h : σ.1 a = some (.inl x)) : ∃ cell : Cell, H[a]? = some cell ∧ s.isArrayOf cell (xTy x.1) ∧ cell.vm ≠ .unknown ∧ (x.2.1 ≤ cell.slots.size ∧ cell.slots.size.toInt32 = Int32.ofNat x.2.1 ∧ (ev.1 ≤ a → cell.slots.size = x.2.1)) ∧ ∀ j : Nat, j < x.2.1 → cell.slots[j]? = some (xval x.2.2 j) := by
  by_cases ha : ev.1 ≤ a
  · have h1 : H[a]? = some (vp_cell (D.2 x.1) x.2) := hH.2.2.2.2.2.2.1 a _ ha h
    have h2 := Kx_arr hK h9
    obtain ⟨κ, n, f | f | f | f | f⟩ := x
    · exact ⟨_, h1, h2 n _, (fun q => by cases q), xsz (arrV_size _ _ _), fun j hj => arrV_read _ _ hj⟩
    · exact ⟨_, h1, h2 n _, (fun q => by cases q), xsz (arrV_size _ _ _), fun j hj => arrV_read _ _ hj⟩
    · exact ⟨_, h1, h2 n _, (fun q => by cases q), xsz (arrV_size _ _ _), fun j hj => arrV_read _ _ hj⟩
    · exact ⟨_, h1, h2 n _, (fun q => by cases q), xsz (arrV_size _ _ _), fun j hj => arrV_read _ _ hj⟩
    · exact ⟨_, h1, h2 n _, (fun q => by cases q), xsz (arrV_size _ _ _), fun j hj => arrV_read _ _ hj⟩
  · have h0 := hH.2.2.2.2.2.2.2 a (by omega)
    rw [h] at h0
    obtain ⟨cell, g1, g2, g3, g4, g5⟩ := hK.2.2.2.2.2.2.2.2.2 a _ h0.symm
    exact ⟨cell, by rw [hH.2.2.2.2.2.1 a (by omega)]; exact g1, g2, g3, ⟨g4.1, g4.2, fun h => absurd h ha⟩, g5⟩
/-- an object of the map, wherever it lies -/
theorem Hs_obj {D : Dx} {H0 : Heap} {ev : Ev} {σ : Mm} {H : Heap} {s : State} (hH : Hs D H0 ev σ H) (hK : Kx D H0 ev s) {a ci : Nat} {fs : List Value} {r : vw_C} (hc : xCl[ci]? = some r) (h : σ.1 a = some (.inr (ci, fs))) : ∃ cell : Cell, H[a]? = some cell ∧ cell.vm.isStatics = false ∧ cell.vm ≠ .unknown ∧ s.vm.findClass r.1 = some cell.cls ∧ ∀ (k : Nat) (v : Value), k < r.2.2 → fs[k]? = some v → cell.slots[D.1.2 ci k]? = some v := by
  by_cases ha : ev.1 ≤ a
  · obtain ⟨r1, hr1, cell, q1, q2, q3, q4⟩ := hH.2.2.2.2.2.2.1 a _ ha h
    obtain rfl : r1 = r := Option.some.inj (hr1.symm.trans hc)
    exact ⟨cell, q1, (by rw [q3]; rfl), (by rw [q3]; exact fun h => nomatch h), (by rw [q2]; exact (hK.1.1 ci _ hc).2.1), fun k v hk hv => (by rw [q4 k hk]; simp [vp_V, hv])⟩
  · have h0 := hH.2.2.2.2.2.2.2 a (by omega)
    rw [h] at h0
    obtain ⟨r1, hr1, cell, g1, g2⟩ := hK.2.2.2.2.2.2.2.2.2 a _ h0.symm
    obtain rfl : r1 = r := Option.some.inj (hr1.symm.trans hc)
    exact ⟨cell, by rw [hH.2.2.2.2.2.1 a (by omega)]; exact g1, g2⟩
/-! heaps' sums -/
theorem xtot_eq {H H1 : Heap} (hs : H1.size = H.size) (h : ∀ q : Nat, (H1[q]?).map (fun c : Cell => c.slots.size) = (H[q]?).map (fun c : Cell => c.slots.size)) : xtot H1 = xtot H := by
  unfold xtot
  congr 1
  refine List.ext_getElem? fun i => ?_
  rw [List.getElem?_map, List.getElem?_map, Array.getElem?_toList, Array.getElem?_toList]
  exact h i
theorem xtot_put {H H1 : Heap} {a k : Nat} {cell : Cell} {v : Value} (hc : H[a]? = some cell) (hs : H1.size = H.size) (e : H1[a]? = some (cell.setSlot k v)) (oq : ∀ q : Nat, q ≠ a → H1[q]? = H[q]?) : xtot H1 = xtot H := by
  refine xtot_eq hs fun q => ?_
  by_cases hq : q = a
  · subst hq
    rw [e, hc]
    simp [Cell.setSlot]
  · rw [oq q hq]
theorem xtot_push {H H1 : Heap} {cell : Cell} (hs : H1.size = H.size + 1) (e : H1[H.size]? = some cell) (oq : ∀ q : Nat, q < H.size → H1[q]? = H[q]?) : xtot H1 = xtot H + cell.slots.size := by
  have h : H1.toList = H.toList ++ [cell] := by
    refine List.ext_getElem? fun i => ?_
    rw [Array.getElem?_toList]
    by_cases hi : i < H.size
    · rw [oq i hi, List.getElem?_append_left (by simpa using hi), Array.getElem?_toList]
    · by_cases hj : i = H.size
      · subst hj
        rw [e, List.getElem?_append_right (by simp)]
        simp
      · rw [Array.getElem?_eq_none (by omega), List.getElem?_eq_none (by simp; omega)]
  unfold xtot
  rw [h]
  simp
theorem xtot_drop {H H1 : Heap} (hle : H.size ≤ H1.size) (h : ∀ (a : Nat) (c : Cell), H[a]? = some c → ∃ c' : Cell, H1[a]? = some c' ∧ c'.slots.size = c.slots.size) : ((H1.toList.drop H.size).map (·.slots.size)).sum = xtot H1 - xtot H ∧ xtot H ≤ xtot H1 := by
  have h1 : (H1.toList.take H.size).map (·.slots.size) = H.toList.map (·.slots.size) := by
    refine List.ext_getElem? fun i => ?_
    rw [List.getElem?_map, List.getElem?_map]
    by_cases hi : i < H.size
    · rw [List.getElem?_take_of_lt hi, Array.getElem?_toList, Array.getElem?_toList]
      have hc : H[i]? = some H[i] := Array.getElem?_eq_getElem hi
      obtain ⟨c', e1, e2⟩ := h i _ hc
      rw [e1, hc]
      simp [e2]
    · rw [List.getElem?_eq_none (by simp; omega), List.getElem?_eq_none (by simp; omega)]
  have h2 : xtot H1 = xtot H + ((H1.toList.drop H.size).map (·.slots.size)).sum := by
    unfold xtot
    conv => lhs; rw [← List.take_append_drop H.size H1.toList]
    rw [List.map_append, List.sum_append, h1]
  omega
section XW
variable {p : Program} {l : Launch} {e : Env} {R : Room} {s : State} {m : MethodId} {args : Array Value} {below : List Frame} {meth : Method} {c : Code} {H : Heap} {locs : List Loc} {cells slots : Nat} {Q : State → Prop}
/-- the numbers of new cells and slots are what they are -/
theorem xtight {g : JFrame} (k : W p l e R s m args below meth c H locs (H.size - s.heap.size) (xtot H - xtot s.heap) Q g) : W p l e R s m args below meth c H locs cells slots Q g := by
  intro T hT X
  refine k T hT { X with same := ?_ }
  obtain ⟨h1, h2, h3, h4, h5, h6⟩ := X.same
  have hh : (T.setVm s.vm).heap = H := hT
  rw [hh] at h2 h3 h4 h5 h6
  have hd := xtot_drop h2 (fun a c hc => by obtain ⟨c', q1, -, q3, -⟩ := h6 a c hc; exact ⟨c', q1, q3⟩)
  refine ⟨h1, by rw [hh]; exact h2, by rw [hh]; omega, by rw [hh]; exact h4, by rw [hh, hd.1]; exact Nat.le_refl _, fun a c hc => by rw [hh]; exact h6 a c hc⟩
end XW
