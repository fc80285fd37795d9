/-! rows: multianewarray of long[][] and anewarray of long[] -/
def xMo (cA : ClassId) (N h i : Nat) : Cell := arrV cA N (fun j => if j < i then .ref (h + 1 + j) else .null)
def xMn (cJ : ClassId) (M : Nat) : Cell := arrV cJ M (fun _ => .long 0)
/-- the state behind the i-th row -/
def xMs (cA cJ : ClassId) (N M : Nat) (T : State) : Nat → State
  | 0 => T.pushCell (xMo cA N T.heap.size 0)
  | i + 1 => ((xMs cA cJ N M T i).pushCell (xMn cJ M)).setCell T.heap.size (xMo cA N T.heap.size (i + 1))
theorem xMo_put (cA : ClassId) (N h i : Nat) : (xMo cA N h i).setSlot i (.ref (h + 1 + i)) = xMo cA N h (i + 1) := by
  unfold xMo
  rw [arrV_store]
  congr 1
  funext j
  unfold updV
  by_cases h1 : j = i
  · subst h1; simp
  · by_cases h2 : j < i
    · simp [h1, h2, Nat.lt_succ_of_lt h2]
    · simp [h1, h2, show ¬ j < i + 1 by omega]
theorem xMs_vm (cA cJ : ClassId) (N M : Nat) (T : State) (i : Nat) : (xMs cA cJ N M T i).vm = T.vm := by
  induction i with
  | zero => rfl
  | succ i ih => exact ih
theorem xMs_top (cA cJ : ClassId) (N M : Nat) (T : State) (f : JFrame) (i : Nat) : xMs cA cJ N M (T.setTop f) i = (xMs cA cJ N M T i).setTop f := by
  induction i with
  | zero => rfl
  | succ i ih => show ((xMs cA cJ N M (T.setTop f) i).pushCell _).setCell _ _ = _; rw [ih]; rfl
/-- the heap behind the i-th row -/
theorem xMs_heap (cA cJ : ClassId) (N M : Nat) (T : State) (i : Nat) : (xMs cA cJ N M T i).heap.size = T.heap.size + 1 + i ∧ (∀ q : Nat, q < T.heap.size → (xMs cA cJ N M T i).heap[q]? = T.heap[q]?) ∧ (xMs cA cJ N M T i).heap[T.heap.size]? = some (xMo cA N T.heap.size i) ∧ (∀ j : Nat, j < i → (xMs cA cJ N M T i).heap[T.heap.size + 1 + j]? = some (xMn cJ M)) ∧ xtot (xMs cA cJ N M T i).heap = xtot T.heap + N + i * M := by
  induction i with
  | zero =>
    have e0 : (xMs cA cJ N M T 0).heap = T.heap.push (xMo cA N T.heap.size 0) := rfl
    refine ⟨by rw [e0]; simp, fun q hq => by rw [e0, Array.getElem?_push, if_neg (Nat.ne_of_lt hq)], by rw [e0]; simp, fun j hj => absurd hj (Nat.not_lt_zero j), ?_⟩
    rw [xtot_push (H := T.heap) (cell := xMo cA N T.heap.size 0) (by rw [e0]; simp) (by rw [e0]; simp) (fun q hq => by rw [e0, Array.getElem?_push, if_neg (Nat.ne_of_lt hq)])]
    unfold xMo
    rw [arrV_size]
    omega
  | succ i ih =>
    obtain ⟨h1, h2, h3, h4, h5⟩ := ih
    have eS : xMs cA cJ N M T (i + 1) = ((xMs cA cJ N M T i).pushCell (xMn cJ M)).setCell T.heap.size (xMo cA N T.heap.size (i + 1)) := rfl
    rw [eS]
    generalize xMs cA cJ N M T i = U at h1 h2 h3 h4 h5 ⊢
    have e0 : (((U.pushCell (xMn cJ M)).setCell T.heap.size (xMo cA N T.heap.size (i + 1))).heap) = (U.heap.push (xMn cJ M)).setIfInBounds T.heap.size (xMo cA N T.heap.size (i + 1)) := rfl
    have hx : (((U.pushCell (xMn cJ M)).setCell T.heap.size (xMo cA N T.heap.size (i + 1))).heap).size = T.heap.size + 1 + (i + 1) := by rw [e0]; simp [h1]; omega
    have hp : ∀ q : Nat, q < U.heap.size → (U.heap.push (xMn cJ M))[q]? = U.heap[q]? := fun q hq => by rw [Array.getElem?_push, if_neg (Nat.ne_of_lt hq)]
    have hs : (((U.pushCell (xMn cJ M)).setCell T.heap.size (xMo cA N T.heap.size (i + 1))).heap)[T.heap.size]? = some (xMo cA N T.heap.size (i + 1)) := by
      rw [e0, Array.getElem?_setIfInBounds]
      simp [h1]
      omega
    have hn : ∀ q : Nat, q ≠ T.heap.size → (((U.pushCell (xMn cJ M)).setCell T.heap.size (xMo cA N T.heap.size (i + 1))).heap)[q]? = (U.heap.push (xMn cJ M))[q]? := by
      intro q hq
      rw [e0, Array.getElem?_setIfInBounds, if_neg (Ne.symm hq)]
    have hsz : (U.heap.push (xMn cJ M)).size = U.heap.size + 1 := Array.size_push _
    refine ⟨hx, fun q hq => ?_, hs, fun j hj => ?_, ?_⟩
    · show (((U.pushCell (xMn cJ M)).setCell T.heap.size (xMo cA N T.heap.size (i + 1))).heap)[q]? = _
      rw [hn q (Nat.ne_of_lt hq), hp q (by omega)]; exact h2 q hq
    · show (((U.pushCell (xMn cJ M)).setCell T.heap.size (xMo cA N T.heap.size (i + 1))).heap)[_]? = _
      rw [hn _ (by omega)]
      by_cases hji : j = i
      · subst hji
        rw [← h1]; simp
      · rw [hp _ (by omega)]; exact h4 j (by omega)
    · show xtot (((U.pushCell (xMn cJ M)).setCell T.heap.size (xMo cA N T.heap.size (i + 1))).heap) = _
      have h6 : xtot (U.heap.push (xMn cJ M)) = xtot U.heap + M := by
        rw [xtot_push (H := U.heap) (cell := xMn cJ M) hsz (by simp) hp]
        unfold xMn
        rw [arrV_size]
      rw [xtot_put (H := U.heap.push (xMn cJ M)) (a := T.heap.size) (k := i) (cell := xMo cA N T.heap.size i) (v := .ref (T.heap.size + 1 + i)) (by rw [hp _ (by omega)]; exact h3) (by rw [hx, hsz, h1]; omega) (by rw [xMo_put]; exact hs) hn, h6, h5, Nat.succ_mul]
      omega
section XMu
variable {p : Program} {l : Launch} {e : Env} {R : Room} {s : State} {m : MethodId} {args : Array Value} {below : List Frame} {meth : Method} {c : Code} {H : Heap} {locs : List Loc} {cells slots : Nat} {Q : State → Prop}
variable {cc : ByteArray} {nL pc : Nat} {ls : Array Slot} {rest : List Value} {D : Dx} {H0 : Heap} {ev : Ev} {σ σ' : Mm} {own : String} {fr lo : Nat}
theorem xMs_stand {T : State} (X : Stand p l e R s m args below meth c T locs cells slots) (cA cJ : ClassId) (N M : Nat) (i : Nat) : ∃ locs1 : List Loc, (∀ q ∈ locs1, q ∈ locs ∨ q.base = T.heap.size) ∧ Stand p l e R s m args below meth c (xMs cA cJ N M T i) locs1 (cells + 1 + i) (slots + N + i * M) := by
  induction i with
  | zero =>
    have h := X.pushed (xMo cA N T.heap.size 0)
    refine ⟨locs, fun q hq => Or.inl hq, ?_⟩
    have e1 : (xMo cA N T.heap.size 0).slots.size = N := arrV_size _ _ _
    rw [e1] at h
    rw [Nat.zero_mul]
    exact h
  | succ i ih =>
    obtain ⟨locs1, hl, Y⟩ := ih
    obtain ⟨h1, h2, h3, h4, h5⟩ := xMs_heap cA cJ N M T i
    have hc : ((xMs cA cJ N M T i).pushCell (xMn cJ M)).heap[T.heap.size]? = some (xMo cA N T.heap.size i) := by
      show ((xMs cA cJ N M T i).heap.push (xMn cJ M))[T.heap.size]? = _
      rw [Array.getElem?_push, if_neg (by omega)]; exact h3
    have h := (Y.pushed (xMn cJ M)).stored hc i (.ref (T.heap.size + 1 + i))
    have e1 : (xMn cJ M).slots.size = M := arrV_size _ _ _
    rw [e1, xMo_put] at h
    refine ⟨locs1 ++ [⟨T.heap.size, i⟩], fun q hq => ?_, ?_⟩
    · rcases List.mem_append.mp hq with h | h
      · exact hl q h
      · rw [List.mem_singleton.mp h]; exact Or.inr rfl
    · have e2 : slots + N + (i + 1) * M = slots + N + i * M + M := by rw [Nat.succ_mul]; omega
      rw [e2]
      exact h
end XMu
def nwM (ev : Ev) (σ : Mm) (n k : Int32) : Option (Nat × Mm) := if ¬ n < 0 ∧ ¬ k < 0 ∧ n.toNatClampNeg * 4 ≤ 536870912 ∧ k.toNatClampNeg * 8 ≤ 536870912 ∧ σ.2.1 + 1 + n.toNatClampNeg ≤ ev.2.1 ∧ σ.2.2 + n.toNatClampNeg + n.toNatClampNeg * k.toNatClampNeg ≤ ev.2.2.1 then some (σ.2.1, ((fun q => if q = σ.2.1 then some (.inl (6, n.toNatClampNeg, .inr (.inr (.inr (.inr fun j => if j < n.toNatClampNeg then some (σ.2.1 + 1 + j) else none))))) else if σ.2.1 < q ∧ q ≤ σ.2.1 + n.toNatClampNeg then some (.inl (1, k.toNatClampNeg, .inr (.inl fun _ => 0))) else σ.1 q), σ.2.1 + 1 + n.toNatClampNeg, σ.2.2 + n.toNatClampNeg + n.toNatClampNeg * k.toNatClampNeg)) else none
section XMw
variable {E : CtlPost} {e : Env} {d : Bool} {acts : List Action} {S : State}
theorem xMk1 {cJ cc : ClassId} {kc : Class} {k : Int32} (hkc : S.vm.classes[cJ]? = some kc) (hkind : kc.kind = .array cc .long) (hk : ¬ k < 0) (hl : ¬ k.toNatClampNeg > e.platform.arrayLengthLimit) (hh : ¬ k.toNatClampNeg * componentBytes .long > e.platform.maxHeapBytes)
    (hr : S.heap.size + 1 ≤ e.platform.maxCells ∧ S.slotsUsed + k.toNatClampNeg ≤ e.platform.maxSlots) {Q : Addr → Pre} (hq : ∀ acts', Q S.heap.size d acts' (S.pushCell (xMn cJ k.toNatClampNeg))) : wp (multianewarray.make cJ [k]) Q E e d acts S := by
  rw [multianewarray.make]
  simp only [wp_bind', W.ite, hk, if_false, wp_pure', W.theClass, hkc, hkind, Option.some.injEq, exists_eq_left']
  refine W.newArray_of hkc hkind hl hh (by omega) hr.2 rfl fun acts' => ?_
  have := hq acts'
  unfold xMn at this
  rw [← arrV_new] at this
  exact this
theorem xMk2 {cA cJ cc : ClassId} {kA kc : Class} {n k : Int32} (hkA : S.vm.classes[cA]? = some kA) (hkindA : kA.kind = .array cJ (.array .long)) (hkc : S.vm.classes[cJ]? = some kc) (hkind : kc.kind = .array cc .long) (hn : ¬ n < 0) (hk : ¬ k < 0)
    (hl0 : ¬ n.toNatClampNeg > e.platform.arrayLengthLimit) (hh0 : ¬ n.toNatClampNeg * componentBytes (.array .long) > e.platform.maxHeapBytes) (hl : ¬ k.toNatClampNeg > e.platform.arrayLengthLimit) (hh : ¬ k.toNatClampNeg * componentBytes .long > e.platform.maxHeapBytes)
    (hr0 : S.heap.size + 1 ≤ e.platform.maxCells ∧ S.slotsUsed + n.toNatClampNeg ≤ e.platform.maxSlots)
    (hr : ∀ i : Nat, i < n.toNatClampNeg → (xMs cA cJ n.toNatClampNeg k.toNatClampNeg S i).heap.size + 1 ≤ e.platform.maxCells ∧ (xMs cA cJ n.toNatClampNeg k.toNatClampNeg S i).slotsUsed + k.toNatClampNeg ≤ e.platform.maxSlots)
    {Q : Addr → Pre} (hq : ∀ d' acts', Q S.heap.size d' acts' (xMs cA cJ n.toNatClampNeg k.toNatClampNeg S n.toNatClampNeg)) : wp (multianewarray.make cA [n, k]) Q E e d acts S := by
  have hnone : List.find? (fun x : Int32 => decide (x < 0)) [k] = none := by simp [hk]
  rw [multianewarray.make]
  simp only [wp_bind', W.ite, hn, if_false, wp_pure', W.theClass, hkA, hkindA, Option.some.injEq, exists_eq_left']
  refine W.newArray_of hkA hkindA hl0 hh0 (by omega) hr0.2 rfl fun acts' => ?_
  simp only [hnone]
  rw [ite_self, wp_bind', Std.Legacy.Range.forIn_eq_forIn_range']
  rw [show ([:n.toNatClampNeg] : Std.Legacy.Range).size = n.toNatClampNeg by simp [Std.Legacy.Range.size]]
  generalize hN : n.toNatClampNeg = N at *
  generalize hM : k.toNatClampNeg = M at *
  refine wp_forIn_inv (fun rest S' => ∃ i : Nat, i ≤ N ∧ rest = List.range' i (N - i) ∧ S' = xMs cA cJ N M S i) _ _ ⟨0, Nat.zero_le N, rfl, ?_⟩ ?_ ?_
  · show S.pushCell _ = S.pushCell _
    congr 1
    unfold xMo
    rw [show (fun j => if j < 0 then Value.ref (S.heap.size + 1 + j) else .null) = fun _ => Value.null from funext fun j => if_neg (Nat.not_lt_zero j), ← arrV_new]
  · rintro x rest S' d' acts1 Q' ⟨i, hi, hx, rfl⟩ hnx
    have hlt : i < N := by
      by_cases h : i < N
      · exact h
      · rw [show N - i = 0 by omega] at hx; cases hx
    rw [show N - i = (N - (i + 1)) + 1 by omega, List.range'_succ] at hx
    obtain ⟨rfl, hrest⟩ := List.cons.inj hx
    obtain ⟨f1, f2, f3, f4, f5⟩ := xMs_heap cA cJ N M S x
    simp only [wp_bind']
    subst hM
    refine xMk1 (by rw [xMs_vm]; exact hkc) hkind hk hl hh (hr x hlt) fun acts2 => ?_
    simp only [wp_bind', W.writeLoc, wp_pure']
    refine ⟨xMo cA N S.heap.size x, ?_, (fun q => by cases q), (by unfold xMo; rw [arrV_size]; exact hlt), ?_, hnx _ _ _ ⟨x + 1, hlt, hrest, ?_⟩⟩
    · show ((xMs cA cJ N k.toNatClampNeg S x).heap.push _)[_]? = _
      rw [Array.getElem?_push, if_neg (by omega)]; exact f3
    · have hv : ((xMs cA cJ N k.toNatClampNeg S x).pushCell (xMn cJ k.toNatClampNeg)).vm = S.vm := xMs_vm _ _ _ _ _ _
      show State.fitsSlot _ cA .none x _ = true
      simp [State.fitsSlot, State.slotType?, xMs_vm, hkA, hkindA, fits]
    · rw [f1, xMo_put]; rfl
  · rintro S' d' acts1 ⟨i, hi, hx, rfl⟩
    have : i = N := by
      by_cases h : i < N
      · rw [show N - i = (N - (i + 1)) + 1 by omega, List.range'_succ] at hx; cases hx
      · omega
    subst this
    simp only [wp_pure']
    exact hq _ _
end XMw
section XMx
variable {p : Program} {l : Launch} {e : Env} {R : Room} {s : State} {m : MethodId} {args : Array Value} {below : List Frame} {meth : Method} {c : Code} {H : Heap} {locs : List Loc} {cells slots : Nat} {Q : State → Prop}
variable {cc : ByteArray} {nL pc : Nat} {ls : Array Slot} {rest : List Value} {D : Dx} {H0 : Heap} {ev : Ev} {σ σ' : Mm} {own : String} {fr lo : Nat}
/-- the instruction, on a stand -/
theorem xMw (hexec : p.tables.exec = Jvm.exec) (hb : c.code = cc) {index : Nat} (hown : s.vm.findClass own = some m.cls) (hlink : (Cond.classLink own index "[[J").before args s = true) {cA cJ cJ' : ClassId} {kA kC : Class} (hA : s.vm.findClass "[[J" = some cA) (hkA : s.vm.classes[cA]? = some kA) (hkindA : kA.kind = .array cJ (.array .long)) (hkC : s.vm.classes[cJ]? = some kC) (hkindC : kC.kind = .array cJ' .long)
    {g : JFrame} (hg : g.method = m) (hdg : decode cc g.pc = .ok (.multianewarray index 2, 4)) {n k : Int32} (hstack : g.stack = .int k :: .int n :: rest) (hn : ¬ n < 0) (hk : ¬ k < 0) (hb1 : n.toNatClampNeg * 4 ≤ 536870912) (hb2 : k.toNatClampNeg * 8 ≤ 536870912) (hcells : cells + (1 + n.toNatClampNeg) ≤ R.cells) (hslots : slots + (n.toNatClampNeg + n.toNatClampNeg * k.toNatClampNeg) ≤ R.slots)
    (kk : ∀ (H1 : Heap) (locs1 : List Loc), H1.size = H.size + 1 + n.toNatClampNeg → (∀ q : Nat, q < H.size → H1[q]? = H[q]?) → H1[H.size]? = some (xMo cA n.toNatClampNeg H.size n.toNatClampNeg) → (∀ j : Nat, j < n.toNatClampNeg → H1[H.size + 1 + j]? = some (xMn cJ k.toNatClampNeg)) → xtot H1 = xtot H + n.toNatClampNeg + n.toNatClampNeg * k.toNatClampNeg → (∀ q ∈ locs1, q ∈ locs ∨ q.base = H.size) →
      W p l e R s m args below meth c H1 locs1 (cells + 1 + n.toNatClampNeg) (slots + n.toNatClampNeg + n.toNatClampNeg * k.toNatClampNeg) Q { g with pc := g.pc + 4, stack := .ref H.size :: rest }) : W p l e R s m args below meth c H locs cells slots Q g := by
  intro T hT X
  subst hT; subst hb; subst hg
  have hpl : e.platform.magicAccessors = ({} : Platform).magicAccessors := by rw [X.admits.platform]
  obtain ⟨c0, hc0, hcl⟩ := Cond.classLink_spec hown hlink e.platform hpl
  obtain rfl : c0 = cA := Option.some.inj (hc0.symm.trans hA)
  obtain ⟨hg₁, hwarm₁, hready₁⟩ := State.classEntry (e := e) X.warmed hcl
  generalize T.vm.noted g.method.cls index (.cls c0) = vm₁ at hg₁ hwarm₁ hready₁
  have hal : s.vm.Alike vm₁ := hwarm₁.alike
  obtain ⟨kA₁, hkA₁, heA⟩ := hal.2.2 _ _ hkA
  obtain ⟨kC₁, hkC₁, heC⟩ := hal.2.2 _ _ hkC
  have hkindA₁ : kA₁.kind = .array cJ (.array .long) := by rw [heA]; exact hkindA
  have hkindC₁ : kC₁.kind = .array cJ' .long := by rw [heC]; exact hkindC
  have X₁ := X.noted hwarm₁
  have hmul : ∀ i : Nat, i < n.toNatClampNeg → i * k.toNatClampNeg + k.toNatClampNeg ≤ n.toNatClampNeg * k.toNatClampNeg := by
    intro i hi
    have := Nat.mul_le_mul_right k.toNatClampNeg (Nat.succ_le_of_lt hi)
    rw [Nat.succ_mul] at this
    exact this
  have hroom : ∀ i : Nat, i < n.toNatClampNeg → (xMs c0 cJ n.toNatClampNeg k.toNatClampNeg (T.setVm vm₁) i).heap.size + 1 ≤ e.platform.maxCells ∧ (xMs c0 cJ n.toNatClampNeg k.toNatClampNeg (T.setVm vm₁) i).slotsUsed + k.toNatClampNeg ≤ e.platform.maxSlots := by
    intro i hi
    obtain ⟨q1, q2, Y⟩ := xMs_stand X₁ c0 cJ n.toNatClampNeg k.toNatClampNeg i
    have := hmul i hi
    exact Y.heapHas (a := 1) (b := k.toNatClampNeg) (by omega) (by omega)
  obtain ⟨locs1, hl1, Y⟩ := xMs_stand X₁ c0 cJ n.toNatClampNeg k.toNatClampNeg n.toNatClampNeg
  obtain ⟨f1, f2, f3, f4, f5⟩ := xMs_heap c0 cJ n.toNatClampNeg k.toNatClampNeg (T.setVm vm₁) n.toNatClampNeg
  obtain ⟨t', a1, b1⟩ := kk _ locs1 f1 f2 f3 f4 f5 hl1 _ rfl Y
  refine ⟨t', ?_, b1⟩
  have hr0 := X₁.heapHas (a := 1) (b := n.toNatClampNeg) (by omega) (by omega)
  have hlim := Launch.admits_arrayLengthLimit X.admits
  have hmax := Launch.admits_maxHeapBytes X.admits
  jvm_step X.here [hexec, hdg]
  simp only [multianewarray.sem, wp_bind', W.resolveClassAt_links (State.method?_setTop g X.here.top) hg₁]
  rw [W.popN, if_neg (by decide)]
  refine ⟨g, State.topJava?_setTop' (s := T.setVm vm₁) g X.here.top, [.int n, .int k], rest, rfl, hstack, ?_⟩
  simp only [List.mapM_cons, List.mapM_nil, wp_bind', wp_pure']
  have eS : ((T.setTop g).setVm vm₁).setTop { g with stack := rest } = (T.setVm vm₁).setTop { g with stack := rest } := by
    show ((T.setVm vm₁).setTop g).setTop _ = _
    rw [State.setTop_setTop]
  rw [eS]
  refine xMk2 (S := (T.setVm vm₁).setTop { g with stack := rest }) (kA := kA₁) (kc := kC₁) hkA₁ hkindA₁ hkC₁ hkindC₁ hn hk (by rw [hlim]; omega) (by rw [hmax]; show ¬ n.toNatClampNeg * 4 > 536870912; omega) (by rw [hlim]; omega) (by rw [hmax]; show ¬ k.toNatClampNeg * 8 > 536870912; omega) (by simpa using hr0) (fun i hi => by rw [xMs_top]; simpa using hroom i hi) fun d' acts' => ?_
  rw [xMs_top]
  simp only [wp_bind', W.mark, W.pushRef, State.topJava?_setTop' _ Y.here.top, Option.some.injEq, exists_eq_left', State.setTop_setTop, State.heap_setTop]
  intro acts
  simp [jvm, Y.here.top]
  exact a1
end XMx
