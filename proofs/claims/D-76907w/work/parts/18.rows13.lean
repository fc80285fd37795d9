/-! rows: System.arraycopy of bytes and of Object[] -/
theorem vp_cell_xval (cA : ClassId) (n : Nat) (x : (Nat → Int32) ⊕ (Nat → Int64) ⊕ (Nat → UInt32) ⊕ (Nat → UInt64) ⊕ (Nat → Option Nat)) : vp_cell cA (n, x) = arrV cA n (xval x) := by
  obtain f | f | f | f | f := x <;> rfl
def bndC (sp dp n : Int32) (n0 n1 : Nat) : Prop := ¬ sp < 0 ∧ ¬ dp < 0 ∧ ¬ n < 0 ∧ sp.toNatClampNeg + n.toNatClampNeg ≤ n0 ∧ dp.toNatClampNeg + n.toNatClampNeg ≤ n1
theorem bndC_dec (sp dp n : Int32) (n0 n1 : Nat) : bndC sp dp n n0 n1 ↔ (decide (¬ sp < 0) && decide (¬ dp < 0) && decide (¬ n < 0) && decide (sp.toNatClampNeg + n.toNatClampNeg ≤ n0) && decide (dp.toNatClampNeg + n.toNatClampNeg ≤ n1)) = true := by
  unfold bndC
  simp only [Bool.and_eq_true, decide_eq_true_eq, and_assoc]
section XCG
variable {p : Program} {l : Launch} {e : Env} {R : Room} {s : State} {m : MethodId} {args : Array Value} {below : List Frame} {meth : Method} {c : Code} {H : Heap} {locs : List Loc} {cells slots : Nat} {Q : State → Prop}
variable {cc : ByteArray} {nL pc : Nat} {ls : Array Slot} {rest : List Value} {D : Dx} {H0 : Heap} {ev : Ev} {σ σ' : Mm} {own : String} {fr lo : Nat}
theorem m_copyG (C : Cx p m meth c cc nL s args own R ev D H0 fr lo) (hH : Hs D H0 ev σ H) (hL : ∀ q ∈ locs, ev.1 ≤ q.base) {index a0 a : Nat} {sp dp n : Int32} (hlink : Cond.methodLink own index arraycopyName ∈ lw_all) (hnat : Cond.native arraycopyName ∈ lw_all) (hstat : Cond.static arraycopyName ∈ lw_all) (hini : Cond.initialized "java/lang/System" ∈ lw_all)
    {κ n0 n1 : Nat} (h9 : κ < 7) {x0 x1 x2 : (Nat → Int32) ⊕ (Nat → Int64) ⊕ (Nat → UInt32) ⊕ (Nat → UInt64) ⊕ (Nat → Option Nat)} (ha0 : σ.1 a0 = some (.inl (κ, n0, x0))) (ha1 : σ.1 a = some (.inl (κ, n1, x1))) (hna : ev.1 ≤ a) (hbd : bndC sp dp n n0 n1) (hx2 : xval x2 = va_cpy (xval x0) (xval x1) sp.toNatClampNeg dp.toNatClampNeg n.toNatClampNeg)
    (hvals : ∀ (comp : ClassId) (k1 : Class), s.vm.classes[D.2 κ]? = some k1 → k1.kind = .array comp (xTy κ) → ∀ T : State, T.heap = H → ∀ vm' : Vm, s.vm.Alike vm' → ∀ i : Nat, i < n.toNatClampNeg → fits (xTy κ) (xval x0 (sp.toNatClampNeg + i)) = true ∧ (T.setVm vm').takes comp (xval x0 (sp.toNatClampNeg + i)))
    (hl : ls.size = nL) (hframes : 1 ≤ fr) (hlocals : (rest.map fun v => v.category).sum + (nativeFrameWords "java/lang/System" "arraycopy" 5 + 11) ≤ lo) (hdg : decode cc pc = .ok (.invokestatic index, 3))
    (kk : ∀ (H1 : Heap) (locs1 : List Loc), Hs D H0 ev (va_up σ.1 a (some (.inl (κ, n1, x2))), σ.2) H1 → (∀ q ∈ locs1, ev.1 ≤ q.base) → W p l e R s m args below meth c H1 locs1 (H1.size - s.heap.size) (xtot H1 - xtot s.heap) Q (F0 m (pc + 3) ls rest)) : W p l e R s m args below meth c H locs cells slots Q (F0 m pc ls (.int n :: .int dp :: .ref a :: .int sp :: .ref a0 :: rest)) := by
  obtain ⟨h1, h2, h3, h4, h5⟩ := hbd
  obtain ⟨⟨hexec, hb, hml, hown, hts⟩, hK, hR1, hR2, hR3, hR4, hlk⟩ := C
  have nn : ∀ z : Int32, ¬ z < 0 → z.toInt = (z.toNatClampNeg : Int) := by
    intro z hz
    have hz0 : (0 : Int) ≤ z.toInt := by
      have := Int32.not_lt.mp hz
      simpa using Int32.le_iff_toInt_le.mp this
    show z.toInt = ((z.toInt.toNat : Nat) : Int)
    omega
  refine xtight (cells := cells) (slots := slots) (H := H) ?_
  intro T hT X
  obtain ⟨cs, hc0, ⟨hst0, k0, hk0, cm0, hkk0⟩, hun0, hsz0, hsl0⟩ := Hs_arr hH hK (x := (κ, n0, x0)) (Nat.lt_of_lt_of_le h9 (by decide)) ha0
  have hc1 : H[a]? = some (vp_cell (D.2 κ) (n1, x1)) := hH.2.2.2.2.2.2.1 a _ hna ha1
  obtain ⟨hst1, k1, hk1, cm1, hkk1⟩ := (hK.1.2 κ _ (xTys_at (D := D) h9)).1 n1 (xval x1)
  rw [← vp_cell_xval] at hst1 hk1
  have hcls : (vp_cell (D.2 κ) (n1, x1)).cls = D.2 κ := by rw [vp_cell_xval]; rfl
  have hun1 : (vp_cell (D.2 κ) (n1, x1)).vm ≠ .unknown := by rw [vp_cell_xval]; exact fun h => by cases h
  have hsz1 : (vp_cell (D.2 κ) (n1, x1)).slots.size = n1 := by rw [vp_cell_xval, arrV_size]
  obtain ⟨vm', X', step⟩ := X.arraycopy hexec hown (hts _ hlink) (hts _ hnat) (hts _ hstat) (hts _ hini) (src := a0) (dst := a) (cs := cs) (cd := vp_cell (D.2 κ) (n1, x1)) (srcPos := sp) (destPos := dp) (n := n) (by rw [hT]; exact hc0) (by rw [hT]; exact hc1)
    hst0 hst1 hun0 hun1 hk0 hk1 hkk0 hkk1 (by simp) h1 h2 h3
    (by rw [nn sp h1, nn n h3]; have hz : n0 ≤ cs.slots.size := hsz0.1; omega)
    (by rw [nn dp h2, nn n h3, hsz1]; omega)
    (fun vm₁ hal i hi => by
      have e : cs.slots.getD (sp.toNatClampNeg + i) .null = xval x0 (sp.toNatClampNeg + i) := by
        rw [Array.getD_eq_getD_getElem?, hsl0 _ (by show _ < n0; omega)]
        rfl
      rw [e]
      exact hvals cm1 k1 (by rw [← hcls]; exact hk1) hkk1 T hT vm₁ hal i hi)
    (g := F0 m pc ls (.int n :: .int dp :: .ref a :: .int sp :: .ref a0 :: rest)) rfl (by rw [hml]; exact hl) (rest := rest) rfl (by rw [hb]; exact hdg) (by rw [hR3]; exact hframes) (by show 2 * 0 + _ + _ ≤ _; rw [hR4]; omega)
  have e1 : copied cs (vp_cell (D.2 κ) (n1, x1)) sp dp n = vp_cell (D.2 κ) (n1, x2) := by
    rw [vp_cell_xval, vp_cell_xval, hx2]
    exact va_copiedX (fun z : Value => z) cs (D.2 κ) (xval x0) (xval x1) hsl0 h4
  rw [e1] at X' step
  have hlt : a < H.size := (Array.getElem?_eq_some_iff.mp hc1).1
  have hheap : ((T.setVm vm').setCell a (vp_cell (D.2 κ) (n1, x2))).heap = H.setIfInBounds a (vp_cell (D.2 κ) (n1, x2)) := by rw [← hT]; rfl
  have oq : ∀ q : Nat, q ≠ a → (H.setIfInBounds a (vp_cell (D.2 κ) (n1, x2)))[q]? = H[q]? := fun q hq => by simp [Array.getElem?_setIfInBounds, Ne.symm hq]
  have ea : (H.setIfInBounds a (vp_cell (D.2 κ) (n1, x2)))[a]? = some (vp_cell (D.2 κ) (n1, x2)) := by simp [Array.getElem?_setIfInBounds, hlt]
  obtain ⟨t, a1, b1⟩ := xtight (kk _ _ (Hs_upd hH hc1 hna ea (by rw [vp_cell_xval, vp_cell_xval, arrV_size, arrV_size]) (by simp) oq ea) (fun q hq => by
      rcases List.mem_append.mp hq with h | h
      · exact hL q h
      · obtain ⟨z, -, hz⟩ := List.mem_map.mp h
        rw [← hz]
        exact hna)) _ hheap X'
  exact ⟨t, step t a1, b1⟩
end XCG
def bytesAll (f : Nat → Int32) (sp n : Nat) : Bool := (List.range n).all fun i => decide (-128 ≤ f (sp + i)) && decide (f (sp + i) ≤ 127)
def cpyB (ev : Ev) (σ : Mm) (a0 : Nat) (sp : Int32) (a : Nat) (dp n : Int32) : Option Mm := match σ.1 a0, σ.1 a with
  | some (.inl (k0, n0, .inl f)), some (.inl (k1, n1, .inl g)) => if (k0 = 3 ∧ k1 = 3 ∧ ev.1 ≤ a) ∧ (decide (¬ sp < 0) && decide (¬ dp < 0) && decide (¬ n < 0) && decide (sp.toNatClampNeg + n.toNatClampNeg ≤ n0) && decide (dp.toNatClampNeg + n.toNatClampNeg ≤ n1)) = true ∧ bytesAll f sp.toNatClampNeg n.toNatClampNeg = true then some (va_up σ.1 a (some (.inl (3, n1, .inl (va_cpy f g sp.toNatClampNeg dp.toNatClampNeg n.toNatClampNeg)))), σ.2) else none
  | _, _ => none
def cpyA (ev : Ev) (σ : Mm) (a0 : Nat) (sp : Int32) (a : Nat) (dp n : Int32) : Option Mm := match σ.1 a0, σ.1 a with
  | some (.inl (k0, n0, .inr (.inr (.inr (.inr f))))), some (.inl (k1, n1, .inr (.inr (.inr (.inr g))))) => if (k0 = 4 ∧ k1 = 4 ∧ ev.1 ≤ a) ∧ (decide (¬ sp < 0) && decide (¬ dp < 0) && decide (¬ n < 0) && decide (sp.toNatClampNeg + n.toNatClampNeg ≤ n0) && decide (dp.toNatClampNeg + n.toNatClampNeg ≤ n1)) = true ∧ ((List.range n.toNatClampNeg).all fun i => (f (sp.toNatClampNeg + i)).all (asg σ 4)) = true then some (va_up σ.1 a (some (.inl (4, n1, .inr (.inr (.inr (.inr (va_cpy f g sp.toNatClampNeg dp.toNatClampNeg n.toNatClampNeg))))))), σ.2) else none
  | _, _ => none
section XCH
variable {p : Program} {l : Launch} {e : Env} {R : Room} {s : State} {m : MethodId} {args : Array Value} {below : List Frame} {meth : Method} {c : Code} {H : Heap} {locs : List Loc} {cells slots : Nat} {Q : State → Prop}
variable {cc : ByteArray} {nL pc : Nat} {ls : Array Slot} {rest : List Value} {D : Dx} {H0 : Heap} {ev : Ev} {σ σ' : Mm} {own : String} {fr lo : Nat}
theorem m_copyB (C : Cx p m meth c cc nL s args own R ev D H0 fr lo) (hH : Hs D H0 ev σ H) (hL : ∀ q ∈ locs, ev.1 ≤ q.base) {index a0 a : Nat} {sp dp n : Int32} (hlink : Cond.methodLink own index arraycopyName ∈ lw_all) (hnat : Cond.native arraycopyName ∈ lw_all) (hstat : Cond.static arraycopyName ∈ lw_all) (hini : Cond.initialized "java/lang/System" ∈ lw_all)
    (hv : cpyB ev σ a0 sp a dp n = some σ') (hl : ls.size = nL) (hframes : 1 ≤ fr) (hlocals : (rest.map fun v => v.category).sum + (nativeFrameWords "java/lang/System" "arraycopy" 5 + 11) ≤ lo) (hdg : decode cc pc = .ok (.invokestatic index, 3))
    (kk : ∀ (H1 : Heap) (locs1 : List Loc), Hs D H0 ev σ' H1 → (∀ q ∈ locs1, ev.1 ≤ q.base) → W p l e R s m args below meth c H1 locs1 (H1.size - s.heap.size) (xtot H1 - xtot s.heap) Q (F0 m (pc + 3) ls rest)) : W p l e R s m args below meth c H locs cells slots Q (F0 m pc ls (.int n :: .int dp :: .ref a :: .int sp :: .ref a0 :: rest)) := by
  unfold cpyB at hv
  split at hv
  · rename_i k0 n0 f k1 n1 g e0 e1
    split at hv
    · rename_i hc
      obtain ⟨⟨rfl, rfl, h2⟩, h3, h4⟩ := hc
      cases hv
      refine m_copyG (κ := 3) C hH hL hlink hnat hstat hini (by decide) e0 e1 h2 ((bndC_dec _ _ _ _ _).mpr h3) ?_ ?_ hl hframes hlocals hdg kk
      · funext j
        show Value.int _ = va_cpy _ _ _ _ _ j
        unfold va_cpy
        split <;> rfl
      · intro comp k1 _ _ T hT vm' hal i hi
        have := List.all_eq_true.mp h4 i (List.mem_range.mpr hi)
        exact ⟨this, trivial⟩
    · cases hv
  · cases hv
theorem m_copyA (C : Cx p m meth c cc nL s args own R ev D H0 fr lo) (hH : Hs D H0 ev σ H) (hL : ∀ q ∈ locs, ev.1 ≤ q.base) {index a0 a : Nat} {sp dp n : Int32} (hlink : Cond.methodLink own index arraycopyName ∈ lw_all) (hnat : Cond.native arraycopyName ∈ lw_all) (hstat : Cond.static arraycopyName ∈ lw_all) (hini : Cond.initialized "java/lang/System" ∈ lw_all)
    (hv : cpyA ev σ a0 sp a dp n = some σ') (hl : ls.size = nL) (hframes : 1 ≤ fr) (hlocals : (rest.map fun v => v.category).sum + (nativeFrameWords "java/lang/System" "arraycopy" 5 + 11) ≤ lo) (hdg : decode cc pc = .ok (.invokestatic index, 3))
    (kk : ∀ (H1 : Heap) (locs1 : List Loc), Hs D H0 ev σ' H1 → (∀ q ∈ locs1, ev.1 ≤ q.base) → W p l e R s m args below meth c H1 locs1 (H1.size - s.heap.size) (xtot H1 - xtot s.heap) Q (F0 m (pc + 3) ls rest)) : W p l e R s m args below meth c H locs cells slots Q (F0 m pc ls (.int n :: .int dp :: .ref a :: .int sp :: .ref a0 :: rest)) := by
  unfold cpyA at hv
  split at hv
  · rename_i k0 n0 f k1 n1 g e0 e1
    split at hv
    · rename_i hc
      obtain ⟨⟨rfl, rfl, h2⟩, h3, h4⟩ := hc
      cases hv
      refine m_copyG (κ := 4) C hH hL hlink hnat hstat hini (by decide) e0 e1 h2 ((bndC_dec _ _ _ _ _).mpr h3) ?_ ?_ hl hframes hlocals hdg kk
      · funext j
        show va_rf _ = va_cpy _ _ _ _ _ j
        unfold va_cpy
        split <;> rfl
      · intro comp k1 hk1 hkk1 T hT vm' hal i hi
        have h5 := List.all_eq_true.mp h4 i (List.mem_range.mpr hi)
        show fits (.object "java/lang/Object") (va_rf (f (sp.toNatClampNeg + i))) = true ∧ (T.setVm vm').takes comp (va_rf (f (sp.toNatClampNeg + i)))
        cases hy : f (sp.toNatClampNeg + i) with
        | none => exact ⟨rfl, trivial⟩
        | some y =>
          rw [hy] at h5
          obtain ⟨E, cv, hE, g1, g3, ⟨kC, hkC⟩, hasg⟩ := asg_ok C.2.1 hH (Or.inl rfl) (by simpa using h5)
          cases hE
          have hRA := (C.2.1.1.2 4 _ (xTys_at (D := D) (by decide))).2
          obtain ⟨kA, comp', r1, r2, r3, -⟩ := hRA
          cases hk1.symm.trans r1
          cases hkk1.symm.trans r2
          obtain ⟨kE, hkE, -⟩ := Vm.findClass_spec r3
          obtain ⟨kC', hkC', -⟩ := hal.2.2 _ _ hkC
          obtain ⟨kE', hkE', -⟩ := hal.2.2 _ _ hkE
          refine ⟨rfl, cv, (show T.heap[y]? = some cv by rw [hT]; exact g1), (fun q h => by rw [h] at g3; cases g3), ⟨kC', hkC'⟩, ⟨kE', hkE'⟩, ?_⟩
          show vm'.assignable _ _ = true
          rw [hal.assignable]
          exact hasg _ r3
    · cases hv
  · cases hv
end XCH
