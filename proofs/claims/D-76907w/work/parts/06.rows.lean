/-! OPERATIONS on the map (pure), and the rows of the machine that do them -/
def gfV (σ : Mm) (a ci k : Nat) : Option Value := match σ.1 a with
  | some (.inr o) => if o.1 = ci then o.2[k]? else none
  | _ => none
def gfI (σ : Mm) (a ci k : Nat) : Option Int32 := match gfV σ a ci k with
  | some (.int x) => some x
  | _ => none
def gfJ (σ : Mm) (a ci k : Nat) : Option Int64 := match gfV σ a ci k with
  | some (.long x) => some x
  | _ => none
/-- a reference field: null or an address -/
def gfA (σ : Mm) (a ci k : Nat) : Option (Option Nat) := match gfV σ a ci k with
  | some .null => some none
  | some (.ref b) => some (some b)
  | _ => none
def pfV (ev : Ev) (σ : Mm) (a ci k : Nat) (v : Value) : Option Mm := match σ.1 a with
  | some (.inr o) => if o.1 = ci ∧ ev.1 ≤ a ∧ k < o.2.length then some (va_up σ.1 a (some (.inr (o.1, o.2.set k v))), σ.2) else none
  | _ => none
def pfI (ev : Ev) (σ : Mm) (a ci k : Nat) (x : Int32) : Option Mm := pfV ev σ a ci k (.int x)
def pfZ (ev : Ev) (σ : Mm) (a ci k : Nat) (x : Int32) : Option Mm := if x = 0 ∨ x = 1 then pfV ev σ a ci k (.int x) else none
def pfJ (ev : Ev) (σ : Mm) (a ci k : Nat) (x : Int64) : Option Mm := pfV ev σ a ci k (.long x)
def pfA (ev : Ev) (σ : Mm) (a ci k : Nat) (r : Option Nat) : Option Mm := pfV ev σ a ci k (va_rf r)
/-- is of class ci -/
def isC (σ : Mm) (a ci : Nat) : Option Unit := match σ.1 a with
  | some (.inr o) => if o.1 = ci then some () else none
  | _ => none
def alen (σ : Mm) (a : Nat) : Option Int32 := match σ.1 a with
  | some (.inl x) => if x.1 < 9 then some (Int32.ofNat x.2.1) else none
  | _ => none
def aldI (κ : Nat) (σ : Mm) (a : Nat) (i : Int32) : Option Int32 := match σ.1 a with
  | some (.inl (k, n, .inl f)) => if k = κ ∧ ¬ (i < 0 ∨ n ≤ i.toNatClampNeg) then some (f i.toNatClampNeg) else none
  | _ => none
def aldJ (σ : Mm) (a : Nat) (i : Int32) : Option Int64 := match σ.1 a with
  | some (.inl (k, n, .inr (.inl f))) => if k = 1 ∧ ¬ (i < 0 ∨ n ≤ i.toNatClampNeg) then some (f i.toNatClampNeg) else none
  | _ => none
def aldA (κ : Nat) (σ : Mm) (a : Nat) (i : Int32) : Option (Option Nat) := match σ.1 a with
  | some (.inl (k, n, .inr (.inr (.inr (.inr f))))) => if k = κ ∧ ¬ (i < 0 ∨ n ≤ i.toNatClampNeg) then some (f i.toNatClampNeg) else none
  | _ => none
def astI (ev : Ev) (κ : Nat) (σ : Mm) (a : Nat) (i : Int32) (x : Int32) : Option Mm := match σ.1 a with
  | some (.inl (k, n, .inl f)) => if k = κ ∧ ev.1 ≤ a ∧ ¬ (i < 0 ∨ n ≤ i.toNatClampNeg) then some (va_up σ.1 a (some (.inl (k, n, .inl (upd f i.toNatClampNeg (vp_nar (xTy κ) x))))), σ.2) else none
  | _ => none
def astJ (ev : Ev) (σ : Mm) (a : Nat) (i : Int32) (x : Int64) : Option Mm := match σ.1 a with
  | some (.inl (k, n, .inr (.inl f))) => if k = 1 ∧ ev.1 ≤ a ∧ ¬ (i < 0 ∨ n ≤ i.toNatClampNeg) then some (va_up σ.1 a (some (.inl (k, n, .inr (.inl (vp_updL f i.toNatClampNeg x))))), σ.2) else none
  | _ => none
theorem ob {α β : Type} {o : Option α} {f : α → Option β} {r : β} (h : o.bind f = some r) : ∃ x, o = some x ∧ f x = some r := Option.bind_eq_some_iff.mp h
theorem gfI_V {σ : Mm} {a ci k : Nat} {x : Int32} (h : gfI σ a ci k = some x) : gfV σ a ci k = some (.int x) := by
  unfold gfI at h
  split at h
  · rename_i y e; cases h; exact e
  · cases h
theorem gfJ_V {σ : Mm} {a ci k : Nat} {x : Int64} (h : gfJ σ a ci k = some x) : gfV σ a ci k = some (.long x) := by
  unfold gfJ at h
  split at h
  · rename_i y e; cases h; exact e
  · cases h
theorem gfA_V {σ : Mm} {a ci k : Nat} {x : Option Nat} (h : gfA σ a ci k = some x) : gfV σ a ci k = some (va_rf x) := by
  unfold gfA at h
  split at h
  · rename_i e; cases h; exact e
  · rename_i y e; cases h; exact e
  · cases h
theorem gfV_at {σ : Mm} {a ci k : Nat} {v : Value} (h : gfV σ a ci k = some v) : ∃ fs : List Value, σ.1 a = some (.inr (ci, fs)) ∧ fs[k]? = some v := by
  unfold gfV at h
  split at h
  · rename_i o e
    split at h
    · rename_i hc
      exact ⟨o.2, by rw [e, ← hc], h⟩
    · cases h
  · cases h
theorem pfV_at {ev : Ev} {σ σ' : Mm} {a ci k : Nat} {v : Value} (h : pfV ev σ a ci k v = some σ') : ∃ fs : List Value, σ.1 a = some (.inr (ci, fs)) ∧ ev.1 ≤ a ∧ k < fs.length ∧ σ' = (va_up σ.1 a (some (.inr (ci, fs.set k v))), σ.2) := by
  unfold pfV at h
  split at h
  · rename_i o e
    split at h
    · rename_i hc
      obtain ⟨h1, h2, h3⟩ := hc
      subst h1
      cases h
      exact ⟨o.2, e, h2, h3, rfl⟩
    · cases h
  · cases h
theorem isC_at {σ : Mm} {a ci : Nat} {u : Unit} (h : isC σ a ci = some u) : ∃ fs : List Value, σ.1 a = some (.inr (ci, fs)) := by
  unfold isC at h
  split at h
  · rename_i o e
    split at h
    · rename_i hc
      exact ⟨o.2, by rw [e, ← hc]⟩
    · cases h
  · cases h
/-- a field of a class, by its link in class own at index: its class's number and place -/
def FL (own : String) (index ci k : Nat) : Prop := ∃ (C ref : String) (T : u_T) (N : Nat), xCl[ci]? = some (C, T, N) ∧ (∀ w ∈ u_ws C T N, w ∈ lw_all) ∧ k < N ∧ Cond.fieldLink own index ref (T k).2.1 (T k).2.2.1 ∈ lw_all ∧ ((T k).1 = ref ∨ Cond.sameField ref (T k).1 (T k).2.1 (T k).2.2.1 ∈ lw_all)
/-- a field that may be written -/
def FP (own : String) (index ci k : Nat) (ty : FieldType) : Prop := ∃ (C ref : String) (T : u_T) (N : Nat) (ty0 : Nat → FieldType), xCl[ci]? = some (C, T, N) ∧ (∀ w ∈ u_ws C T N, w ∈ lw_all) ∧ k < N ∧ Cond.fieldLink own index ref (T k).2.1 (T k).2.2.1 ∈ lw_all ∧ ((T k).1 = ref ∨ Cond.sameField ref (T k).1 (T k).2.1 (T k).2.2.1 ∈ lw_all) ∧ (∀ k, k < N → parseFieldDescriptor (T k).2.2.1 = some (ty0 k)) ∧ (∀ a, a < N → ∀ b, b < N → a ≠ b → (T a).2.1 ≠ (T b).2.1) ∧ (T k).2.2.2 = false ∧ ty0 k = ty
theorem fl_same {args : Array Value} {s : State} {T : u_T} {k : Nat} {ref : String} (hts : ∀ w ∈ lw_all, w.before args s = true) (h : (T k).1 = ref ∨ Cond.sameField ref (T k).1 (T k).2.1 (T k).2.2.1 ∈ lw_all) {x : ClassId × Class × Nat × Field} (hi : s.fieldFound? (T k).1 (T k).2.1 (T k).2.2.1 = some x) : s.fieldFound? ref (T k).2.1 (T k).2.2.1 = some x := by
  rcases h with h | h
  · rw [← h]; exact hi
  · exact u_same (hts _ h) x hi
section XR
variable {p : Program} {l : Launch} {e : Env} {R : Room} {s : State} {m : MethodId} {args : Array Value} {below : List Frame} {meth : Method} {c : Code} {H : Heap} {locs : List Loc} {cells slots : Nat} {Q : State → Prop}
variable {cc : ByteArray} {nL pc : Nat} {ls : Array Slot} {rest : List Value} {D : Dx} {H0 : Heap} {ev : Ev} {σ σ' : Mm} {own : String} {fr lo : Nat}
/-- what a method's walk stands on -/
def Cx (p : Program) (m : MethodId) (meth : Method) (c : Code) (cc : ByteArray) (nL : Nat) (s : State) (args : Array Value) (own : String) (R : Room) (ev : Ev) (D : Dx) (H0 : Heap) (fr lo : Nat) : Prop := CallFix p m c cc nL s args lw_all own ∧ Kx D H0 ev s ∧ R.cells = ev.2.1 - s.heap.size ∧ R.slots = ev.2.2.1 - xtot s.heap ∧ R.frames = fr ∧ R.locals = lo ∧ meth.locks = false
theorem Cx.x (C : Cx p m meth c cc nL s args own R ev D H0 fr lo) : p.tables.exec = Jvm.exec := C.1.1
theorem Cx.b (C : Cx p m meth c cc nL s args own R ev D H0 fr lo) : c.code = cc := C.1.2.1
theorem Cx.w (C : Cx p m meth c cc nL s args own R ev D H0 fr lo) {w : Cond} (h : w ∈ lw_all) : w.before args s = true := C.1.2.2.2.2 w h
theorem m_getV (C : Cx p m meth c cc nL s args own R ev D H0 fr lo) (hH : Hs D H0 ev σ H) {a ci k index : Nat} (F : FL own index ci k) {v : Value} (hv : gfV σ a ci k = some v) (hdg : decode cc pc = .ok (.getfield index, 3))
    (kk : W p l e R s m args below meth c H locs cells slots Q (F0 m (pc + 3) ls (v :: rest))) : W p l e R s m args below meth c H locs cells slots Q (F0 m pc ls (.ref a :: rest)) := by
  obtain ⟨⟨hx, hb, hml, hown, hts⟩, hK, -⟩ := C
  obtain ⟨Cn, ref, T, N, hc, hin, hk, hl, hr⟩ := F
  obtain ⟨fs, h1, h2⟩ := gfV_at hv
  obtain ⟨cell, q1, q2, q3, q4, q5⟩ := Hs_obj hH hK hc h1
  obtain ⟨hS, hfc, kC, hkC, hkind⟩ := hK.1.1 ci _ hc
  obtain ⟨cf, kf, fi, f, hi, hsl⟩ := hS k hk
  exact W.getf hx hb hown (hts _ hl) (fl_same hts hr hi) (u_facts hfc hkC (u_lays hts hin hk) hi).1 q1 q3 (v := v) (by rw [hsl]; exact q5 k v hk h2) rfl rfl hdg kk
theorem m_getI (C : Cx p m meth c cc nL s args own R ev D H0 fr lo) (hH : Hs D H0 ev σ H) {a ci k index : Nat} (F : FL own index ci k) {v : Int32} (hv : gfI σ a ci k = some v) (hdg : decode cc pc = .ok (.getfield index, 3))
    (kk : W p l e R s m args below meth c H locs cells slots Q (F0 m (pc + 3) ls (.int v :: rest))) : W p l e R s m args below meth c H locs cells slots Q (F0 m pc ls (.ref a :: rest)) := m_getV C hH F (gfI_V hv) hdg kk
theorem m_getJ (C : Cx p m meth c cc nL s args own R ev D H0 fr lo) (hH : Hs D H0 ev σ H) {a ci k index : Nat} (F : FL own index ci k) {v : Int64} (hv : gfJ σ a ci k = some v) (hdg : decode cc pc = .ok (.getfield index, 3))
    (kk : W p l e R s m args below meth c H locs cells slots Q (F0 m (pc + 3) ls (.long v :: rest))) : W p l e R s m args below meth c H locs cells slots Q (F0 m pc ls (.ref a :: rest)) := m_getV C hH F (gfJ_V hv) hdg kk
theorem m_getA (C : Cx p m meth c cc nL s args own R ev D H0 fr lo) (hH : Hs D H0 ev σ H) {a ci k index : Nat} (F : FL own index ci k) {v : Option Nat} (hv : gfA σ a ci k = some v) (hdg : decode cc pc = .ok (.getfield index, 3))
    (kk : W p l e R s m args below meth c H locs cells slots Q (F0 m (pc + 3) ls (va_rf v :: rest))) : W p l e R s m args below meth c H locs cells slots Q (F0 m pc ls (.ref a :: rest)) := m_getV C hH F (gfA_V hv) hdg kk
/-- a cell of the map is written -/
theorem Hs_put (hH : Hs D H0 ev σ H) {a k : Nat} {cell : Cell} {v : Value} {H1 : Heap} {e1 : Ob} (hc : H[a]? = some cell) (ha : ev.1 ≤ a) (e : H1[a]? = some (cell.setSlot k v)) (z : H1.size = H.size) (oq : ∀ q : Nat, q ≠ a → H1[q]? = H[q]?) (he : xat D a e1 H1) : Hs D H0 ev (va_up σ.1 a (some e1), σ.2) H1 := by
  obtain ⟨h1, h2, h3, h4, h5, h6, h7, h8⟩ := hH
  refine ⟨by rw [z]; exact h1, by rw [xtot_put hc z e oq]; exact h2, h3, h4, h5, fun q hq => ?_, fun b e2 hnb hb => ?_, fun b hb => ?_⟩
  · rw [oq q (by omega)]
    exact h6 q hq
  · by_cases hba : b = a
    · subst hba
      have : e1 = e2 := by simpa [va_up] using hb
      rw [← this]
      exact he
    · have hb' : σ.1 b = some e2 := by simpa [va_up, hba] using hb
      exact va_at.kept (h7 b e2 hnb hb') (oq b hba)
  · show va_up σ.1 a (some e1) b = _
    rw [← h8 b hb]
    simp [va_up, show b ≠ a by omega]
theorem m_putV (C : Cx p m meth c cc nL s args own R ev D H0 fr lo) (hH : Hs D H0 ev σ H) (hL : ∀ q ∈ locs, ev.1 ≤ q.base) {a ci k index : Nat} {ty : FieldType} (F : FP own index ci k ty) {v : Value} (hv : pfV ev σ a ci k v = some σ') (hn : narrow ty v = v) (hfit : fits ty v = true) (hdg : decode cc pc = .ok (.putfield index, 3))
    (kk : ∀ (H1 : Heap) (locs1 : List Loc), Hs D H0 ev σ' H1 → (∀ q ∈ locs1, ev.1 ≤ q.base) → W p l e R s m args below meth c H1 locs1 (H1.size - s.heap.size) (xtot H1 - xtot s.heap) Q (F0 m (pc + 3) ls rest)) : W p l e R s m args below meth c H locs cells slots Q (F0 m pc ls (v :: .ref a :: rest)) := by
  obtain ⟨⟨hx, hb, hml, hown, hts⟩, ⟨hK, -⟩, -⟩ := C
  obtain ⟨Cn, ref, T, N, ty0, hc, hin, hk, hl, hr, hty, hnm, hfin, ht⟩ := F
  obtain ⟨fs, h1, h2, h3, rfl⟩ := pfV_at hv
  have hap := va_apart (own := own) hts hin ty0 hty hnm hK hc
  obtain ⟨r, hr1, cell, q1, q2, q3, q4⟩ := hH.2.2.2.2.2.2.1 a _ h2 h1
  have hr2 : r = (Cn, T, N) := Option.some.inj (hr1.symm.trans hc)
  subst hr2
  obtain ⟨hS, hfc, kC, hkC, hkind⟩ := hK.1 ci _ hc
  obtain ⟨cf, kf, fi, f, hi, hsl⟩ := hS k hk
  have hlay := hts _ (hin _ (u_in_lay hk))
  unfold u_lay at hlay
  rw [if_neg (by rw [hfin]; decide)] at hlay
  have hst := (u_facts hfc hkC (u_lays hts hin hk) hi).1
  subst ht
  have h6 := u_store hfc hkC hkind hlay hi (hty k hk) hn hfit
  refine W.putK hx hb (f := f) ⟨hown, hts _ hl, ⟨_, _, _, fl_same hts hr hi⟩, hst⟩ (by rw [q2]; exact h6) q1 q3 (by rw [hsl]; exact k2_hasslot (q4 k hk)) rfl rfl hdg fun H' e1 e2 e3 => ?_
  rw [hsl] at e1 ⊢
  refine xtight (kk H' _ (Hs_put hH q1 h2 e1 e2 e3 ⟨_, hc, t_OB.to (V := updV (vp_V fs) k v) ⟨_, e1, q2, q3, t_set q4 hap hk v⟩ (fun j _ => vp_updV_set h3 v j)⟩) ?_)
  intro q hq
  rcases List.mem_append.mp hq with h | h
  · exact hL q h
  · rw [List.mem_singleton.mp h]; exact h2
theorem m_putI (C : Cx p m meth c cc nL s args own R ev D H0 fr lo) (hH : Hs D H0 ev σ H) (hL : ∀ q ∈ locs, ev.1 ≤ q.base) {a ci k index : Nat} (F : FP own index ci k .int) {v : Int32} (hv : pfI ev σ a ci k v = some σ') (hdg : decode cc pc = .ok (.putfield index, 3))
    (kk : ∀ (H1 : Heap) (locs1 : List Loc), Hs D H0 ev σ' H1 → (∀ q ∈ locs1, ev.1 ≤ q.base) → W p l e R s m args below meth c H1 locs1 (H1.size - s.heap.size) (xtot H1 - xtot s.heap) Q (F0 m (pc + 3) ls rest)) : W p l e R s m args below meth c H locs cells slots Q (F0 m pc ls (.int v :: .ref a :: rest)) := m_putV C hH hL F hv rfl rfl hdg kk
theorem m_putZ (C : Cx p m meth c cc nL s args own R ev D H0 fr lo) (hH : Hs D H0 ev σ H) (hL : ∀ q ∈ locs, ev.1 ≤ q.base) {a ci k index : Nat} (F : FP own index ci k .boolean) {v : Int32} (hv : pfZ ev σ a ci k v = some σ') (hdg : decode cc pc = .ok (.putfield index, 3))
    (kk : ∀ (H1 : Heap) (locs1 : List Loc), Hs D H0 ev σ' H1 → (∀ q ∈ locs1, ev.1 ≤ q.base) → W p l e R s m args below meth c H1 locs1 (H1.size - s.heap.size) (xtot H1 - xtot s.heap) Q (F0 m (pc + 3) ls rest)) : W p l e R s m args below meth c H locs cells slots Q (F0 m pc ls (.int v :: .ref a :: rest)) := by
  unfold pfZ at hv
  split at hv
  · rename_i h
    exact m_putV C hH hL F hv (by rcases h with rfl | rfl <;> rfl) (by rcases h with rfl | rfl <;> rfl) hdg kk
  · cases hv
theorem m_putJ (C : Cx p m meth c cc nL s args own R ev D H0 fr lo) (hH : Hs D H0 ev σ H) (hL : ∀ q ∈ locs, ev.1 ≤ q.base) {a ci k index : Nat} (F : FP own index ci k .long) {v : Int64} (hv : pfJ ev σ a ci k v = some σ') (hdg : decode cc pc = .ok (.putfield index, 3))
    (kk : ∀ (H1 : Heap) (locs1 : List Loc), Hs D H0 ev σ' H1 → (∀ q ∈ locs1, ev.1 ≤ q.base) → W p l e R s m args below meth c H1 locs1 (H1.size - s.heap.size) (xtot H1 - xtot s.heap) Q (F0 m (pc + 3) ls rest)) : W p l e R s m args below meth c H locs cells slots Q (F0 m pc ls (.long v :: .ref a :: rest)) := m_putV C hH hL F hv rfl rfl hdg kk
end XR
