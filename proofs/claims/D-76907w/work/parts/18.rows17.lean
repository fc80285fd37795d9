/-! rows: a Fault that leaves a method, or is caught -/
def thF (ev : Ev) (σ : Mm) (q : Nat) : Option Unit := match σ.1 q with
  | some (.inr (k, _)) => if k = 4 ∧ ev.1 ≤ q then some () else none
  | _ => none
def bdT {α β : Type} (o : Option ((α ⊕ Nat) × Mm)) (f : α → Mm → Option ((β ⊕ Nat) × Mm)) : Option ((β ⊕ Nat) × Mm) := o.bind fun r => match r.1 with
  | .inl v => f v r.2
  | .inr q => some (.inr q, r.2)
theorem obT {α β : Type} {o : Option ((α ⊕ Nat) × Mm)} {f : α → Mm → Option ((β ⊕ Nat) × Mm)} {res : (β ⊕ Nat) × Mm} (h : bdT o f = some res) : ∃ r, o = some r ∧ (∀ v, r.1 = .inl v → f v r.2 = some res) ∧ ∀ q, r.1 = .inr q → res.1 = .inr q ∧ res.2 = r.2 := by
  unfold bdT at h
  cases o with
  | none => cases h
  | some r =>
    obtain ⟨a, s⟩ := r
    refine ⟨_, rfl, ?_, ?_⟩
    · intro v hv
      cases hv
      exact h
    · intro q hq
      cases hq
      have := Option.some.inj h
      rw [← this]
      exact ⟨rfl, rfl⟩
def mtT {α β : Type} (o : Option ((α ⊕ Nat) × Mm)) (f : α → Mm → Option β) (g : Nat → Mm → Option β) : Option β := o.bind fun r => match r.1 with
  | .inl v => f v r.2
  | .inr q => g q r.2
theorem obM {α β : Type} {o : Option ((α ⊕ Nat) × Mm)} {f : α → Mm → Option β} {g : Nat → Mm → Option β} {res : β} (h : mtT o f g = some res) : ∃ r, o = some r ∧ (∀ v, r.1 = .inl v → f v r.2 = some res) ∧ ∀ q, r.1 = .inr q → g q r.2 = some res := by
  unfold mtT at h
  cases o with
  | none => cases h
  | some r =>
    obtain ⟨a, s⟩ := r
    refine ⟨_, rfl, ?_, ?_⟩
    · intro v hv
      cases hv
      exact h
    · intro q hq
      cases hq
      exact h
/-- THE CONTRACT of a method that returns or throws a Fault -/
def CtZ {α : Type} (l : Launch) (D : Dx) (H0 : Heap) (ev : Ev) (y : MethodName) (ws : List Cond) (fr lo : Nat) (av : List Value) (σ : Mm) (rv : α → Option Value) (res : (α ⊕ Nat) × Mm) : Prop :=
  vy_Met l y ws { frames := fr, cells := ev.2.1 - σ.2.1, slots := ev.2.2.1 - σ.2.2, locals := lo } (va_Pc av (fun U => Hs D H0 ev σ U.heap ∧ Kx D H0 ev U)) (fun _ _ oc t => ∃ v, res.1 = .inl v ∧ oc = .returned (rv v) ∧ Hs D H0 ev res.2 t.heap) (fun q E _ t => res.1 = .inr q ∧ E = "CellReducer$Fault" ∧ Hs D H0 ev res.2 t.heap) (ev.2.1 - σ.2.1) (ev.2.2.1 - σ.2.2) (fun q => ev.1 ≤ q)
def MQz {α : Type} (D : Dx) (H0 : Heap) (ev : Ev) (below : List Frame) (args : Array Value) (s : State) (rv : α → Option Value) (res : (α ⊕ Nat) × Mm) : State → Prop := vy_MQ below (fun _ _ oc t => ∃ v, res.1 = .inl v ∧ oc = .returned (rv v) ∧ Hs D H0 ev res.2 t.heap) (fun q E _ t => res.1 = .inr q ∧ E = "CellReducer$Fault" ∧ Hs D H0 ev res.2 t.heap) args s (ev.2.1 - s.heap.size) (ev.2.2.1 - xtot s.heap) (fun q => ev.1 ≤ q)
section XZ
variable {p : Program} {l : Launch} {e : Env} {R : Room} {s : State} {m : MethodId} {args : Array Value} {below : List Frame} {meth : Method} {c : Code} {H : Heap} {locs : List Loc} {cells slots : Nat} {Q : State → Prop}
variable {cc : ByteArray} {nL pc : Nat} {ls : Array Slot} {rest : List Value} {D : Dx} {H0 : Heap} {ev : Ev} {σ σ0 σ' : Mm} {own : String} {fr lo : Nat}
variable {y : MethodName} {bytes : ByteArray} {maxL n index ci fr' lo' b : Nat} {ret : Option FieldType} {As : List Value} {st0 : List Value} {α : Type} {rv : α → Option Value}
theorem MQx_z {res : (α ⊕ Nat) × Mm} {v : α} (h : res.1 = .inl v) {g : JFrame} (k : W p l e R s m args below meth c H locs cells slots (MQx D H0 ev below args s (rv v) res.2) g) : W p l e R s m args below meth c H locs cells slots (MQz D H0 ev below args s rv res) g := by
  refine vy_ret ?_
  intro T hT X
  obtain ⟨t, a, o, b1, b2, ⟨b3, b4⟩, b5⟩ := k T hT X
  exact ⟨t, a, o, b1, b2, ⟨v, h, b3, b4⟩, b5⟩
theorem xtightX {g : JFrame} {q : Addr} (k : vx_W p l e R s m args below meth c H locs (H.size - s.heap.size) (xtot H - xtot s.heap) Q g q) : vx_W p l e R s m args below meth c H locs cells slots Q g q := by
  intro T hT X
  refine k T hT { X with same := ?_ }
  obtain ⟨h1, h2, h3, h4, h5, h6⟩ := X.same
  have hh : (T.setVm s.vm).heap = H := hT
  rw [hh] at h2 h3 h4 h5 h6
  have hd := xtot_drop h2 (fun a c hc => by obtain ⟨c', q1, -, q3, -⟩ := h6 a c hc; exact ⟨c', q1, q3⟩)
  refine ⟨h1, by rw [hh]; exact h2, by rw [hh]; omega, by rw [hh]; exact h4, by rw [hh, hd.1]; exact Nat.le_refl _, fun a c hc => by rw [hh]; exact h6 a c hc⟩
theorem thF_at (hK : Kx D H0 ev s) (hH : Hs D H0 ev σ H) {q : Nat} {u : Unit} (h : thF ev σ q = some u) : ∃ ce : Cell, H[q]? = some ce ∧ ce.vm = .none ∧ s.vm.findClass "CellReducer$Fault" = some ce.cls := by
  unfold thF at h
  split at h
  · rename_i k fs hk
    split at h
    · rename_i hc
      obtain ⟨rfl, h2⟩ := hc
      obtain ⟨r, hr, cell, q1, q2, q3, q4⟩ := hH.2.2.2.2.2.2.1 q _ h2 hk
      have hr' : r = (RX4, TX4, 7) := Option.some.inj (hr.symm.trans rfl)
      subst hr'
      exact ⟨cell, q1, q3, by rw [q2]; exact (hK.1.1 4 _ rfl).2.1⟩
    · cases h
  · cases h
/-- out of a method without handlers -/
theorem m_outZ (C : Cx p m meth c cc nL s args own R ev D H0 fr lo) {res : (α ⊕ Nat) × Mm} {q : Nat} (hq : res.1 = .inr q) (hH : Hs D H0 ev res.2 H) (hL : ∀ q ∈ locs, ev.1 ≤ q.base) (hno : ∀ x ∈ c.exceptionTable.toList, False) (hce : ∃ ce : Cell, H[q]? = some ce ∧ ce.vm = .none ∧ s.vm.findClass "CellReducer$Fault" = some ce.cls) : vx_W p l e R s m args below meth c H locs cells slots (MQz D H0 ev below args s rv res) (F0 m pc ls rest) q := by
  obtain ⟨ce, h1, h2, h3⟩ := hce
  have z1 := hH.1
  have z2 := hH.2.1
  have z4 := hH.2.2.2.1
  have z5 := hH.2.2.2.2.1
  exact xtightX (vy_out (E := "CellReducer$Fault") (fun x hx => (hno x hx).elim) C.2.2.2.2.2.2 h1 h2 h3 (fun t ht _ => ⟨hq, rfl, by rw [ht]; exact hH⟩) hL (by omega) (by omega))
theorem m_throwZ (C : Cx p m meth c cc nL s args own R ev D H0 fr lo) {res : (α ⊕ Nat) × Mm} {q : Nat} {u : Unit} (hq : res = (.inr q, σ)) (hH : Hs D H0 ev σ H) (hL : ∀ q ∈ locs, ev.1 ≤ q.base) (hno : ∀ x ∈ c.exceptionTable.toList, False) (hf : thF ev σ q = some u) (hdg : decode cc pc = .ok (.athrow, 1)) : W p l e R s m args below meth c H locs cells slots (MQz D H0 ev below args s rv res) (F0 m pc ls (.ref q :: rest)) := by
  subst hq
  exact vx_athrow C.x C.b hdg (m_outZ C rfl hH hL hno (thF_at C.2.1 hH hf))
theorem m_goesZ {res : (α ⊕ Nat) × Mm} {mc ms : Nat} (hr : vy_Run p l e R s m args below meth c H locs cells slots mc ms (F0 m pc ls st0) rest (fun _ oc t => ∃ v, res.1 = .inl v ∧ oc = .returned (rv v) ∧ Hs D H0 ev res.2 t.heap) (fun q E _ t => res.1 = .inr q ∧ E = "CellReducer$Fault" ∧ Hs D H0 ev res.2 t.heap) (fun q => ev.1 ≤ q)) (hL : ∀ q ∈ locs, ev.1 ≤ q.base)
    (kr : ∀ v, res.1 = .inl v → ∀ (H1 : Heap) (locs1 : List Loc), Hs D H0 ev res.2 H1 → (∀ q ∈ locs1, ev.1 ≤ q.base) → W p l e R s m args below meth c H1 locs1 (H1.size - s.heap.size) (xtot H1 - xtot s.heap) Q (F0 m (pc + 3) ls ((rv v).toList ++ rest)))
    (kt : ∀ q, res.1 = .inr q → ∀ (H1 : Heap) (locs1 : List Loc), Hs D H0 ev res.2 H1 → (∀ q ∈ locs1, ev.1 ≤ q.base) → (∃ ce : Cell, H1[q]? = some ce ∧ ce.vm = .none ∧ s.vm.findClass "CellReducer$Fault" = some ce.cls) → vx_W p l e R s m args below meth c H1 locs1 (H1.size - s.heap.size) (xtot H1 - xtot s.heap) Q (F0 m pc ls rest) q) : W p l e R s m args below meth c H locs cells slots Q (F0 m pc ls st0) := by
  intro T hT X
  have hLL : ∀ L : List Loc, (∀ q ∈ L, ev.1 ≤ q.base) → ∀ q ∈ locs ++ L, ev.1 ≤ q.base := fun L hL' q hq => by
    rcases List.mem_append.mp hq with h | h
    · exact hL q h
    · exact hL' q h
  rcases hr T hT X with ⟨v, st₀, t, T', L, h0, X', hL', e1, e2, ⟨w, hw, hv, hs⟩, st⟩ | ⟨q, st₀, t, T', L, E, ce, h0, X', hL', e1, e2, ⟨hq, hE, hs⟩, g1, g2, g3, st⟩
  · cases hv
    obtain ⟨t2, a1, b1⟩ := xtight (kr w hw T'.heap (locs ++ L) (by rw [e1]; exact hs) (hLL L hL')) T' rfl X'
    exact ⟨t2, st t2 a1, b1⟩
  · subst hE
    obtain ⟨t2, a1, b1⟩ := xtightX (kt q hq T'.heap (locs ++ L) (by rw [e1]; exact hs) (hLL L hL') ⟨ce, by rw [e1]; exact g1, g2, g3⟩) T' rfl X'
    exact ⟨t2, st.trans a1, b1⟩
theorem m_callVZ {res : (α ⊕ Nat) × Mm} (C : Cx p m meth c cc nL s args own R ev D H0 fr lo) (hH : Hs D H0 ev σ H) (hL : ∀ q ∈ locs, ev.1 ≤ q.base) (V : CV own index ci y bytes maxL ret n) (hM : CtZ l D H0 ev y (ws_ y bytes maxL ret) fr' lo' (.ref b :: As) σ rv res) (hc : isC σ b ci = some ()) (hfl : fr' + 1 ≤ fr ∧ 8 + (maxL + 11) + lo' ≤ lo) (hn : As.length = n) (hl : ls.size = nL) (hst : st0 = As.reverse ++ .ref b :: rest) (hW : (rest.map fun v => v.category).sum ≤ 8) (hdg : decode cc pc = .ok (.invokevirtual index, 3))
    (kr : ∀ v, res.1 = .inl v → ∀ (H1 : Heap) (locs1 : List Loc), Hs D H0 ev res.2 H1 → (∀ q ∈ locs1, ev.1 ≤ q.base) → W p l e R s m args below meth c H1 locs1 (H1.size - s.heap.size) (xtot H1 - xtot s.heap) Q (F0 m (pc + 3) ls ((rv v).toList ++ rest)))
    (kt : ∀ q, res.1 = .inr q → ∀ (H1 : Heap) (locs1 : List Loc), Hs D H0 ev res.2 H1 → (∀ q ∈ locs1, ev.1 ≤ q.base) → (∃ ce : Cell, H1[q]? = some ce ∧ ce.vm = .none ∧ s.vm.findClass "CellReducer$Fault" = some ce.cls) → vx_W p l e R s m args below meth c H1 locs1 (H1.size - s.heap.size) (xtot H1 - xtot s.heap) Q (F0 m pc ls rest) q) : W p l e R s m args below meth c H locs cells slots Q (F0 m pc ls st0) := by
  obtain ⟨q, hq, hG, hd⟩ := V
  obtain ⟨S, hK, hR1, hR2, hR3, hR4, hlk⟩ := C
  obtain ⟨fs, hfs⟩ := isC_at hc
  have z1 := hH.1
  have z2 := hH.2.1
  have z4 := hH.2.2.2.1
  have z5 := hH.2.2.2.2.1
  obtain ⟨cell, q1, q2, q3, q4, -⟩ := Hs_obj hH hK hq hfs
  refine xknow fun k1 k2 => ?_
  exact m_goesZ (vy_runV (As := As) (rest := rest) S hM (cwV n S.2.2.2.2 hG rfl rfl rfl hd ⟨by rw [hR3]; exact hfl.1, by rw [hR4]; exact hfl.2⟩) ⟨Ct_blind, ⟨cell, q1, q2, q4⟩, fun U hU hW => ⟨rfl, by rw [hU]; exact hH, hK.warm hW⟩⟩ rfl hn hl hst (lv_room hW) hdg ⟨by rw [hR1]; omega, by rw [hR2]; omega⟩) hL kr kt
theorem m_callVZN {res : (Unit ⊕ Nat) × Mm} (C : Cx p m meth c cc nL s args own R ev D H0 fr lo) (hH : Hs D H0 ev σ H) (hL : ∀ q ∈ locs, ev.1 ≤ q.base) (V : CV own index ci y bytes maxL ret n) (hM : CtZ l D H0 ev y (ws_ y bytes maxL ret) fr' lo' (.ref b :: As) σ (fun _ : Unit => none) res) (hc : isC σ b ci = some ()) (hfl : fr' + 1 ≤ fr ∧ 8 + (maxL + 11) + lo' ≤ lo) (hn : As.length = n) (hl : ls.size = nL) (hst : st0 = As.reverse ++ .ref b :: rest) (hW : (rest.map fun v => v.category).sum ≤ 8) (hdg : decode cc pc = .ok (.invokevirtual index, 3))
    (kr : ∀ v, res.1 = .inl v → ∀ (H1 : Heap) (locs1 : List Loc), Hs D H0 ev res.2 H1 → (∀ q ∈ locs1, ev.1 ≤ q.base) → W p l e R s m args below meth c H1 locs1 (H1.size - s.heap.size) (xtot H1 - xtot s.heap) Q (F0 m (pc + 3) ls (rest)))
    (kt : ∀ q, res.1 = .inr q → ∀ (H1 : Heap) (locs1 : List Loc), Hs D H0 ev res.2 H1 → (∀ q ∈ locs1, ev.1 ≤ q.base) → (∃ ce : Cell, H1[q]? = some ce ∧ ce.vm = .none ∧ s.vm.findClass "CellReducer$Fault" = some ce.cls) → vx_W p l e R s m args below meth c H1 locs1 (H1.size - s.heap.size) (xtot H1 - xtot s.heap) Q (F0 m pc ls rest) q) : W p l e R s m args below meth c H locs cells slots Q (F0 m pc ls st0) := m_callVZ C hH hL V hM hc hfl hn hl hst hW hdg kr kt
theorem m_callVZJ {res : (Int64 ⊕ Nat) × Mm} (C : Cx p m meth c cc nL s args own R ev D H0 fr lo) (hH : Hs D H0 ev σ H) (hL : ∀ q ∈ locs, ev.1 ≤ q.base) (V : CV own index ci y bytes maxL ret n) (hM : CtZ l D H0 ev y (ws_ y bytes maxL ret) fr' lo' (.ref b :: As) σ (fun v : Int64 => some (.long v)) res) (hc : isC σ b ci = some ()) (hfl : fr' + 1 ≤ fr ∧ 8 + (maxL + 11) + lo' ≤ lo) (hn : As.length = n) (hl : ls.size = nL) (hst : st0 = As.reverse ++ .ref b :: rest) (hW : (rest.map fun v => v.category).sum ≤ 8) (hdg : decode cc pc = .ok (.invokevirtual index, 3))
    (kr : ∀ v, res.1 = .inl v → ∀ (H1 : Heap) (locs1 : List Loc), Hs D H0 ev res.2 H1 → (∀ q ∈ locs1, ev.1 ≤ q.base) → W p l e R s m args below meth c H1 locs1 (H1.size - s.heap.size) (xtot H1 - xtot s.heap) Q (F0 m (pc + 3) ls (.long v :: rest)))
    (kt : ∀ q, res.1 = .inr q → ∀ (H1 : Heap) (locs1 : List Loc), Hs D H0 ev res.2 H1 → (∀ q ∈ locs1, ev.1 ≤ q.base) → (∃ ce : Cell, H1[q]? = some ce ∧ ce.vm = .none ∧ s.vm.findClass "CellReducer$Fault" = some ce.cls) → vx_W p l e R s m args below meth c H1 locs1 (H1.size - s.heap.size) (xtot H1 - xtot s.heap) Q (F0 m pc ls rest) q) : W p l e R s m args below meth c H locs cells slots Q (F0 m pc ls st0) := m_callVZ C hH hL V hM hc hfl hn hl hst hW hdg kr kt
theorem m_callVZA {res : (Option Nat ⊕ Nat) × Mm} (C : Cx p m meth c cc nL s args own R ev D H0 fr lo) (hH : Hs D H0 ev σ H) (hL : ∀ q ∈ locs, ev.1 ≤ q.base) (V : CV own index ci y bytes maxL ret n) (hM : CtZ l D H0 ev y (ws_ y bytes maxL ret) fr' lo' (.ref b :: As) σ (fun v : Option Nat => some (va_rf v)) res) (hc : isC σ b ci = some ()) (hfl : fr' + 1 ≤ fr ∧ 8 + (maxL + 11) + lo' ≤ lo) (hn : As.length = n) (hl : ls.size = nL) (hst : st0 = As.reverse ++ .ref b :: rest) (hW : (rest.map fun v => v.category).sum ≤ 8) (hdg : decode cc pc = .ok (.invokevirtual index, 3))
    (kr : ∀ v, res.1 = .inl v → ∀ (H1 : Heap) (locs1 : List Loc), Hs D H0 ev res.2 H1 → (∀ q ∈ locs1, ev.1 ≤ q.base) → W p l e R s m args below meth c H1 locs1 (H1.size - s.heap.size) (xtot H1 - xtot s.heap) Q (F0 m (pc + 3) ls (va_rf v :: rest)))
    (kt : ∀ q, res.1 = .inr q → ∀ (H1 : Heap) (locs1 : List Loc), Hs D H0 ev res.2 H1 → (∀ q ∈ locs1, ev.1 ≤ q.base) → (∃ ce : Cell, H1[q]? = some ce ∧ ce.vm = .none ∧ s.vm.findClass "CellReducer$Fault" = some ce.cls) → vx_W p l e R s m args below meth c H1 locs1 (H1.size - s.heap.size) (xtot H1 - xtot s.heap) Q (F0 m pc ls rest) q) : W p l e R s m args below meth c H locs cells slots Q (F0 m pc ls st0) := m_callVZ C hH hL V hM hc hfl hn hl hst hW hdg kr kt
theorem CtZ_of {av : List Value} {res : (α ⊕ Nat) × Mm} (hy : plainName y.cls = true)
    (body : ∀ p e R s m below meth c, Cx p m meth c bytes maxL s av.toArray y.cls R ev D H0 fr lo → meth.sig.returnType = ret → (∀ x ∈ c.exceptionTable.toList, False) → Hs D H0 ev σ s.heap → W p l e R s m av.toArray below meth c s.heap [] (s.heap.size - s.heap.size) (xtot s.heap - xtot s.heap) (MQz D H0 ev below av.toArray s rv res) (entryFrame m av.toArray maxL)) : CtZ l D H0 ev y (ws_ y bytes maxL ret) fr lo av σ rv res := by
  refine vy_ofW (cc := bytes) (maxL := maxL) (ret := ret) hy rfl ?_
  intro p e s m args below meth c s₁ B hml hno hv
  obtain ⟨rfl, hH, hK⟩ := hv
  have hts0 := atoms_spec (ws := ws_ y bytes maxL ret) B.pre
  have hts : ∀ w ∈ lw_all, w.before _ s = true := fun w h => hts0 w (List.mem_cons_of_mem _ h)
  have z1 := hH.1
  have z2 := hH.2.1
  have k := body p e (headSpec (ws_ y bytes maxL ret) { frames := fr, cells := ev.2.1 - σ.2.1, slots := ev.2.2.1 - σ.2.2, locals := lo }).room s m below meth c ⟨⟨B.exec, B.bytes, hml, findClass_of_methodNamed B.named, hts⟩, hK, by show ev.2.1 - σ.2.1 = _; rw [z1], by show ev.2.2.1 - σ.2.2 = _; rw [z2], rfl, rfl, B.notSynchronized⟩ B.returns hno hH
  unfold MQz at k
  rw [z1, z2] at k
  have k := xtight (cells := 0) (slots := 0) (by rw [z1, z2]; exact k)
  exact k
/-- a Fault caught in this method -/
theorem m_catchF (C : Cx p m meth c cc nL s args own R ev D H0 fr lo) {q : Nat} (pre : List ExceptionTableEntry) (x : ExceptionTableEntry) (suf : List ExceptionTableEntry) (hsplit : c.exceptionTable.toList = pre ++ x :: suf) (hpass : ∀ z ∈ pre, covers z pc = false) (hx : covers x pc = true) (hx0 : x.catchType ≠ 0) (hlink : Cond.classLink own x.catchType "CellReducer$Fault" ∈ lw_all) (hcast : Cond.castable "CellReducer$Fault" "CellReducer$Fault" ∈ lw_tbl) (hce : ∃ ce : Cell, H[q]? = some ce ∧ ce.vm = .none ∧ s.vm.findClass "CellReducer$Fault" = some ce.cls)
    (kk : W p l e R s m args below meth c H locs cells slots Q (F0 m x.handlerPc ls [.ref q])) : vx_W p l e R s m args below meth c H locs cells slots Q (F0 m pc ls rest) q := by
  obtain ⟨ce, h1, h2, h3⟩ := hce
  exact vx_catch C.1.2.2.2.1 pre x suf hsplit (fun z hz => Or.inl (hpass z hz)) hx hx0 (C.w hlink) (xcd_all C hcast (Or.inl rfl)) h1 h2 h3 kk
end XZ
