/-! new cells; calls; the contract -/
def nwO (ev : Ev) (σ : Mm) (ci N : Nat) (fs : List Value) : Option (Nat × Mm) := if σ.2.1 + 1 ≤ ev.2.1 ∧ σ.2.2 + N ≤ ev.2.2.1 then some (σ.2.1, (va_up σ.1 σ.2.1 (some (.inr (ci, fs))), σ.2.1 + 1, σ.2.2 + N)) else none
def nwA (ev : Ev) (σ : Mm) (κ : Nat) (n : Int32) (bytes : Nat) (x : (Nat → Int32) ⊕ (Nat → Int64) ⊕ (Nat → UInt32) ⊕ (Nat → UInt64) ⊕ (Nat → Option Nat)) : Option (Nat × Mm) := if ¬ n < 0 ∧ n.toNatClampNeg * bytes ≤ 536870912 ∧ σ.2.1 + 1 ≤ ev.2.1 ∧ σ.2.2 + n.toNatClampNeg ≤ ev.2.2.1 then some (σ.2.1, (va_up σ.1 σ.2.1 (some (.inl (κ, n.toNatClampNeg, x))), σ.2.1 + 1, σ.2.2 + n.toNatClampNeg)) else none
/-- a class that is made, by its link -/
def NL (own : String) (index ci N : Nat) (fs : List Value) : Prop := ∃ (C : String) (T : u_T) (ty : Nat → FieldType), xCl[ci]? = some (C, T, N) ∧ (∀ w ∈ u_ws C T N, w ∈ lw_all) ∧ (∀ k, k < N → parseFieldDescriptor (T k).2.2.1 = some (ty k)) ∧ Cond.classLink own index C ∈ lw_all ∧ Cond.instantiable C N ∈ lw_all ∧ Cond.initialized C ∈ lw_all ∧ ∀ j, j < N → defaultValue (ty j) = vp_V fs j
section XN
variable {p : Program} {l : Launch} {e : Env} {R : Room} {s : State} {m : MethodId} {args : Array Value} {below : List Frame} {meth : Method} {c : Code} {H : Heap} {locs : List Loc} {cells slots : Nat} {Q : State → Prop}
variable {cc : ByteArray} {nL pc : Nat} {ls : Array Slot} {rest : List Value} {D : Dx} {H0 : Heap} {ev : Ev} {σ σ' : Mm} {own : String} {fr lo : Nat}
theorem xknow {g : JFrame} (k : s.heap.size ≤ H.size → xtot s.heap ≤ xtot H → W p l e R s m args below meth c H locs (H.size - s.heap.size) (xtot H - xtot s.heap) Q g) : W p l e R s m args below meth c H locs cells slots Q g := by
  intro T hT X
  obtain ⟨h1, h2, h3, h4, h5, h6⟩ := X.same
  have hh : (T.setVm s.vm).heap = H := hT
  rw [hh] at h2 h6
  have hd := xtot_drop h2 (fun a c hc => by obtain ⟨c', q1, -, q3, -⟩ := h6 a c hc; exact ⟨c', q1, q3⟩)
  exact xtight (k h2 hd.2) T hT X
theorem Hs_push (hH : Hs D H0 ev σ H) {cell : Cell} {H1 : Heap} {e1 : Ob} (hc1 : σ.2.1 + 1 ≤ ev.2.1) (hs1 : σ.2.2 + cell.slots.size ≤ ev.2.2.1) (e : H1[H.size]? = some cell) (z : H1.size = H.size + 1) (oq : ∀ q : Nat, q < H.size → H1[q]? = H[q]?) (he : xat D H.size e1 H1) : Hs D H0 ev (va_up σ.1 σ.2.1 (some e1), σ.2.1 + 1, σ.2.2 + cell.slots.size) H1 := by
  obtain ⟨h1, h2, h3, h4, h5, h6, h7, h8⟩ := hH
  refine ⟨by rw [z, h1], by rw [xtot_push z e oq, h2], by show ev.1 ≤ σ.2.1 + 1; omega, hc1, hs1, fun q hq => ?_, fun b e2 hnb hb => ?_, fun b hb => ?_⟩
  · rw [oq q (by omega)]
    exact h6 q hq
  · by_cases hba : b = σ.2.1
    · subst hba
      have : e1 = e2 := by simpa [va_up] using hb
      rw [← this, ← h1]
      exact he
    · have hb' : σ.1 b = some e2 := by simpa [va_up, hba] using hb
      have := h7 b e2 hnb hb'
      exact va_at.kept this (oq b (va_at.lt this))
  · show va_up σ.1 σ.2.1 (some e1) b = _
    rw [← h8 b hb]
    simp [va_up, show b ≠ σ.2.1 by omega]
theorem m_new (C : Cx p m meth c cc nL s args own R ev D H0 fr lo) (hH : Hs D H0 ev σ H) (hL : ∀ q ∈ locs, ev.1 ≤ q.base) {ci N index a : Nat} {fs : List Value} (F : NL own index ci N fs) (hv : nwO ev σ ci N fs = some (a, σ')) (hdg : decode cc pc = .ok (.new index, 3))
    (kk : ∀ (H1 : Heap) (locs1 : List Loc), Hs D H0 ev σ' H1 → (∀ q ∈ locs1, ev.1 ≤ q.base) → W p l e R s m args below meth c H1 locs1 (H1.size - s.heap.size) (xtot H1 - xtot s.heap) Q (F0 m (pc + 3) ls (.ref a :: rest))) : W p l e R s m args below meth c H locs cells slots Q (F0 m pc ls rest) := by
  obtain ⟨⟨hx, hb, hml, hown, hts⟩, ⟨hK, -⟩, hR1, hR2, -⟩ := C
  obtain ⟨Cn, T, ty, hc, hin, hty, hcl, hins, hini, hfs⟩ := F
  unfold nwO at hv
  split at hv
  · rename_i hq
    cases hv
    refine xknow fun k1 k2 => ?_
    have hKn := hK.1 ci _ hc
    have z1 := hH.1
    have z2 := hH.2.1
    refine W.newc hx hb hown (hts _ hcl) (hts _ hins) (hts _ hini) rfl hdg (by rw [hR1]; omega) (by rw [hR2]; omega) fun cC kC g1 g2 g3 g4 => ?_
    cases hKn.2.1.symm.trans g1
    have e1 : (H.push { cls := D.1.1 ci, slots := kC.instanceTypes.map defaultValue, vm := .none })[H.size]? = some (blank (D.1.1 ci) kC) := by simp [blank]
    have hsz : (blank (D.1.1 ci) kC).slots.size = N := by simp [blank, g4]
    have hk := kk _ locs (Hs_push (cell := blank (D.1.1 ci) kC) (e1 := .inr (ci, fs)) hH hq.1 (by rw [hsz]; exact hq.2) e1 (by simp) (fun q hq => by rw [Array.getElem?_push, if_neg (Nat.ne_of_lt hq)]) ⟨_, hc, (u_born ty hts hin hKn g2 e1 hty).to hfs⟩ |> fun h => by rw [hsz] at h; exact h) hL
    rw [← z1] at hk
    exact xtight hk
  · cases hv
theorem m_newa {κ : Nat} {ty : FieldType} {atype : ArrayType} (hty : newarray.typeOf atype = ty) (hκ : xTy κ = ty) (hκ7 : κ < 4) (harr : Cond.arrayClass ty ∈ lw_all) (C : Cx p m meth c cc nL s args own R ev D H0 fr lo) (hH : Hs D H0 ev σ H) (hL : ∀ q ∈ locs, ev.1 ≤ q.base) {n : Int32} {x : (Nat → Int32) ⊕ (Nat → Int64) ⊕ (Nat → UInt32) ⊕ (Nat → UInt64) ⊕ (Nat → Option Nat)} {a : Nat} (ha : ∀ (cA : ClassId) (N' : Nat), vp_cell cA (N', x) = arrV cA N' (fun _ => defaultValue ty)) (hv : nwA ev σ κ n (componentBytes ty) x = some (a, σ')) (hdg : decode cc pc = .ok (.newarray atype, 2))
    (kk : ∀ (H1 : Heap) (locs1 : List Loc), Hs D H0 ev σ' H1 → (∀ q ∈ locs1, ev.1 ≤ q.base) → W p l e R s m args below meth c H1 locs1 (H1.size - s.heap.size) (xtot H1 - xtot s.heap) Q (F0 m (pc + 2) ls (.ref a :: rest))) : W p l e R s m args below meth c H locs cells slots Q (F0 m pc ls (.int n :: rest)) := by
  obtain ⟨⟨hx, hb, hml, hown, hts⟩, ⟨hK, -⟩, hR1, hR2, -⟩ := C
  subst hty
  unfold nwA at hv
  split at hv
  · rename_i hq
    cases hv
    refine xknow fun k1 k2 => ?_
    have z1 := hH.1
    have z2 := hH.2.1
    refine va_newaK hx hb (hts _ harr) rfl hdg rfl hq.1 rfl hq.2.1 (by rw [hR1]; omega) (by rw [hR2]; omega) rfl fun H1 cA e1 zz1 o1 hAr hNm => ?_
    have ht : (xTys D)[κ]? = some (D.2 κ, xTy κ) := by
      match κ, hκ7 with
      | 0, _ => rfl
      | 1, _ => rfl
      | 2, _ => rfl
      | 3, _ => rfl
    have hRA := (hK.2 κ _ ht).2
    have hcA : cA = D.2 κ := by
      rw [hκ] at hRA
      have hRA : s.vm.findClass ("[" ++ (newarray.typeOf atype).toString) = some (D.2 κ) := by
        cases atype <;> exact hRA
      exact Option.some.inj (hNm.symm.trans hRA)
    subst hcA
    have e2 : H1[H.size]? = some (vp_cell (D.2 κ) (n.toNatClampNeg, x)) := by rw [ha]; exact e1
    have hsz : (vp_cell (D.2 κ) (n.toNatClampNeg, x)).slots.size = n.toNatClampNeg := by rw [ha, arrV_size]
    have hk := kk _ locs (Hs_push (cell := vp_cell (D.2 κ) (n.toNatClampNeg, x)) (e1 := .inl (κ, n.toNatClampNeg, x)) hH hq.2.2.1 (by rw [hsz]; exact hq.2.2.2) e2 zz1 o1 e2 |> fun h => by rw [hsz] at h; exact h) hL
    rw [← z1] at hk
    exact xtight hk
  · cases hv
/-- THE CONTRACT: from the map σ with these arguments y returns r and leaves the map σ' -/
def Ct (l : Launch) (D : Dx) (H0 : Heap) (ev : Ev) (y : MethodName) (ws : List Cond) (fr lo : Nat) (av : List Value) (σ : Mm) (r : Option Value) (σ' : Mm) : Prop :=
  Met l y ws { frames := fr, cells := ev.2.1 - σ.2.1, slots := ev.2.2.1 - σ.2.2, locals := lo } (va_Pc av (fun U => Hs D H0 ev σ U.heap ∧ Kx D H0 ev U)) (fun _ _ oc t => oc = .returned r ∧ Hs D H0 ev σ' t.heap) (ev.2.1 - σ.2.1) (ev.2.2.1 - σ.2.2) (fun q => ev.1 ≤ q)
theorem Ct_blind {D : Dx} {H0 : Heap} {ev : Ev} {σ : Mm} {av : List Value} : FrameBlind (va_Pc av (fun U => Hs D H0 ev σ U.heap ∧ Kx D H0 ev U)) := fun a U g mk q => ⟨q.1, q.2.1, Kx.same (u := U) (U := U.calling g mk a) rfl q.2.2⟩
theorem m_goes {r : Option Value} {mc ms : Nat} {st0 : List Value} (hr : va_Run p l e R s m args below meth c H locs cells slots mc ms (F0 m pc ls st0) rest (fun _ oc t => oc = .returned r ∧ Hs D H0 ev σ' t.heap) (fun q => ev.1 ≤ q)) (hL : ∀ q ∈ locs, ev.1 ≤ q.base)
    (kk : ∀ (H1 : Heap) (locs1 : List Loc), Hs D H0 ev σ' H1 → (∀ q ∈ locs1, ev.1 ≤ q.base) → W p l e R s m args below meth c H1 locs1 (H1.size - s.heap.size) (xtot H1 - xtot s.heap) Q (F0 m (pc + 3) ls (r.toList ++ rest))) : W p l e R s m args below meth c H locs cells slots Q (F0 m pc ls st0) := by
  intro T hT X
  obtain ⟨v, st₀, t, T', L, h0, X', hL', e1, e2, ⟨hv, hs⟩, st⟩ := hr T hT X
  cases hv
  obtain ⟨t2, a1, b1⟩ := xtight (kk T'.heap (locs ++ L) (by rw [e1]; exact hs) (fun q hq => by
    rcases List.mem_append.mp hq with h | h
    · exact hL q h
    · exact hL' q h)) T' rfl X'
  exact ⟨t2, st t2 a1, b1⟩
/-- a method called through an object of class number ci -/
def CV (own : String) (index ci : Nat) (y : MethodName) (bytes : ByteArray) (maxL : Nat) (ret : Option FieldType) (n : Nat) : Prop := ∃ q : vw_C, xCl[ci]? = some q ∧ GoodIn lw_all (wsV own index q.1 y (ws_ y bytes maxL ret)) ∧ (y.cls = q.1 ∧ y.cls ≠ "java/lang/invoke/MethodHandle" ∧ y.cls ≠ "java/lang/invoke/VarHandle" ∧ (parseMethodDescriptor y.desc).map (fun d => d.parameters.length) = some n)
/-- a static method -/
def CS (own : String) (index : Nat) (y : MethodName) (bytes : ByteArray) (maxL : Nat) (ret : Option FieldType) (n : Nat) : Prop := GoodIn lw_all (va_wsS own index y (ws_ y bytes maxL ret)) ∧ (y.cls ≠ "java/lang/invoke/MethodHandle" ∧ y.cls ≠ "java/lang/invoke/VarHandle" ∧ (parseMethodDescriptor y.desc).map (fun d => d.parameters.length) = some n)
/-- a constructor -/
def CI (own : String) (index : Nat) (y : MethodName) (bytes : ByteArray) (maxL : Nat) (n : Nat) : Prop := Cond.code y bytes maxL none ∈ lw_all ∧ Cond.initialized y.cls ∈ lw_all ∧ Cond.methodLink own index y ∈ lw_all ∧ Cond.instanceMethod y ∈ lw_all ∧ y.name = "<init>" ∧ (y.cls ≠ "java/lang/invoke/MethodHandle" ∧ y.cls ≠ "java/lang/invoke/VarHandle" ∧ (parseMethodDescriptor y.desc).map (fun d => d.parameters.length) = some n)
variable {y : MethodName} {bytes : ByteArray} {maxL n index ci fr' lo' b : Nat} {ret : Option FieldType} {As : List Value} {r : Option Value} {st0 : List Value}
theorem m_callV (C : Cx p m meth c cc nL s args own R ev D H0 fr lo) (hH : Hs D H0 ev σ H) (hL : ∀ q ∈ locs, ev.1 ≤ q.base) (V : CV own index ci y bytes maxL ret n) (hM : Ct l D H0 ev y (ws_ y bytes maxL ret) fr' lo' (.ref b :: As) σ r σ') (hc : isC σ b ci = some ()) (hfl : fr' + 1 ≤ fr ∧ 8 + (maxL + 11) + lo' ≤ lo) (hn : As.length = n) (hl : ls.size = nL) (hst : st0 = As.reverse ++ .ref b :: rest) (hW : (rest.map fun v => v.category).sum ≤ 8) (hdg : decode cc pc = .ok (.invokevirtual index, 3))
    (kk : ∀ (H1 : Heap) (locs1 : List Loc), Hs D H0 ev σ' H1 → (∀ q ∈ locs1, ev.1 ≤ q.base) → W p l e R s m args below meth c H1 locs1 (H1.size - s.heap.size) (xtot H1 - xtot s.heap) Q (F0 m (pc + 3) ls (r.toList ++ rest))) : W p l e R s m args below meth c H locs cells slots Q (F0 m pc ls st0) := by
  obtain ⟨q, hq, hG, hd⟩ := V
  obtain ⟨S, hK, hR1, hR2, hR3, hR4, hlk⟩ := C
  obtain ⟨fs, hfs⟩ := isC_at hc
  have z1 := hH.1
  have z2 := hH.2.1
  have z4 := hH.2.2.2.1
  have z5 := hH.2.2.2.2.1
  obtain ⟨cell, q1, q2, q3, q4, -⟩ := Hs_obj hH hK hq hfs
  refine xknow fun k1 k2 => ?_
  refine m_goes (va_runV (As := As) (rest := rest) S hM (cwV n S.2.2.2.2 hG rfl rfl rfl hd ⟨by rw [hR3]; exact hfl.1, by rw [hR4]; exact hfl.2⟩) ⟨Ct_blind, ⟨cell, q1, q2, q4⟩, fun U hU hW => ⟨rfl, by rw [hU]; exact hH, hK.warm hW⟩⟩ rfl hn hl hst (lv_room hW) hdg ⟨by rw [hR1]; omega, by rw [hR2]; omega⟩) hL kk
theorem m_callS (C : Cx p m meth c cc nL s args own R ev D H0 fr lo) (hH : Hs D H0 ev σ H) (hL : ∀ q ∈ locs, ev.1 ≤ q.base) (V : CS own index y bytes maxL ret n) (hM : Ct l D H0 ev y (ws_ y bytes maxL ret) fr' lo' As σ r σ') (hfl : fr' + 1 ≤ fr ∧ 8 + (maxL + 11) + lo' ≤ lo) (hn : As.length = n) (hl : ls.size = nL) (hst : st0 = As.reverse ++ rest) (hW : (rest.map fun v => v.category).sum ≤ 8) (hdg : decode cc pc = .ok (.invokestatic index, 3))
    (kk : ∀ (H1 : Heap) (locs1 : List Loc), Hs D H0 ev σ' H1 → (∀ q ∈ locs1, ev.1 ≤ q.base) → W p l e R s m args below meth c H1 locs1 (H1.size - s.heap.size) (xtot H1 - xtot s.heap) Q (F0 m (pc + 3) ls (r.toList ++ rest))) : W p l e R s m args below meth c H locs cells slots Q (F0 m pc ls st0) := by
  obtain ⟨hG, hd⟩ := V
  obtain ⟨S, hK, hR1, hR2, hR3, hR4, hlk⟩ := C
  have z1 := hH.1
  have z2 := hH.2.1
  have z4 := hH.2.2.2.1
  have z5 := hH.2.2.2.2.1
  refine xknow fun k1 k2 => ?_
  refine m_goes (va_runS (As := As) (rest := rest) S hM (va_cwS n S.2.2.2.2 hG rfl rfl rfl hd ⟨by rw [hR3]; exact hfl.1, by rw [hR4]; exact hfl.2⟩) ⟨Ct_blind, fun U hU hW => ⟨rfl, by rw [hU]; exact hH, hK.warm hW⟩⟩ rfl hn hl hst (lv_room hW) hdg ⟨by rw [hR1]; omega, by rw [hR2]; omega⟩) hL kk
theorem m_callI (C : Cx p m meth c cc nL s args own R ev D H0 fr lo) (hH : Hs D H0 ev σ H) (hL : ∀ q ∈ locs, ev.1 ≤ q.base) (V : CI own index y bytes maxL n) (hM : Ct l D H0 ev y (ws_ y bytes maxL none) fr' lo' (.ref b :: As) σ r σ') (hfl : fr' + 1 ≤ fr ∧ 8 + (maxL + 11) + lo' ≤ lo) (hn : As.length = n) (hl : ls.size = nL) (hst : st0 = As.reverse ++ .ref b :: rest) (hW : (rest.map fun v => v.category).sum ≤ 8) (hdg : decode cc pc = .ok (.invokespecial index, 3))
    (kk : ∀ (H1 : Heap) (locs1 : List Loc), Hs D H0 ev σ' H1 → (∀ q ∈ locs1, ev.1 ≤ q.base) → W p l e R s m args below meth c H1 locs1 (H1.size - s.heap.size) (xtot H1 - xtot s.heap) Q (F0 m (pc + 3) ls (r.toList ++ rest))) : W p l e R s m args below meth c H locs cells slots Q (F0 m pc ls st0) := by
  obtain ⟨h1, h2, h3, h4, h5, hd⟩ := V
  obtain ⟨S, hK, hR1, hR2, hR3, hR4, hlk⟩ := C
  have z1 := hH.1
  have z2 := hH.2.1
  have z4 := hH.2.2.2.1
  have z5 := hH.2.2.2.2.1
  refine xknow fun k1 k2 => ?_
  have hts := S.2.2.2.2
  refine m_goes (va_runI (As := As) (rest := rest) S hM (cwI n hts (lw_meth h1) rfl rfl rfl (hts _ h2) (hts _ h3) (hts _ h4) h5 hd ⟨by rw [hR3]; exact hfl.1, by rw [hR4]; exact hfl.2⟩) ⟨Ct_blind, fun U hU hW => ⟨rfl, by rw [hU]; exact hH, hK.warm hW⟩⟩ rfl hn hl hst (lv_room hW) hdg ⟨by rw [hR1]; omega, by rw [hR2]; omega⟩) hL kk
/-- a method's end -/
def MQx (D : Dx) (H0 : Heap) (ev : Ev) (below : List Frame) (args : Array Value) (s : State) (r : Option Value) (σ' : Mm) : State → Prop := MQ below (fun _ _ oc t => oc = .returned r ∧ Hs D H0 ev σ' t.heap) args s (ev.2.1 - s.heap.size) (ev.2.2.1 - xtot s.heap) (fun q => ev.1 ≤ q)
theorem m_wide (hH : Hs D H0 ev σ H) {g : JFrame} (kk : W p l e R s m args below meth c H locs (ev.2.1 - s.heap.size) (ev.2.2.1 - xtot s.heap) Q g) : W p l e R s m args below meth c H locs cells slots Q g := by
  have z1 := hH.1
  have z2 := hH.2.1
  have z4 := hH.2.2.2.1
  have z5 := hH.2.2.2.2.1
  exact xtight (W.widen (by omega) (by omega) kk)
theorem m_iret (C : Cx p m meth c cc nL s args own R ev D H0 fr lo) (hH : Hs D H0 ev σ H) (hL : ∀ q ∈ locs, ev.1 ≤ q.base) (hr : meth.sig.returnType = some .int) {v : Int32} (hdg : decode cc pc = .ok (.ireturn, 1)) : W p l e R s m args below meth c H locs cells slots (MQx D H0 ev below args s (some (.int v)) σ) (F0 m pc ls [.int v]) :=
  m_wide hH (W.iret C.x C.b hr (fun t ht _ => ⟨rfl, by rw [ht]; exact hH⟩) hL hdg (hlocks := C.2.2.2.2.2.2))
theorem m_zret (C : Cx p m meth c cc nL s args own R ev D H0 fr lo) (hH : Hs D H0 ev σ H) (hL : ∀ q ∈ locs, ev.1 ≤ q.base) (hr : meth.sig.returnType = some .boolean) {v : Int32} (hv : v = 0 ∨ v = 1) (hdg : decode cc pc = .ok (.ireturn, 1)) : W p l e R s m args below meth c H locs cells slots (MQx D H0 ev below args s (some (.int v)) σ) (F0 m pc ls [.int v]) :=
  m_wide hH (W.zret C.x C.b hr (by rcases hv with rfl | rfl <;> rfl) (fun t ht _ => ⟨rfl, by rw [ht]; exact hH⟩) hL hdg (hlocks := C.2.2.2.2.2.2))
theorem m_lret (C : Cx p m meth c cc nL s args own R ev D H0 fr lo) (hH : Hs D H0 ev σ H) (hL : ∀ q ∈ locs, ev.1 ≤ q.base) (hr : meth.sig.returnType = some .long) {v : Int64} (hdg : decode cc pc = .ok (.lreturn, 1)) : W p l e R s m args below meth c H locs cells slots (MQx D H0 ev below args s (some (.long v)) σ) (F0 m pc ls [.long v]) :=
  m_wide hH (W.lret C.x C.b hr (fun t ht _ => ⟨rfl, by rw [ht]; exact hH⟩) hL hdg (hlocks := C.2.2.2.2.2.2))
theorem m_vret (C : Cx p m meth c cc nL s args own R ev D H0 fr lo) (hH : Hs D H0 ev σ H) (hL : ∀ q ∈ locs, ev.1 ≤ q.base) (hr : meth.sig.returnType = none) (hdg : decode cc pc = .ok (.return_, 1)) : W p l e R s m args below meth c H locs cells slots (MQx D H0 ev below args s none σ) (F0 m pc ls []) :=
  m_wide hH (W.vret C.x C.b hr (fun t ht _ => ⟨rfl, by rw [ht]; exact hH⟩) hL hdg (hlocks := C.2.2.2.2.2.2))
theorem m_aret (C : Cx p m meth c cc nL s args own R ev D H0 fr lo) (hH : Hs D H0 ev σ H) (hL : ∀ q ∈ locs, ev.1 ≤ q.base) {rt : FieldType} (hr : meth.sig.returnType = some rt) (hrt : (∃ n, rt = .object n) ∨ ∃ t, rt = .array t) {v : Option Nat} (hdg : decode cc pc = .ok (.areturn, 1)) : W p l e R s m args below meth c H locs cells slots (MQx D H0 ev below args s (some (va_rf v)) σ) (F0 m pc ls [va_rf v]) :=
  m_wide hH (W.aret C.x C.b hr hrt (by cases v <;> simp [va_rf]) (fun t ht _ => ⟨rfl, by rw [ht]; exact hH⟩) hL hdg (hlocks := C.2.2.2.2.2.2))
/-- a contract out of its walk -/
theorem Ct_of {l : Launch} {av : List Value} (hy : plainName y.cls = true)
    (body : ∀ p e R s m below meth c, Cx p m meth c bytes maxL s av.toArray y.cls R ev D H0 fr lo → meth.sig.returnType = ret → meth.name = y.name → Hs D H0 ev σ s.heap → W p l e R s m av.toArray below meth c s.heap [] (s.heap.size - s.heap.size) (xtot s.heap - xtot s.heap) (MQx D H0 ev below av.toArray s r σ') (entryFrame m av.toArray maxL)) : Ct l D H0 ev y (ws_ y bytes maxL ret) fr lo av σ r σ' := by
  refine Met.ofW (cc := bytes) (maxL := maxL) (ret := ret) hy rfl ?_
  intro p e s m args below meth c s₁ B hml hv
  obtain ⟨rfl, hH, hK⟩ := hv
  have hts := atoms_spec (ws := ws_ y bytes maxL ret) B.pre
  have hts : ∀ w ∈ lw_all, w.before _ s = true := fun w h => hts w (List.mem_cons_of_mem _ h)
  have z1 := hH.1
  have z2 := hH.2.1
  have k := body p e (headSpec (ws_ y bytes maxL ret) { frames := fr, cells := ev.2.1 - σ.2.1, slots := ev.2.2.1 - σ.2.2, locals := lo }).room s m below meth c ⟨⟨B.exec, B.bytes, hml, findClass_of_methodNamed B.named, hts⟩, hK, by show ev.2.1 - σ.2.1 = _; rw [z1], by show ev.2.2.1 - σ.2.2 = _; rw [z2], rfl, rfl, B.notSynchronized⟩ B.returns (name_of_methodNamed B.named B.method).1 hH
  unfold MQx at k
  rw [z1, z2] at k
  have k := xtight (cells := 0) (slots := 0) (by rw [z1, z2]; exact k)
  exact k
end XN
