/-! rows: private methods of a superclass -/
theorem xsel_priv {y x z : MethodName} {C : String} {s : State} {args : Array Value} (hy : y.cls ≠ "java/lang/invoke/MethodHandle" ∧ y.cls ≠ "java/lang/invoke/VarHandle") (hsel : (Cond.selects C x z).before args s = true) (hz : z.cls = y.cls) (hpriv : (Cond.privateMethod y).before args s = true) (hinst : (Cond.instanceMethod y).before args s = true) : (Cond.selects C y y).before args s = true := by
  obtain ⟨c, r, mz, hc, -, hnz, -, k, hk, hni⟩ := Cond.selects_spec hsel
  obtain ⟨mk, methM, hnamed, hmethM, -, -⟩ := Cond.instanceMethod_spec hinst
  have hfound : s.methodFound? y.cls y.name y.desc = some mk := State.methodFound?_of_named hnamed hy
  have hcls : mk.cls = mz.cls := by
    have e1 := findClass_of_methodNamed hnamed
    have e2 := findClass_of_methodNamed hnz
    rw [hz] at e2
    exact Option.some.inj (e1.symm.trans e2)
  have hs : selectMethod {} s.vm c mk = .method mk := selectMethod_private hmethM (Cond.privateMethod_at hpriv mk methM hnamed hmethM)
  simp only [Cond.before, Cond.holds, Cond.value, hc, hfound, hnamed, hs, hcls, hk]
  simp; exact hni
def CPv (own : String) (index ci : Nat) (y : MethodName) (bytes : ByteArray) (maxL : Nat) (ret : Option FieldType) (n : Nat) : Prop := ∃ (q : vw_C) (x z : MethodName), xCl[ci]? = some q ∧ GoodIn lw_all (ws_ y bytes maxL ret) ∧ Cond.methodLink own index y ∈ lw_all ∧ Cond.instanceMethod y ∈ lw_all ∧ Cond.initialized y.cls ∈ lw_all ∧ Cond.selects q.1 x z ∈ lw_all ∧ z.cls = y.cls ∧ y ∈ xPv ∧ (y.cls ≠ "java/lang/invoke/MethodHandle" ∧ y.cls ≠ "java/lang/invoke/VarHandle" ∧ (parseMethodDescriptor y.desc).map (fun d => d.parameters.length) = some n)
section XPv
variable {p : Program} {l : Launch} {e : Env} {R : Room} {s : State} {m : MethodId} {args : Array Value} {below : List Frame} {meth : Method} {c : Code} {H : Heap} {locs : List Loc} {cells slots : Nat} {Q : State → Prop}
variable {cc : ByteArray} {nL pc : Nat} {ls : Array Slot} {rest : List Value} {D : Dx} {H0 : Heap} {ev : Ev} {σ σ' : Mm} {own : String} {fr lo : Nat}
variable {y : MethodName} {bytes : ByteArray} {maxL n index ci fr' lo' b : Nat} {ret : Option FieldType} {As : List Value} {r : Option Value} {st0 : List Value}
theorem m_callT (C : Cx p m meth c cc nL s args own R ev D H0 fr lo) (hH : Hs D H0 ev σ H) (hL : ∀ q ∈ locs, ev.1 ≤ q.base) (V : CPv own index ci y bytes maxL ret n) (hM : Ct l D H0 ev y (ws_ y bytes maxL ret) fr' lo' (.ref b :: As) σ r σ') (hc : isC σ b ci = some ()) (hfl : fr' + 1 ≤ fr ∧ 8 + (maxL + 11) + lo' ≤ lo) (hn : As.length = n) (hl : ls.size = nL) (hst : st0 = As.reverse ++ .ref b :: rest) (hW : (rest.map fun v => v.category).sum ≤ 8) (hdg : decode cc pc = .ok (.invokevirtual index, 3))
    (kk : ∀ (H1 : Heap) (locs1 : List Loc), Hs D H0 ev σ' H1 → (∀ q ∈ locs1, ev.1 ≤ q.base) → W p l e R s m args below meth c H1 locs1 (H1.size - s.heap.size) (xtot H1 - xtot s.heap) Q (F0 m (pc + 3) ls (r.toList ++ rest))) : W p l e R s m args below meth c H locs cells slots Q (F0 m pc ls st0) := by
  obtain ⟨q, x, z, hq, hG, hli, hin, hini, hse, hz, hpv, hd⟩ := V
  obtain ⟨S, hK, hR1, hR2, hR3, hR4, hlk⟩ := C
  obtain ⟨fs, hfs⟩ := isC_at hc
  have z1 := hH.1
  have z2 := hH.2.1
  have z4 := hH.2.2.2.1
  have z5 := hH.2.2.2.2.1
  obtain ⟨cell, q1, q2, q3, q4, -⟩ := Hs_obj hH hK hq hfs
  have hts := S.2.2.2.2
  have hpr : (Cond.privateMethod y).before args s = true := va_any rfl (hK.2.2.2.2.1.2.2.2.1 y hpv)
  refine xknow fun k1 k2 => ?_
  exact m_goes (va_runV (As := As) (rest := rest) (C := q.1) S hM ⟨callB_of n hts hG rfl rfl rfl (hts _ hini) (hts _ hli) hd ⟨by rw [hR3]; exact hfl.1, by rw [hR4]; exact hfl.2⟩, hts _ hin, xsel_priv ⟨hd.1, hd.2.1⟩ (hts _ hse) hz hpr (hts _ hin)⟩ ⟨Ct_blind, ⟨cell, q1, q2, q4⟩, fun U hU hW => ⟨rfl, by rw [hU]; exact hH, hK.warm hW⟩⟩ rfl hn hl hst (lv_room hW) hdg ⟨by rw [hR1]; omega, by rw [hR2]; omega⟩) hL kk
theorem m_callTI {v : Int32} (C : Cx p m meth c cc nL s args own R ev D H0 fr lo) (hH : Hs D H0 ev σ H) (hL : ∀ q ∈ locs, ev.1 ≤ q.base) (V : CPv own index ci y bytes maxL ret n) (hM : Ct l D H0 ev y (ws_ y bytes maxL ret) fr' lo' (.ref b :: As) σ (some (.int v)) σ') (hc : isC σ b ci = some ()) (hfl : fr' + 1 ≤ fr ∧ 8 + (maxL + 11) + lo' ≤ lo) (hn : As.length = n) (hl : ls.size = nL) (hst : st0 = As.reverse ++ .ref b :: rest) (hW : (rest.map fun v => v.category).sum ≤ 8) (hdg : decode cc pc = .ok (.invokevirtual index, 3))
    (kk : ∀ (H1 : Heap) (locs1 : List Loc), Hs D H0 ev σ' H1 → (∀ q ∈ locs1, ev.1 ≤ q.base) → W p l e R s m args below meth c H1 locs1 (H1.size - s.heap.size) (xtot H1 - xtot s.heap) Q (F0 m (pc + 3) ls (.int v :: rest))) : W p l e R s m args below meth c H locs cells slots Q (F0 m pc ls st0) := m_callT C hH hL V hM hc hfl hn hl hst hW hdg kk
theorem m_callTA {v : Option Nat} (C : Cx p m meth c cc nL s args own R ev D H0 fr lo) (hH : Hs D H0 ev σ H) (hL : ∀ q ∈ locs, ev.1 ≤ q.base) (V : CPv own index ci y bytes maxL ret n) (hM : Ct l D H0 ev y (ws_ y bytes maxL ret) fr' lo' (.ref b :: As) σ (some (va_rf v)) σ') (hc : isC σ b ci = some ()) (hfl : fr' + 1 ≤ fr ∧ 8 + (maxL + 11) + lo' ≤ lo) (hn : As.length = n) (hl : ls.size = nL) (hst : st0 = As.reverse ++ .ref b :: rest) (hW : (rest.map fun v => v.category).sum ≤ 8) (hdg : decode cc pc = .ok (.invokevirtual index, 3))
    (kk : ∀ (H1 : Heap) (locs1 : List Loc), Hs D H0 ev σ' H1 → (∀ q ∈ locs1, ev.1 ≤ q.base) → W p l e R s m args below meth c H1 locs1 (H1.size - s.heap.size) (xtot H1 - xtot s.heap) Q (F0 m (pc + 3) ls (va_rf v :: rest))) : W p l e R s m args below meth c H locs cells slots Q (F0 m pc ls st0) := m_callT C hH hL V hM hc hfl hn hl hst hW hdg kk
theorem m_callTN (C : Cx p m meth c cc nL s args own R ev D H0 fr lo) (hH : Hs D H0 ev σ H) (hL : ∀ q ∈ locs, ev.1 ≤ q.base) (V : CPv own index ci y bytes maxL ret n) (hM : Ct l D H0 ev y (ws_ y bytes maxL ret) fr' lo' (.ref b :: As) σ none σ') (hc : isC σ b ci = some ()) (hfl : fr' + 1 ≤ fr ∧ 8 + (maxL + 11) + lo' ≤ lo) (hn : As.length = n) (hl : ls.size = nL) (hst : st0 = As.reverse ++ .ref b :: rest) (hW : (rest.map fun v => v.category).sum ≤ 8) (hdg : decode cc pc = .ok (.invokevirtual index, 3))
    (kk : ∀ (H1 : Heap) (locs1 : List Loc), Hs D H0 ev σ' H1 → (∀ q ∈ locs1, ev.1 ≤ q.base) → W p l e R s m args below meth c H1 locs1 (H1.size - s.heap.size) (xtot H1 - xtot s.heap) Q (F0 m (pc + 3) ls rest)) : W p l e R s m args below meth c H locs cells slots Q (F0 m pc ls st0) := m_callT C hH hL V hM hc hfl hn hl hst hW hdg kk
end XPv
