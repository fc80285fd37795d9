/-! a call with much on the stack (up to 24 words) -/
section XW24
variable {p : Program} {l : Launch} {e : Env} {R : Room} {s : State} {m : MethodId} {args : Array Value} {below : List Frame} {meth : Method} {c : Code} {H : Heap} {locs : List Loc} {cells slots : Nat} {Q : State → Prop}
variable {cc : ByteArray} {nL pc : Nat} {ls : Array Slot} {rest : List Value} {D : Dx} {H0 : Heap} {ev : Ev} {σ σ' : Mm} {own : String} {fr lo : Nat}
variable {y : MethodName} {bytes : ByteArray} {maxL n index ci fr' lo' b : Nat} {ret : Option FieldType} {As : List Value} {r : Option Value} {st0 : List Value}
theorem m_callVw (C : Cx p m meth c cc nL s args own R ev D H0 fr lo) (hH : Hs D H0 ev σ H) (hL : ∀ q ∈ locs, ev.1 ≤ q.base) (V : CV own index ci y bytes maxL ret n) (hM : Ct l D H0 ev y (ws_ y bytes maxL ret) fr' lo' (.ref b :: As) σ r σ') (hc : isC σ b ci = some ()) (hfl : fr' + 1 ≤ fr ∧ 24 + (maxL + 11) + lo' ≤ lo) (hn : As.length = n) (hl : ls.size = nL) (hst : st0 = As.reverse ++ .ref b :: rest) (hW : (rest.map fun v => v.category).sum ≤ 24) (hdg : decode cc pc = .ok (.invokevirtual index, 3))
    (kk : ∀ (H1 : Heap) (locs1 : List Loc), Hs D H0 ev σ' H1 → (∀ q ∈ locs1, ev.1 ≤ q.base) → W p l e R s m args below meth c H1 locs1 (H1.size - s.heap.size) (xtot H1 - xtot s.heap) Q (F0 m (pc + 3) ls (r.toList ++ rest))) : W p l e R s m args below meth c H locs cells slots Q (F0 m pc ls st0) := by
  obtain ⟨q, hq, hG, hd⟩ := V
  obtain ⟨S, hK, hR1, hR2, hR3, hR4, hlk⟩ := C
  obtain ⟨fs, hfs⟩ := isC_at hc
  have z1 := hH.1
  have z2 := hH.2.1
  have z4 := hH.2.2.2.1
  have z5 := hH.2.2.2.2.1
  obtain ⟨cell, q1, q2, q3, q4, -⟩ := Hs_obj hH hK hq hfs
  refine xknow fun k1 k2 => ?_
  have cw : CallW { R with locals := 8 + (maxL + 11) + lo' } s args own q.1 index y bytes maxL ret (ws_ y bytes maxL ret) { frames := fr', cells := ev.2.1 - σ.2.1, slots := ev.2.2.1 - σ.2.2, locals := lo' } (ev.2.1 - σ.2.1) (ev.2.2.1 - σ.2.2) n := cwV n S.2.2.2.2 hG rfl rfl rfl hd ⟨by show fr' + 1 ≤ R.frames; rw [hR3]; exact hfl.1, Nat.le_refl _⟩
  have hBk : Back l R p e below s args y 3 24 (PreOf R (ev.2.1 - σ.2.1) (ev.2.2.1 - σ.2.2) (va_Pc (.ref b :: As) (fun U => Hs D H0 ev σ U.heap ∧ Kx D H0 ev U))) (PostOf (fun _ _ oc t => oc = .returned r ∧ Hs D H0 ev σ' t.heap) (ev.2.1 - σ.2.1) (ev.2.2.1 - σ.2.2) (fun q => ev.1 ≤ q)) :=
    back_of (bytes := bytes) (maxL := maxL) (ret := ret) hM Ct_blind rfl rfl (by show fr' + 1 ≤ R.frames; rw [hR3]; exact hfl.1) (by show 24 + (maxL + 11) + lo' ≤ R.locals; rw [hR4]; exact hfl.2) cw.1.2.2.2.2.1 cw.1.2.2.2.2.2.1 (fun a' U hW => word_at hW (Or.inl (by first | rfl | simp [Cond.onTables, Cond.keeps, Cond.steady])) cw.1.2.2.2.2.2.2.2.1)
  obtain ⟨⟨-, -, -, -, -, -, hcode, -, hy, hlen, hlk'⟩, hin, hse⟩ := cw
  obtain ⟨hx, hb, hml, ho, -⟩ := S
  refine m_goes (r := r) (mc := ev.2.1 - σ.2.1) (ms := ev.2.2.1 - σ.2.2) (rest := rest) ?_ hL kk
  intro T hT X
  obtain ⟨v, vm₁, ⟨U', l2, c2, s2⟩, hW₁, X', ⟨g', mk, t, L, e1, e2, hq2, h1, hL2, h2, h3⟩, st⟩ := callV X hx (C := q.1) (bytes := bytes) (maxL := maxL) (ret := ret) ho hlk' hin hse hcode hy hBk (by rw [hT]; exact q1) q2 q4 (g := F0 m pc ls st0) rfl (hl.trans hml.symm) (argsL := As) (rest := rest) (fun sig h => hn.trans (hlen sig h)) hst (by show 2 * 0 + _ ≤ 24; omega) (by rw [hb]; exact hdg)
    (fun vm₁ hW₁ => ⟨by show H.size - s.heap.size + _ ≤ R.cells; rw [hR1]; omega, by show xtot H - xtot s.heap + _ ≤ R.slots; rw [hR2]; omega, ⟨rfl, by show Hs D H0 ev σ T.heap; rw [hT]; exact hH, hK.warm hW₁⟩⟩)
  dsimp only [Pt.U, Pt.locs, Pt.cells, Pt.slots] at X' e1 e2 h1 h2 h3 st
  subst h1; subst h2; subst h3
  exact ⟨v, (T.setVm vm₁).calling g' mk (Value.ref b :: As).toArray, t, U', L, hT, X', hL2, e1, e2, hq2, st⟩
theorem m_callVJw {v : Int64} (C : Cx p m meth c cc nL s args own R ev D H0 fr lo) (hH : Hs D H0 ev σ H) (hL : ∀ q ∈ locs, ev.1 ≤ q.base) (V : CV own index ci y bytes maxL ret n) (hM : Ct l D H0 ev y (ws_ y bytes maxL ret) fr' lo' (.ref b :: As) σ (some (.long v)) σ') (hc : isC σ b ci = some ()) (hfl : fr' + 1 ≤ fr ∧ 24 + (maxL + 11) + lo' ≤ lo) (hn : As.length = n) (hl : ls.size = nL) (hst : st0 = As.reverse ++ .ref b :: rest) (hW : (rest.map fun v => v.category).sum ≤ 24) (hdg : decode cc pc = .ok (.invokevirtual index, 3))
    (kk : ∀ (H1 : Heap) (locs1 : List Loc), Hs D H0 ev σ' H1 → (∀ q ∈ locs1, ev.1 ≤ q.base) → W p l e R s m args below meth c H1 locs1 (H1.size - s.heap.size) (xtot H1 - xtot s.heap) Q (F0 m (pc + 3) ls (.long v :: rest))) : W p l e R s m args below meth c H locs cells slots Q (F0 m pc ls st0) := m_callVw C hH hL V hM hc hfl hn hl hst hW hdg kk
end XW24
