/-! rows: calls of the methods with handlers (contract CtP) -/
def CVW (own : String) (index ci : Nat) (y : MethodName) (bytes : ByteArray) (maxL : Nat) (ret : Option FieldType) (hh : List (Nat × Nat × Nat × Nat)) (n : Nat) : Prop := ∃ q : vw_C, xCl[ci]? = some q ∧ GoodIn lw_all (wsV own index q.1 y (wsW_ y bytes maxL ret hh)) ∧ (y.cls = q.1 ∧ y.cls ≠ "java/lang/invoke/MethodHandle" ∧ y.cls ≠ "java/lang/invoke/VarHandle" ∧ (parseMethodDescriptor y.desc).map (fun d => d.parameters.length) = some n)
section XP
variable {p : Program} {l : Launch} {e : Env} {R : Room} {s : State} {m : MethodId} {args : Array Value} {below : List Frame} {meth : Method} {c : Code} {H : Heap} {locs : List Loc} {cells slots : Nat} {Q : State → Prop}
variable {cc : ByteArray} {nL pc : Nat} {ls : Array Slot} {rest : List Value} {D : Dx} {H0 : Heap} {ev : Ev} {σ : Mm} {own : String} {fr lo : Nat}
variable {y : MethodName} {bytes : ByteArray} {maxL n index ci fr' lo' b : Nat} {ret : Option FieldType} {As : List Value} {st0 : List Value} {P : Option Value → Mm → Prop} {hh : List (Nat × Nat × Nat × Nat)}
theorem m_goesP {mc ms : Nat} (hr : va_Run p l e R s m args below meth c H locs cells slots mc ms (F0 m pc ls st0) rest (fun _ oc t => ∃ (r : Option Value) (σ' : Mm), oc = .returned r ∧ P r σ' ∧ Hs D H0 ev σ' t.heap) (fun q => ev.1 ≤ q)) (hL : ∀ q ∈ locs, ev.1 ≤ q.base)
    (kk : ∀ (r : Option Value) (σ' : Mm), P r σ' → ∀ (H1 : Heap) (locs1 : List Loc), Hs D H0 ev σ' H1 → (∀ q ∈ locs1, ev.1 ≤ q.base) → W p l e R s m args below meth c H1 locs1 (H1.size - s.heap.size) (xtot H1 - xtot s.heap) Q (F0 m (pc + 3) ls (r.toList ++ rest))) : W p l e R s m args below meth c H locs cells slots Q (F0 m pc ls st0) := by
  intro T hT X
  obtain ⟨v, st₀, t, T', L, h0, X', hL', e1, e2, ⟨r, σ', hv, hp, hs⟩, st⟩ := hr T hT X
  cases hv
  obtain ⟨t2, a1, b1⟩ := xtight (kk _ σ' hp T'.heap (locs ++ L) (by rw [e1]; exact hs) (fun q hq => by
    rcases List.mem_append.mp hq with h | h
    · exact hL q h
    · exact hL' q h)) T' rfl X'
  exact ⟨t2, st t2 a1, b1⟩
theorem m_callVP (C : Cx p m meth c cc nL s args own R ev D H0 fr lo) (hH : Hs D H0 ev σ H) (hL : ∀ q ∈ locs, ev.1 ≤ q.base) (V : CVW own index ci y bytes maxL ret hh n) (hM : CtP l D H0 ev y (wsW_ y bytes maxL ret hh) fr' lo' (.ref b :: As) σ P) (hc : isC σ b ci = some ()) (hfl : fr' + 1 ≤ fr ∧ 8 + (maxL + 11) + lo' ≤ lo) (hn : As.length = n) (hl : ls.size = nL) (hst : st0 = As.reverse ++ .ref b :: rest) (hW : (rest.map fun v => v.category).sum ≤ 8) (hdg : decode cc pc = .ok (.invokevirtual index, 3))
    (kk : ∀ (r : Option Value) (σ' : Mm), P r σ' → ∀ (H1 : Heap) (locs1 : List Loc), Hs D H0 ev σ' H1 → (∀ q ∈ locs1, ev.1 ≤ q.base) → W p l e R s m args below meth c H1 locs1 (H1.size - s.heap.size) (xtot H1 - xtot s.heap) Q (F0 m (pc + 3) ls (r.toList ++ rest))) : W p l e R s m args below meth c H locs cells slots Q (F0 m pc ls st0) := by
  obtain ⟨q, hq, hG, hd⟩ := V
  obtain ⟨S, hK, hR1, hR2, hR3, hR4, hlk⟩ := C
  obtain ⟨fs, hfs⟩ := isC_at hc
  have z1 := hH.1
  have z2 := hH.2.1
  have z4 := hH.2.2.2.1
  have z5 := hH.2.2.2.2.1
  obtain ⟨cell, q1, q2, q3, q4, -⟩ := Hs_obj hH hK hq hfs
  refine xknow fun k1 k2 => ?_
  exact m_goesP (vx_runVW (As := As) (rest := rest) S hM (vx_cwVW n S.2.2.2.2 hG rfl rfl rfl hd ⟨by rw [hR3]; exact hfl.1, by rw [hR4]; exact hfl.2⟩) ⟨Ct_blind, ⟨cell, q1, q2, q4⟩, fun U hU hW => ⟨rfl, by rw [hU]; exact hH, hK.warm hW⟩⟩ rfl hn hl hst (lv_room hW) hdg ⟨by rw [hR1]; omega, by rw [hR2]; omega⟩) hL kk
end XP
