/-! Math -/
section XM
variable {p : Program} {l : Launch} {e : Env} {R : Room} {s : State} {m : MethodId} {args : Array Value} {below : List Frame} {meth : Method} {c : Code} {H : Heap} {locs : List Loc} {cells slots : Nat} {Q : State → Prop}
variable {cc : ByteArray} {nL pc : Nat} {ls : Array Slot} {rest : List Value} {D : Dx} {H0 : Heap} {ev : Ev} {σ σ' : Mm} {own : String} {fr lo : Nat}
theorem m_absJ (C : Cx p m meth c cc nL s args own R ev D H0 fr lo) (hH : Hs D H0 ev σ H) {index : Nat} (hlink : Cond.methodLink own index Lib.MathLoose.abs_long.x ∈ lw_all) (hstat : Cond.static Lib.MathLoose.abs_long.x ∈ lw_all) (hini : Cond.initialized "java/lang/Math" ∈ lw_all) (hcode : Cond.code Lib.MathLoose.abs_long.x Lib.MathLoose.abs_long.code 2 (some .long) ∈ lw_all)
    (hframes : 1 ≤ fr) (hlocals : (rest.map fun v => v.category).sum + 13 ≤ lo) (hl : ls.size = nL) {x : Int64} (hdg : decode cc pc = .ok (.invokestatic index, 3))
    (kk : W p l e R s m args below meth c H locs (H.size - s.heap.size) (xtot H - xtot s.heap) Q (F0 m (pc + 3) ls (.long (if 0 < x then x else -x) :: rest))) : W p l e R s m args below meth c H locs cells slots Q (F0 m pc ls (.long x :: rest)) := by
  obtain ⟨⟨hx, hb, hml, hown, hts⟩, hK, hR1, hR2, hR3, hR4, hlk⟩ := C
  have z1 := hH.1
  have z2 := hH.2.1
  have z4 := hH.2.2.2.1
  have z5 := hH.2.2.2.2.1
  refine xtight ?_
  exact va_mabs_long hx hb (by rw [hml]; exact hl.symm) hown (hts _ hlink) (hts _ hstat) (hts _ hini) (hts _ hcode) (by rw [hR3]; exact hframes) (by rw [hR4]; exact hlocals) (by rw [hR1]; omega) (by rw [hR2]; omega) hdg kk
theorem m_maxI (C : Cx p m meth c cc nL s args own R ev D H0 fr lo) (hH : Hs D H0 ev σ H) {index : Nat} (hlink : Cond.methodLink own index Lib.Math.max.name ∈ lw_all) (hstat : Cond.static Lib.Math.max.name ∈ lw_all) (hini : Cond.initialized "java/lang/Math" ∈ lw_all) (hcode : Cond.code Lib.Math.max.name Lib.Math.max.code 2 (some .int) ∈ lw_all)
    (hframes : 1 ≤ fr) (hlocals : (rest.map fun v => v.category).sum + 13 ≤ lo) (hl : ls.size = nL) {x y : Int32} (hdg : decode cc pc = .ok (.invokestatic index, 3))
    (kk : W p l e R s m args below meth c H locs (H.size - s.heap.size) (xtot H - xtot s.heap) Q (F0 m (pc + 3) ls (.int (if x < y then y else x) :: rest))) : W p l e R s m args below meth c H locs cells slots Q (F0 m pc ls (.int y :: .int x :: rest)) := by
  obtain ⟨⟨hx, hb, hml, hown, hts⟩, hK, hR1, hR2, hR3, hR4, hlk⟩ := C
  have z1 := hH.1
  have z2 := hH.2.1
  have z4 := hH.2.2.2.1
  have z5 := hH.2.2.2.2.1
  refine xtight ?_
  exact va_mmax hx hb (by rw [hml]; exact hl.symm) hown (hts _ hlink) (hts _ hstat) (hts _ hini) (hts _ hcode) (by rw [hR3]; exact hframes) (by rw [hR4]; exact hlocals) (by rw [hR1]; omega) (by rw [hR2]; omega) hdg kk
theorem m_minI (C : Cx p m meth c cc nL s args own R ev D H0 fr lo) (hH : Hs D H0 ev σ H) {index : Nat} (hlink : Cond.methodLink own index Lib.Math.min.name ∈ lw_all) (hstat : Cond.static Lib.Math.min.name ∈ lw_all) (hini : Cond.initialized "java/lang/Math" ∈ lw_all) (hcode : Cond.code Lib.Math.min.name Lib.Math.min.code 2 (some .int) ∈ lw_all)
    (hframes : 1 ≤ fr) (hlocals : (rest.map fun v => v.category).sum + 13 ≤ lo) (hl : ls.size = nL) {x y : Int32} (hdg : decode cc pc = .ok (.invokestatic index, 3))
    (kk : W p l e R s m args below meth c H locs (H.size - s.heap.size) (xtot H - xtot s.heap) Q (F0 m (pc + 3) ls (.int (if y < x then y else x) :: rest))) : W p l e R s m args below meth c H locs cells slots Q (F0 m pc ls (.int y :: .int x :: rest)) := by
  obtain ⟨⟨hx, hb, hml, hown, hts⟩, hK, hR1, hR2, hR3, hR4, hlk⟩ := C
  have z1 := hH.1
  have z2 := hH.2.1
  have z4 := hH.2.2.2.1
  have z5 := hH.2.2.2.2.1
  refine xtight ?_
  exact va_mmin hx hb (by rw [hml]; exact hl.symm) hown (hts _ hlink) (hts _ hstat) (hts _ hini) (hts _ hcode) (by rw [hR3]; exact hframes) (by rw [hR4]; exact hlocals) (by rw [hR1]; omega) (by rw [hR2]; omega) hdg kk
end XM
