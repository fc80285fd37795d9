/-! casts, arrays of references made, calls through interfaces, of inherited methods, of the superclass -/
/-- a cast: an object of class ci to the class nm (the same, or castable); null passes -/
def ckC (σ : Mm) (r : Option Nat) (nm : String) : Option Unit := match r with
  | none => some ()
  | some a => match σ.1 a with
    | some (.inr o) => match xCl[o.1]? with
      | some q => if q.1 = nm ∨ (q.1, nm) ∈ xCa then some () else none
      | none => none
    | _ => none
section XK
variable {p : Program} {l : Launch} {e : Env} {R : Room} {s : State} {m : MethodId} {args : Array Value} {below : List Frame} {meth : Method} {c : Code} {H : Heap} {locs : List Loc} {cells slots : Nat} {Q : State → Prop}
variable {cc : ByteArray} {nL pc : Nat} {ls : Array Slot} {rest : List Value} {D : Dx} {H0 : Heap} {ev : Ev} {σ σ' : Mm} {own : String} {fr lo : Nat}
theorem m_cast (C : Cx p m meth c cc nL s args own R ev D H0 fr lo) (hH : Hs D H0 ev σ H) {index : Nat} {nm : String} (hl : Cond.classLink own index nm ∈ lw_all) {r : Option Nat} {u : Unit} (hv : ckC σ r nm = some u) (hdg : decode cc pc = .ok (.checkcast index, 3))
    (kk : W p l e R s m args below meth c H locs cells slots Q (F0 m (pc + 3) ls (va_rf r :: rest))) : W p l e R s m args below meth c H locs cells slots Q (F0 m pc ls (va_rf r :: rest)) := by
  obtain ⟨⟨hx, hb, hml, hown, hts⟩, hK, -⟩ := C
  cases r with
  | none => exact lv_castN hx hb hdg kk
  | some a =>
    unfold ckC at hv
    simp only at hv
    split at hv
    · rename_i o ho
      split at hv
      · rename_i q hq
        split at hv
        · rename_i hc
          obtain ⟨cell, q1, q2, q3, q4, -⟩ := Hs_obj hH hK hq ho
          rcases hc with rfl | hc
          · exact va_castS hx hb hown (hts _ hl) (hK.1.1 _ _ hq).2 ⟨cell, q1, q2, q4⟩ hdg kk
          · exact va_castY hx hb hown (hts _ hl) (hK.2.2.2.2.2.1 _ hc) ⟨cell, q1, q2, q4⟩ hdg kk
        · cases hv
      · cases hv
    · cases hv
theorem m_anew {κ : Nat} {E : String} (hκ : xTy κ = .object E) (hκ2 : κ = 4 ∨ κ = 5) {index : Nat} (hl : Cond.classLink own index E ∈ lw_all) (C : Cx p m meth c cc nL s args own R ev D H0 fr lo) (hH : Hs D H0 ev σ H) (hL : ∀ q ∈ locs, ev.1 ≤ q.base) {n : Int32} {a : Nat} (hv : nwA ev σ κ n 4 (.inr (.inr (.inr (.inr fun _ => none)))) = some (a, σ')) (hdg : decode cc pc = .ok (.anewarray index, 3))
    (kk : ∀ (H1 : Heap) (locs1 : List Loc), Hs D H0 ev σ' H1 → (∀ q ∈ locs1, ev.1 ≤ q.base) → W p l e R s m args below meth c H1 locs1 (H1.size - s.heap.size) (xtot H1 - xtot s.heap) Q (F0 m (pc + 3) ls (.ref a :: rest))) : W p l e R s m args below meth c H locs cells slots Q (F0 m pc ls (.int n :: rest)) := by
  obtain ⟨⟨hx, hb, hml, hown, hts⟩, hK, hR1, hR2, -⟩ := C
  unfold nwA at hv
  split at hv
  · rename_i hq
    cases hv
    refine xknow fun k1 k2 => ?_
    have z1 := hH.1
    have z2 := hH.2.1
    have hAO : va_AO E s := by
      rcases hκ2 with rfl | rfl
      · cases hκ; exact hK.2.2.2.2.1.1
      · cases hκ; exact hK.2.2.2.1
    refine W.anew hx hb hown (hts _ hl) (va_AO.use hAO) rfl hdg rfl hq.1 hq.2.1 (by rw [hR1]; omega) (by rw [hR2]; omega) fun cA kA comp g1 g2 g3 g4 => ?_
    have hκ9 : κ < 7 := by omega
    have hRA := (hK.1.2 κ _ (xTys_at (D := D) hκ9)).2
    rw [hκ] at hRA
    obtain ⟨-, -, -, -, -, hRA⟩ := hRA
    obtain rfl : cA = D.2 κ := Option.some.inj (g1.symm.trans hRA)
    have e0 : ({ cls := D.2 κ, slots := Array.replicate n.toNatClampNeg .null, vm := .none } : Cell) = vp_cell (D.2 κ) (n.toNatClampNeg, .inr (.inr (.inr (.inr fun _ => none)))) := by
      rw [vp_cell_q]
      unfold arrV
      congr 1
      apply Array.ext
      · simp
      · intro i h1 h2; simp [va_rf]
    rw [e0]
    have e1 : (H.push (vp_cell (D.2 κ) (n.toNatClampNeg, .inr (.inr (.inr (.inr fun _ => none))))))[H.size]? = some (vp_cell (D.2 κ) (n.toNatClampNeg, .inr (.inr (.inr (.inr fun _ => none))))) := by simp
    have hsz : (vp_cell (D.2 κ) (n.toNatClampNeg, .inr (.inr (.inr (.inr fun _ => none))))).slots.size = n.toNatClampNeg := by rw [vp_cell_q, arrV_size]
    have hk := kk _ locs (Hs_push (cell := vp_cell (D.2 κ) (n.toNatClampNeg, .inr (.inr (.inr (.inr fun _ => none))))) (e1 := .inl (κ, n.toNatClampNeg, .inr (.inr (.inr (.inr fun _ => none))))) hH hq.2.2.1 (by rw [hsz]; exact hq.2.2.2) e1 (by simp) (fun q hq => by rw [Array.getElem?_push, if_neg (Nat.ne_of_lt hq)]) e1 |> fun h => by rw [hsz] at h; exact h) hL
    rw [← z1] at hk
    exact xtight hk
  · cases hv
theorem m_goes5 {r : Option Value} {mc ms : Nat} {st0 : List Value} (hr : va_Run5 p l e R s m args below meth c H locs cells slots mc ms (F0 m pc ls st0) rest (fun _ oc t => oc = .returned r ∧ Hs D H0 ev σ' t.heap) (fun q => ev.1 ≤ q)) (hL : ∀ q ∈ locs, ev.1 ≤ q.base)
    (kk : ∀ (H1 : Heap) (locs1 : List Loc), Hs D H0 ev σ' H1 → (∀ q ∈ locs1, ev.1 ≤ q.base) → W p l e R s m args below meth c H1 locs1 (H1.size - s.heap.size) (xtot H1 - xtot s.heap) Q (F0 m (pc + 5) ls (r.toList ++ rest))) : W p l e R s m args below meth c H locs cells slots Q (F0 m pc ls st0) := by
  intro T hT X
  obtain ⟨v, st₀, t, T', L, h0, X', hL', e1, e2, ⟨hv, hs⟩, st⟩ := hr T hT X
  cases hv
  obtain ⟨t2, a1, b1⟩ := xtight (kk T'.heap (locs ++ L) (by rw [e1]; exact hs) (fun q hq => by
    rcases List.mem_append.mp hq with h | h
    · exact hL q h
    · exact hL' q h)) T' rfl X'
  exact ⟨t2, st t2 a1, b1⟩
/-- a method called through an interface -/
def CF (own : String) (index ci : Nat) (x y : MethodName) (bytes : ByteArray) (maxL : Nat) (ret : Option FieldType) (n : Nat) : Prop := ∃ q : vw_C, xCl[ci]? = some q ∧ GoodIn lw_all (va_wsF own index q.1 x y (ws_ y bytes maxL ret)) ∧ (q.1, x, y) ∈ xFw ∧ (x.cls ≠ "java/lang/invoke/MethodHandle" ∧ x.cls ≠ "java/lang/invoke/VarHandle" ∧ (parseMethodDescriptor x.desc).map (fun d => d.parameters.length) = some n)
/-- an inherited method -/
def CU (own : String) (index ci : Nat) (owner : String) (x y : MethodName) (bytes : ByteArray) (maxL : Nat) (ret : Option FieldType) (n : Nat) : Prop := ∃ q : vw_C, xCl[ci]? = some q ∧ GoodIn lw_all (va_wsU own index q.1 owner x y (ws_ y bytes maxL ret)) ∧ y = ⟨owner, x.name, x.desc⟩ ∧ (owner ≠ "java/lang/invoke/MethodHandle" ∧ owner ≠ "java/lang/invoke/VarHandle" ∧ (parseMethodDescriptor x.desc).map (fun d => d.parameters.length) = some n)
/-- the superclass's method -/
def CSU (own : String) (index ci : Nat) (y : MethodName) (bytes : ByteArray) (maxL : Nat) (ret : Option FieldType) (n : Nat) : Prop := ∃ q : vw_C, xCl[ci]? = some q ∧ GoodIn lw_all (va_wsSU own index y (ws_ y bytes maxL ret)) ∧ (y.cls ≠ "java/lang/invoke/MethodHandle" ∧ y.cls ≠ "java/lang/invoke/VarHandle" ∧ (parseMethodDescriptor y.desc).map (fun d => d.parameters.length) = some n) ∧ y.name ≠ "<init>"
variable {x y : MethodName} {bytes : ByteArray} {maxL n index ci fr' lo' b count : Nat} {ret : Option FieldType} {As : List Value} {r : Option Value} {st0 : List Value} {owner : String}
theorem m_callF (C : Cx p m meth c cc nL s args own R ev D H0 fr lo) (hH : Hs D H0 ev σ H) (hL : ∀ q ∈ locs, ev.1 ≤ q.base) (V : CF own index ci x y bytes maxL ret n) (hM : Ct l D H0 ev y (ws_ y bytes maxL ret) fr' lo' (.ref b :: As) σ r σ') (hc : isC σ b ci = some ()) (hfl : fr' + 1 ≤ fr ∧ 8 + (maxL + 11) + lo' ≤ lo) (hn : As.length = n) (hl : ls.size = nL) (hst : st0 = As.reverse ++ .ref b :: rest) (hW : (rest.map fun v => v.category).sum ≤ 8) (hdg : decode cc pc = .ok (.invokeinterface index count, 5))
    (kk : ∀ (H1 : Heap) (locs1 : List Loc), Hs D H0 ev σ' H1 → (∀ q ∈ locs1, ev.1 ≤ q.base) → W p l e R s m args below meth c H1 locs1 (H1.size - s.heap.size) (xtot H1 - xtot s.heap) Q (F0 m (pc + 5) ls (r.toList ++ rest))) : W p l e R s m args below meth c H locs cells slots Q (F0 m pc ls st0) := by
  obtain ⟨q, hq, hG, hF, hd⟩ := V
  obtain ⟨S, hK, hR1, hR2, hR3, hR4, hlk⟩ := C
  obtain ⟨fs, hfs⟩ := isC_at hc
  have z1 := hH.1
  have z2 := hH.2.1
  have z4 := hH.2.2.2.1
  have z5 := hH.2.2.2.2.1
  obtain ⟨cell, q1, q2, q3, q4, -⟩ := Hs_obj hH hK hq hfs
  refine xknow fun k1 k2 => ?_
  exact m_goes5 (va_runF (As := As) (rest := rest) (hK.1.1 ci _ hq).2 S hM (va_cwF n S.2.2.2.2 hG rfl rfl rfl (hK.2.2.2.2.2.2.1 _ hF) hd ⟨by rw [hR3]; exact hfl.1, by rw [hR4]; exact hfl.2⟩) ⟨Ct_blind, ⟨cell, q1, q2, q4⟩, fun U hU hW => ⟨rfl, by rw [hU]; exact hH, hK.warm hW⟩⟩ rfl hn hl hst (lv_room hW) hdg ⟨by rw [hR1]; omega, by rw [hR2]; omega⟩) hL kk
theorem m_callU (C : Cx p m meth c cc nL s args own R ev D H0 fr lo) (hH : Hs D H0 ev σ H) (hL : ∀ q ∈ locs, ev.1 ≤ q.base) (V : CU own index ci owner x y bytes maxL ret n) (hM : Ct l D H0 ev y (ws_ y bytes maxL ret) fr' lo' (.ref b :: As) σ r σ') (hc : isC σ b ci = some ()) (hfl : fr' + 1 ≤ fr ∧ 8 + (maxL + 11) + lo' ≤ lo) (hn : As.length = n) (hl : ls.size = nL) (hst : st0 = As.reverse ++ .ref b :: rest) (hW : (rest.map fun v => v.category).sum ≤ 8) (hdg : decode cc pc = .ok (.invokevirtual index, 3))
    (kk : ∀ (H1 : Heap) (locs1 : List Loc), Hs D H0 ev σ' H1 → (∀ q ∈ locs1, ev.1 ≤ q.base) → W p l e R s m args below meth c H1 locs1 (H1.size - s.heap.size) (xtot H1 - xtot s.heap) Q (F0 m (pc + 3) ls (r.toList ++ rest))) : W p l e R s m args below meth c H locs cells slots Q (F0 m pc ls st0) := by
  obtain ⟨q, hq, hG, hyx, hd⟩ := V
  obtain ⟨S, hK, hR1, hR2, hR3, hR4, hlk⟩ := C
  obtain ⟨fs, hfs⟩ := isC_at hc
  have z1 := hH.1
  have z2 := hH.2.1
  have z4 := hH.2.2.2.1
  have z5 := hH.2.2.2.2.1
  obtain ⟨cell, q1, q2, q3, q4, -⟩ := Hs_obj hH hK hq hfs
  refine xknow fun k1 k2 => ?_
  exact m_goes (va_runU (As := As) (rest := rest) S hM (va_cwU n S.2.2.2.2 hG rfl rfl rfl hyx hd ⟨by rw [hR3]; exact hfl.1, by rw [hR4]; exact hfl.2⟩) ⟨Ct_blind, ⟨cell, q1, q2, q4⟩, fun U hU hW => ⟨rfl, by rw [hU]; exact hH, hK.warm hW⟩⟩ rfl hn hl hst (lv_room hW) hdg ⟨by rw [hR1]; omega, by rw [hR2]; omega⟩) hL kk
end XK
