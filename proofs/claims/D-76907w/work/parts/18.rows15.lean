/-! rows: ldc_w of strings, a method declared anew below, clone of bytes, casts of arrays -/
def CAb (own : String) (index ci : Nat) (owner : String) (x y : MethodName) (bytes : ByteArray) (maxL : Nat) (ret : Option FieldType) (n : Nat) : Prop := ∃ (q : vw_C), xCl[ci]? = some q ∧ GoodIn lw_all (va_wsU own index q.1 owner x y (ws_ y bytes maxL ret)) ∧ (⟨owner, x.name, x.desc⟩ : MethodName) ∈ xDe ∧ (owner ≠ "java/lang/invoke/MethodHandle" ∧ owner ≠ "java/lang/invoke/VarHandle" ∧ (parseMethodDescriptor x.desc).map (fun d => d.parameters.length) = some n)
def cloB (ev : Ev) (σ : Mm) (a : Nat) : Option (Nat × Mm) := match σ.1 a with
  | some (.inl (k, n, .inl f)) => if k = 3 ∧ ev.1 ≤ a ∧ bytesAll f 0 n = true ∧ σ.2.1 + 1 ≤ ev.2.1 ∧ σ.2.2 + n ≤ ev.2.2.1 then some (σ.2.1, (va_up σ.1 σ.2.1 (some (.inl (3, n, .inl f))), σ.2.1 + 1, σ.2.2 + n)) else none
  | _ => none
def ckA (ev : Ev) (σ : Mm) (κ a : Nat) : Option Unit := match σ.1 a with
  | some (.inl (k, _)) => if k = κ ∧ ev.1 ≤ a then some () else none
  | _ => none
section XLw
variable {p : Program} {l : Launch} {e : Env} {R : Room} {s : State} {m : MethodId} {args : Array Value} {below : List Frame} {meth : Method} {c : Code} {H : Heap} {locs : List Loc} {cells slots : Nat} {Q : State → Prop}
variable {cc : ByteArray} {nL pc : Nat} {ls : Array Slot} {rest : List Value} {D : Dx} {H0 : Heap} {ev : Ev} {σ σ' : Mm} {own : String} {fr lo : Nat}
variable {x y : MethodName} {bytes : ByteArray} {maxL n index ci fr' lo' b : Nat} {ret : Option FieldType} {As : List Value} {r : Option Value} {st0 : List Value} {owner : String}
theorem m_ldcSw (C : Cx p m meth c cc nL s args own R ev D H0 fr lo) {k index a : Nat} {tx : String} (hk : xLd[k]? = some (own, index, tx)) (hv : gsS ev k = some a) (hdg : decode cc pc = .ok (.ldc_w index, 3))
    (kk : W p l e R s m args below meth c H locs cells slots Q (F0 m (pc + 3) ls (.ref a :: rest))) : W p l e R s m args below meth c H locs cells slots Q (F0 m pc ls rest) := by
  obtain ⟨⟨hx, hb, hml, hown, hts⟩, hK, -⟩ := C
  obtain ⟨a', h1, h2⟩ := hK.2.2.2.2.1.2.2.1 k _ hk
  unfold gsS at hv
  rw [h1] at hv
  have e0 : a' = a := Option.some.inj hv
  rw [e0] at h2
  intro T hT X
  obtain ⟨t, a1, b1⟩ := kk T hT X
  refine ⟨t, ?_, b1⟩
  obtain ⟨kc, cf, i, a2, hkc, hcf, hcp, -, hr, hev⟩ := Cond.stringRef_spec hown h2.1
  have e2 : a2 = a := by have := h2.2.symm.trans hev; simpa using this.symm
  rw [e2] at hr
  obtain ⟨k', hk', he⟩ := X.warmed.alike.2.2 _ _ hkc
  have hr' : k'.resolved[index]? = some (some (.string a)) := by
    rcases X.warmed.entry hkc hk' index with h | ⟨h, -⟩
    · rw [h]; exact hr
    · rw [hr] at h; cases h
  have hdg' : decode c.code (F0 m pc ls rest).pc = .ok (.ldc_w index, 3) := by rw [hb]; exact hdg
  have a1' : Steps p.tables e below (T.setTop { F0 m pc ls rest with pc := (F0 m pc ls rest).pc + 3, stack := .ref a :: (F0 m pc ls rest).stack }) t := a1
  have hk2 : T.vm.classes[(F0 m pc ls rest).method.cls]? = some k' := hk'
  have hgm : (F0 m pc ls rest).method = m := rfl
  generalize F0 m pc ls rest = g at *
  subst hgm
  jvm_step X.here [hx, hdg', ldc_w.wp_string (e := e) (s := T) (f := g) X.here.top hk2 (by rw [he]; exact hcf) hcp hr']
  exact a1'
theorem m_callA (C : Cx p m meth c cc nL s args own R ev D H0 fr lo) (hH : Hs D H0 ev σ H) (hL : ∀ q ∈ locs, ev.1 ≤ q.base) (V : CAb own index ci owner x y bytes maxL ret n) (hM : Ct l D H0 ev y (ws_ y bytes maxL ret) fr' lo' (.ref b :: As) σ r σ') (hc : isC σ b ci = some ()) (hfl : fr' + 1 ≤ fr ∧ 8 + (maxL + 11) + lo' ≤ lo) (hn : As.length = n) (hl : ls.size = nL) (hst : st0 = As.reverse ++ .ref b :: rest) (hW : (rest.map fun v => v.category).sum ≤ 8) (hdg : decode cc pc = .ok (.invokevirtual index, 3))
    (kk : ∀ (H1 : Heap) (locs1 : List Loc), Hs D H0 ev σ' H1 → (∀ q ∈ locs1, ev.1 ≤ q.base) → W p l e R s m args below meth c H1 locs1 (H1.size - s.heap.size) (xtot H1 - xtot s.heap) Q (F0 m (pc + 3) ls (r.toList ++ rest))) : W p l e R s m args below meth c H locs cells slots Q (F0 m pc ls st0) := by
  obtain ⟨q, hq, hG, hde, hd⟩ := V
  obtain ⟨S, hK, hR1, hR2, hR3, hR4, hlk⟩ := C
  obtain ⟨fs, hfs⟩ := isC_at hc
  have z1 := hH.1
  have z2 := hH.2.1
  have z4 := hH.2.2.2.1
  have z5 := hH.2.2.2.2.1
  obtain ⟨cell, q1, q2, q3, q4, -⟩ := Hs_obj hH hK hq hfs
  refine xknow fun k1 k2 => ?_
  exact m_goes (va_runU (As := As) (rest := rest) S hM (va_cwA n S.2.2.2.2 hG rfl rfl rfl (hK.2.2.2.2.1.2.2.2.2.1 _ hde) hd ⟨by rw [hR3]; exact hfl.1, by rw [hR4]; exact hfl.2⟩) ⟨Ct_blind, ⟨cell, q1, q2, q4⟩, fun U hU hW => ⟨rfl, by rw [hU]; exact hH, hK.warm hW⟩⟩ rfl hn hl hst (lv_room hW) hdg ⟨by rw [hR1]; omega, by rw [hR2]; omega⟩) hL kk
theorem m_callAA {v : Option Nat} (C : Cx p m meth c cc nL s args own R ev D H0 fr lo) (hH : Hs D H0 ev σ H) (hL : ∀ q ∈ locs, ev.1 ≤ q.base) (V : CAb own index ci owner x y bytes maxL ret n) (hM : Ct l D H0 ev y (ws_ y bytes maxL ret) fr' lo' (.ref b :: As) σ (some (va_rf v)) σ') (hc : isC σ b ci = some ()) (hfl : fr' + 1 ≤ fr ∧ 8 + (maxL + 11) + lo' ≤ lo) (hn : As.length = n) (hl : ls.size = nL) (hst : st0 = As.reverse ++ .ref b :: rest) (hW : (rest.map fun v => v.category).sum ≤ 8) (hdg : decode cc pc = .ok (.invokevirtual index, 3))
    (kk : ∀ (H1 : Heap) (locs1 : List Loc), Hs D H0 ev σ' H1 → (∀ q ∈ locs1, ev.1 ≤ q.base) → W p l e R s m args below meth c H1 locs1 (H1.size - s.heap.size) (xtot H1 - xtot s.heap) Q (F0 m (pc + 3) ls (va_rf v :: rest))) : W p l e R s m args below meth c H locs cells slots Q (F0 m pc ls st0) := m_callA C hH hL V hM hc hfl hn hl hst hW hdg kk
theorem m_castA {κ : Nat} (h9 : κ < 7) {nm : String} (hnm : "[" ++ (xTy κ).toString = nm) (hRA : ∀ cA : ClassId, va_RA s cA (xTy κ) → s.vm.findClass ("[" ++ (xTy κ).toString) = some cA) (C : Cx p m meth c cc nL s args own R ev D H0 fr lo) (hH : Hs D H0 ev σ H) {index a : Nat} {u : Unit} (hl : Cond.classLink own index nm ∈ lw_all) (hv : ckA ev σ κ a = some u) (hdg : decode cc pc = .ok (.checkcast index, 3))
    (kk : W p l e R s m args below meth c H locs cells slots Q (F0 m (pc + 3) ls (.ref a :: rest))) : W p l e R s m args below meth c H locs cells slots Q (F0 m pc ls (.ref a :: rest)) := by
  obtain ⟨⟨hx, hb, hml, hown, hts⟩, hK, -⟩ := C
  unfold ckA at hv
  split at hv
  · rename_i k x hx1
    split at hv
    · rename_i hc
      obtain ⟨rfl, h2⟩ := hc
      have h1 : H[a]? = some (vp_cell (D.2 k) x) := hH.2.2.2.2.2.2.1 a _ h2 hx1
      have h3 := hRA _ (hK.1.2 k _ (xTys_at (D := D) h9)).2
      rw [hnm] at h3
      refine va_castE hx hb hown (hts _ hl) ⟨_, h1, ?_, ?_⟩ hdg kk
      · obtain ⟨n, y⟩ := x; rw [vp_cell_xval]; rfl
      · obtain ⟨n, y⟩ := x; rw [vp_cell_xval]; exact h3
    · cases hv
  · cases hv
theorem m_cloneB (C : Cx p m meth c cc nL s args own R ev D H0 fr lo) (hH : Hs D H0 ev σ H) (hL : ∀ q ∈ locs, ev.1 ≤ q.base) {index a q : Nat}
    (hlink : Cond.methodLink own index ⟨"[B", "clone", "()Ljava/lang/Object;"⟩ ∈ lw_all) (hsame : Cond.sameMethod "[B" "java/lang/Object" "clone" "()Ljava/lang/Object;" ∈ lw_all) (hnat : Cond.native ⟨"java/lang/Object", "clone", "()Ljava/lang/Object;"⟩ ∈ lw_all) (hinst : Cond.instanceMethod ⟨"java/lang/Object", "clone", "()Ljava/lang/Object;"⟩ ∈ lw_all) (hsel : Cond.selects "[B" ⟨"[B", "clone", "()Ljava/lang/Object;"⟩ ⟨"java/lang/Object", "clone", "()Ljava/lang/Object;"⟩ ∈ lw_all)
    (hv : cloB ev σ a = some (q, σ')) (hl : ls.size = nL) (hframes : 1 ≤ fr) (hlocals : (rest.map fun v => v.category).sum + 14 ≤ lo) (hdg : decode cc pc = .ok (.invokevirtual index, 3))
    (kk : ∀ (H1 : Heap) (locs1 : List Loc), Hs D H0 ev σ' H1 → (∀ q ∈ locs1, ev.1 ≤ q.base) → W p l e R s m args below meth c H1 locs1 (H1.size - s.heap.size) (xtot H1 - xtot s.heap) Q (F0 m (pc + 3) ls (.ref q :: rest))) : W p l e R s m args below meth c H locs cells slots Q (F0 m pc ls (.ref a :: rest)) := by
  obtain ⟨⟨hx, hb, hml, hown, hts⟩, hK, hR1, hR2, hR3, hR4, hlk⟩ := C
  unfold cloB at hv
  split at hv
  · rename_i k n f ha
    split at hv
    · rename_i hc
      obtain ⟨rfl, h2, h3, h4, h5⟩ := hc
      cases hv
      have hnm : s.vm.findClass "[B" = some (D.2 3) := va_nm_byte (hK.1.2 3 _ (xTys_at (D := D) (by decide))).2
      obtain ⟨c0, t0', f1, f2, f3⟩ := Cond.castable_spec (va_Nw.use (A := args) rfl (hK.2.2.2.2.2.1 ("[B", "java/lang/Cloneable") (by decide)))
      have f1 : s.vm.findClass "[B" = some c0 := f1
      cases hnm.symm.trans f1
      refine xknow fun k1 k2 => ?_
      have z1 := hH.1
      have z2 := hH.2.1
      have hcell : H[a]? = some (arrV (D.2 3) n (fun j => .int (f j))) := hH.2.2.2.2.2.2.1 a _ h2 ha
      have hsz : (arrV (D.2 3) n (fun j => .int (f j))).slots.size = n := arrV_size _ _ _
      have hcellE : ({ cls := (arrV (D.2 3) n (fun j => Value.int (f j))).cls, slots := (arrV (D.2 3) n (fun j => .int (f j))).slots } : Cell) = arrV (D.2 3) n (fun j => .int (f j)) := rfl
      intro T hT X
      obtain ⟨-, kA, hkA, comp, hkind⟩ := State.isArrayOf_alike X.warmed.alike ((hK.1.2 3 _ (xTys_at (D := D) (by decide))).1 0 (fun _ => .null))
      obtain ⟨-, kS, hkS, compS, hkindS⟩ := (hK.1.2 3 _ (xTys_at (D := D) (by decide))).1 0 (fun _ => .null)
      obtain ⟨vm', X', st⟩ := X.cloneArray hx hown (hts _ hlink) (hts _ hsame) (hts _ hnat) (hts _ hinst) (hts _ hsel) (a := a) (cell := arrV (D.2 3) n (fun j => .int (f j))) (by rw [hT]; exact hcell) (fun k h => by cases h) (fun h => by cases h) hnm f2 f3
        (fun i v hv => by
          have hk' : T.vm.classes[D.2 3]? = some kA := hkA
          have hf : fits .byte v = true := va_fit (F := fun j => .int (f j)) (fun i hi => by
            have := List.all_eq_true.mp h3 i (List.mem_range.mpr hi)
            rw [Nat.zero_add] at this
            exact this) i v hv
          show State.fitsSlot _ (D.2 3) _ _ _ = true
          simpa [State.fitsSlot, State.slotType?, hk', hkind, xTy] using hf)
        (g := F0 m pc ls (.ref a :: rest)) rfl (by rw [hml]; exact hl) rfl (by rw [hb]; exact hdg) (by rw [hR3]; exact hframes) (by show 2 * 0 + _ + 14 ≤ _; rw [hR4]; omega) (by rw [hR1]; omega) (by rw [hsz, hR2]; omega) (hloader := Vm.clonesLoader_of_array hkS hkindS)
      rw [hcellE, hsz] at X'
      have e1 : (H.push (arrV (D.2 3) n (fun j => .int (f j))))[H.size]? = some (arrV (D.2 3) n (fun j => .int (f j))) := by simp
      have hk := kk _ locs (Hs_push (cell := arrV (D.2 3) n (fun j => .int (f j))) (e1 := .inl (3, n, .inl f)) hH h4 (by rw [hsz]; exact h5) e1 (by simp) (fun q hq => by rw [Array.getElem?_push, if_neg (Nat.ne_of_lt hq)]) e1 |> fun h => by rw [hsz] at h; exact h) hL
      rw [← z1] at hk
      obtain ⟨t, b1, b2⟩ := xtight hk ((T.setVm vm').pushCell (arrV (D.2 3) n (fun j => .int (f j)))) (by rw [← hT]; rfl) X'
      refine ⟨t, st t ?_, b2⟩
      rw [hcellE, hT]
      exact b1
    · cases hv
  · cases hv
end XLw
