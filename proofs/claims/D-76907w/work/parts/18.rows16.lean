/-! rows: what the machine throws, caught in the same method -/
theorem Met_ofWH {l : Launch} {y : MethodName} {ws ws' : List Cond} {rm : Room} {Pc : Array Value → State → Prop} {Qc : Array Value → State → Outcome → State → Prop} {mc ms : Nat} {free : Addr → Prop} {cc : ByteArray} {maxL : Nat} {ret : Option FieldType} {hh : List (Nat × Nat × Nat × Nat)} (hy : plainName y.cls = true) (hw : ws = Cond.codeWith y cc maxL ret hh :: ws')
    (body : ∀ p e s m args below meth c s₁, BodyLoose p l y (headSpec ws rm) cc maxL ret e s m args below meth c s₁ → c.maxLocals = maxL → Pc args s → W p l e (headSpec ws rm).room s m args below meth c s.heap [] 0 0 (MQ below Qc args s mc ms free) (entryFrame m args maxL)) : Met l y ws rm Pc Qc mc ms free := by
  refine MetFree.of_bodyS (code := cc) (maxLocals := maxL) (ret := ret) hy ?_ ?_
  · intro args s m h hn
    obtain ⟨m9, meth, c, hn9, h1, h2, h3, h4, -, h5, h6, -⟩ := Cond.codeWith_spec (atoms_spec (ws := ws) h _ (by rw [hw]; exact List.mem_cons_self))
    cases hn.symm.trans hn9
    exact ⟨meth, c, h1, h2, h3, h4, h5, h6⟩
  · intro p e s m args below meth c s₁ B hml hP _
    have hh0 : s₁.heap = s.heap := by rw [B.state]; rfl
    obtain ⟨t, a1, o, b1, b2, b3⟩ := body p e s m args below meth c s₁ B hml hP s₁ hh0 (Stand.of_body B)
    exact ⟨t, o, a1, b1, b2, b3⟩
/-- THE CONTRACT of a method with handlers: it returns some r and leaves some map σ' so that P r σ' -/
def CtP (l : Launch) (D : Dx) (H0 : Heap) (ev : Ev) (y : MethodName) (ws : List Cond) (fr lo : Nat) (av : List Value) (σ : Mm) (P : Option Value → Mm → Prop) : Prop :=
  Met l y ws { frames := fr, cells := ev.2.1 - σ.2.1, slots := ev.2.2.1 - σ.2.2, locals := lo } (va_Pc av (fun U => Hs D H0 ev σ U.heap ∧ Kx D H0 ev U)) (fun _ _ oc t => ∃ (r : Option Value) (σ' : Mm), oc = .returned r ∧ P r σ' ∧ Hs D H0 ev σ' t.heap) (ev.2.1 - σ.2.1) (ev.2.2.1 - σ.2.2) (fun q => ev.1 ≤ q)
def MQy (D : Dx) (H0 : Heap) (ev : Ev) (below : List Frame) (args : Array Value) (s : State) (P : Option Value → Mm → Prop) : State → Prop := MQ below (fun _ _ oc t => ∃ (r : Option Value) (σ' : Mm), oc = .returned r ∧ P r σ' ∧ Hs D H0 ev σ' t.heap) args s (ev.2.1 - s.heap.size) (ev.2.2.1 - xtot s.heap) (fun q => ev.1 ≤ q)
section XX
variable {p : Program} {l : Launch} {e : Env} {R : Room} {s : State} {m : MethodId} {args : Array Value} {below : List Frame} {meth : Method} {c : Code} {H : Heap} {locs : List Loc} {cells slots : Nat} {Q : State → Prop}
variable {cc : ByteArray} {nL pc : Nat} {ls : Array Slot} {rest : List Value} {D : Dx} {H0 : Heap} {ev : Ev} {σ σ0 σ' : Mm} {own : String} {fr lo : Nat}
variable {y : MethodName} {bytes : ByteArray} {maxL n index ci fr' lo' b : Nat} {ret : Option FieldType} {As : List Value} {r : Option Value} {st0 : List Value} {P : Option Value → Mm → Prop} {hh : List (Nat × Nat × Nat × Nat)}
theorem MQx_y (hp : P r σ') {g : JFrame} (k : W p l e R s m args below meth c H locs cells slots (MQx D H0 ev below args s r σ') g) : W p l e R s m args below meth c H locs cells slots (MQy D H0 ev below args s P) g := by
  intro T hT X
  obtain ⟨t, a, o, b1, b2, ⟨b3, b4⟩, b5⟩ := k T hT X
  exact ⟨t, a, o, b1, b2, ⟨r, σ', b3, hp, b4⟩, b5⟩
/-- a contract out of its walk, the method with handlers -/
theorem CtP_of {av : List Value} (hy : plainName y.cls = true)
    (body : ∀ p e R s m below meth c, Cx p m meth c bytes maxL s av.toArray y.cls R ev D H0 fr lo → meth.sig.returnType = ret → c.exceptionTable.toList = tableOf hh → Hs D H0 ev σ s.heap → W p l e R s m av.toArray below meth c s.heap [] (s.heap.size - s.heap.size) (xtot s.heap - xtot s.heap) (MQy D H0 ev below av.toArray s P) (entryFrame m av.toArray maxL)) : CtP l D H0 ev y (wsW_ y bytes maxL ret hh) fr lo av σ P := by
  refine Met_ofWH (cc := bytes) (maxL := maxL) (ret := ret) (hh := hh) hy rfl ?_
  intro p e s m args below meth c s₁ B hml hv
  obtain ⟨rfl, hH, hK⟩ := hv
  have hts0 := atoms_spec (ws := wsW_ y bytes maxL ret hh) B.pre
  have hts : ∀ w ∈ lw_all, w.before _ s = true := fun w h => hts0 w (List.mem_cons_of_mem _ h)
  have z1 := hH.1
  have z2 := hH.2.1
  have k := body p e (headSpec (wsW_ y bytes maxL ret hh) { frames := fr, cells := ev.2.1 - σ.2.1, slots := ev.2.2.1 - σ.2.2, locals := lo }).room s m below meth c ⟨⟨B.exec, B.bytes, hml, findClass_of_methodNamed B.named, hts⟩, hK, by show ev.2.1 - σ.2.1 = _; rw [z1], by show ev.2.2.1 - σ.2.2 = _; rw [z2], rfl, rfl, B.notSynchronized⟩ B.returns (vx_table (x := y) B (hts0 _ List.mem_cons_self)) hH
  unfold MQy at k
  rw [z1, z2] at k
  have k := xtight (cells := 0) (slots := 0) (by rw [z1, z2]; exact k)
  exact k
/-- how great the heap is at most -/
theorem xbound {g : JFrame} (k : H.size ≤ s.heap.size + cells → xtot H ≤ xtot s.heap + slots → W p l e R s m args below meth c H locs cells slots Q g) : W p l e R s m args below meth c H locs cells slots Q g := by
  intro T hT X
  obtain ⟨h1, h2, h3, h4, h5, h6⟩ := X.same
  have hh : (T.setVm s.vm).heap = H := hT
  rw [hh] at h2 h3 h5 h6
  have hd := xtot_drop h2 (fun a c hc => by obtain ⟨c', q1, -, q3, -⟩ := h6 a c hc; exact ⟨c', q1, q3⟩)
  rw [hd.1] at h5
  exact k h3 (by omega) T hT X
/-- the map with so many cells and slots more -/
def bump (σ : Mm) (k j : Nat) : Mm := (σ.1, σ.2.1 + k, σ.2.2 + j)
theorem Hs_bump (hH : Hs D H0 ev σ H) {H1 : Heap} (h1 : H.size ≤ H1.size) (h2 : ∀ q : Nat, q < H.size → H1[q]? = H[q]?) (h3 : xtot H ≤ xtot H1) (h4 : H1.size ≤ ev.2.1) (h5 : xtot H1 ≤ ev.2.2.1) : Hs D H0 ev (bump σ (H1.size - H.size) (xtot H1 - xtot H)) H1 := by
  obtain ⟨z1, z2, z3, z4, z5, z6, z7, z8⟩ := hH
  refine ⟨by show H1.size = σ.2.1 + (H1.size - H.size); omega, by show xtot H1 = σ.2.2 + (xtot H1 - xtot H); omega, by show ev.1 ≤ σ.2.1 + _; omega, by show σ.2.1 + (H1.size - H.size) ≤ _; omega, by show σ.2.2 + (xtot H1 - xtot H) ≤ _; omega, fun q hq => by rw [h2 q (by omega)]; exact z6 q hq, fun b e' hnb hb => ?_, z8⟩
  have := z7 b e' hnb hb
  exact va_at.kept this (h2 b (va_at.lt this))
theorem xcd_all (C : Cx p m meth c cc nL s args own R ev D H0 fr lo) {w : Cond} (h1 : w ∈ lw_tbl) (h2 : xcd w = true ∨ goodWord w = true) : w.before args s = true := by
  rcases h2 with h2 | h2
  · exact va_Nw.use (xcd_ot h2) (C.2.1.2.2.2.2.1.2.2.2.2.2.1 w h1 h2)
  · exact C.1.2.2.2.2 w (List.mem_filter.mpr ⟨h1, h2⟩)
theorem xzq (hH : Hs D H0 ev σ s.heap) {n d : String} (h : vx_Zq Bundle.tN n d (fun a => ev.1 ≤ a) s H0) : vx_Zq Bundle.tN n d (fun a => ev.1 ≤ a) s s.heap := vx_Zq.kept h (fun a _ h2 => hH.2.2.2.2.2.1 a (Nat.not_le.mp h2))
theorem xvaS (hH0 : Hs D H0 ev σ0 s.heap) (hH : Hs D H0 ev σ H) (hL : ∀ q ∈ locs, ev.1 ≤ q.base) (hle : s.heap.size ≤ H.size) : va_S (fun a => ev.1 ≤ a) s.heap H locs := ⟨hle, fun q _ h2 => by rw [hH.2.2.2.2.2.1 q (Nat.not_le.mp h2), hH0.2.2.2.2.2.1 q (Nat.not_le.mp h2)], hL⟩
/-- the words of an exception that the machine throws -/
def XW (cls : String) (names : List String) : Prop := Bundle.fit cls = true ∧ (∀ n ∈ names, Bundle.fit n = true) ∧ (cls == "java/lang/StackOverflowError") = false ∧ (cls == "java/lang/OutOfMemoryError") = false ∧ (∀ w ∈ vx_atM cls names, w ∈ lw_tbl ∧ (xcd w = true ∨ goodWord w = true)) ∧ (∀ w ∈ vx_atM cls names, vx_ot w = true) ∧ Cond.castable cls cls ∈ lw_tbl
/-- thrown by the machine with a text, caught in this method -/
theorem m_vmX (hlt : l.stackTraces = false) (C : Cx p m meth c cc nL s args own R ev D H0 fr lo) (hH0 : Hs D H0 ev σ0 s.heap) (hH : Hs D H0 ev σ H) (hL : ∀ q ∈ locs, ev.1 ≤ q.base) {cls text : String} {names : List String} (XWc : XW cls names) {nb : Nat} (hl : ls.size = nL) (htext : (text == notModelled) = false) (hnb : (stringBytes (stringToUtf16 text)).size ≤ nb) (hnb1 : nb ≤ 1000)
    (hfr : names.length + 4 < fr) (hlo : (rest.map fun v => v.category).sum + 10240 ≤ lo) (hshort : 13 * names.length + 55 ≤ 10240) (hroom : σ.2.1 + 3 ≤ ev.2.1 ∧ σ.2.2 + (nb + 10) ≤ ev.2.2.1)
    (pre : List ExceptionTableEntry) (x : ExceptionTableEntry) (suf : List ExceptionTableEntry) (hsplit : c.exceptionTable.toList = pre ++ x :: suf) (hpass : ∀ z ∈ pre, covers z pc = false ∨ (z.catchType ≠ 0 ∧ ∃ nm : String, (Cond.classLink own z.catchType nm).before args s = true ∧ va_Nc cls nm s)) (hx : covers x pc = true) (hx0 : x.catchType ≠ 0) (hlink : Cond.classLink own x.catchType cls ∈ lw_all)
    (kk : ∀ (H1 : Heap) (k j q : Nat), k ≤ 3 → j ≤ nb + 10 → Hs D H0 ev (bump σ k j) H1 → W p l e R s m args below meth c H1 locs (H1.size - s.heap.size) (xtot H1 - xtot s.heap) Q (F0 m x.handlerPc ls [.ref q])) : vx_Note p l e R s m args below meth c H locs (H.size - s.heap.size) (xtot H - xtot s.heap) Q (F0 m pc ls rest) cls text := by
  obtain ⟨w1, w2, w3, w4, w5, w6, w7⟩ := XWc
  have z1 := hH.1
  have z2 := hH.2.1
  have hex := C.2.1.2.2.2.2.1
  obtain ⟨⟨hexe, hb, hml, hown, hts⟩, hK, hR1, hR2, hR3, hR4, hlk⟩ := C
  intro T hT X
  obtain ⟨h1, h2, h3, h4, h5, h6⟩ := X.same
  have hh : (T.setVm s.vm).heap = H := hT
  rw [hh] at h2 h6
  have hd := xtot_drop h2 (fun a c hc => by obtain ⟨c', q1, -, q3, -⟩ := h6 a c hc; exact ⟨c', q1, q3⟩)
  refine vx_vm (nb := nb) (A := fun a => ev.1 ≤ a) hexe hlt w1 w2 w3 w4 (fun w hw => xcd_all (cc := cc) ⟨⟨hexe, hb, hml, hown, hts⟩, hK, hR1, hR2, hR3, hR4, hlk⟩ (w5 w hw).1 (w5 w hw).2) w6 (xzq hH0 hex.2.2.2.2.2.2.1) (xzq hH0 hex.2.2.2.2.2.2.2.1) (xvaS hH0 hH hL h2) (hl.trans hml.symm) htext hnb hnb1 (by rw [hR3]; exact hfr) (by rw [hR4]; exact hlo) hshort (by rw [hR1]; omega) (by rw [hR2]; omega) hlk (fun H1 q9 ce y1 y2 y3 y4 y5 y6 => ?_) T hT X
  refine vx_catch hown pre x suf hsplit hpass hx hx0 (hts _ hlink) (va_Nw.use (w := .castable cls cls) rfl (hex.2.2.2.2.2.1 _ w7 rfl)) y4 y5 y6 ?_
  refine xbound fun g1 g2 => xknow fun g3 g4 => ?_
  have g5 : xtot H ≤ xtot H1 := (xtot_drop y1 (fun a c hc => ⟨c, by rw [y2 a (Array.getElem?_eq_some_iff.mp hc).1]; exact hc, rfl⟩)).2
  exact kk H1 _ _ q9 (by omega) (by omega) (Hs_bump hH y1 y2 g5 (by omega) (by omega))
/-- a null that is used, caught in this method -/
theorem m_npeX (hlt : l.stackTraces = false) (C : Cx p m meth c cc nL s args own R ev D H0 fr lo) (hH0 : Hs D H0 ev σ0 s.heap) (hH : Hs D H0 ev σ H) (hL : ∀ q ∈ locs, ev.1 ≤ q.base) (w5 : ∀ w ∈ vx_atN 8, w ∈ lw_tbl ∧ (xcd w = true ∨ goodWord w = true)) (w6 : ∀ w ∈ vx_atN 8, vx_ot w = true) (w7 : Cond.castable "java/lang/NullPointerException" "java/lang/NullPointerException" ∈ lw_tbl) (hl : ls.size = nL)
    (hfr : 7 < fr) (hlo : (rest.map fun v => v.category).sum + 10240 ≤ lo) (hroom : σ.2.1 + 1 ≤ ev.2.1 ∧ σ.2.2 + 8 ≤ ev.2.2.1)
    (pre : List ExceptionTableEntry) (x : ExceptionTableEntry) (suf : List ExceptionTableEntry) (hsplit : c.exceptionTable.toList = pre ++ x :: suf) (hpass : ∀ z ∈ pre, covers z pc = false ∨ (z.catchType ≠ 0 ∧ ∃ nm : String, (Cond.classLink own z.catchType nm).before args s = true ∧ va_Nc "java/lang/NullPointerException" nm s)) (hx : covers x pc = true) (hx0 : x.catchType ≠ 0) (hlink : Cond.classLink own x.catchType "java/lang/NullPointerException" ∈ lw_all)
    (kk : ∀ (H1 : Heap) (k j q : Nat), k ≤ 1 → j ≤ 8 → Hs D H0 ev (bump σ k j) H1 → W p l e R s m args below meth c H1 locs (H1.size - s.heap.size) (xtot H1 - xtot s.heap) Q (F0 m x.handlerPc ls [.ref q])) : vx_NoteN p l e R s m args below meth c H locs (H.size - s.heap.size) (xtot H - xtot s.heap) Q (F0 m pc ls rest) := by
  have z1 := hH.1
  have z2 := hH.2.1
  have hex := C.2.1.2.2.2.2.1
  obtain ⟨⟨hexe, hb, hml, hown, hts⟩, hK, hR1, hR2, hR3, hR4, hlk⟩ := C
  intro T hT X
  obtain ⟨h1, h2, h3, h4, h5, h6⟩ := X.same
  have hh : (T.setVm s.vm).heap = H := hT
  rw [hh] at h2 h6
  have hd := xtot_drop h2 (fun a c hc => by obtain ⟨c', q1, -, q3, -⟩ := h6 a c hc; exact ⟨c', q1, q3⟩)
  refine vx_npe (nb := 8) (A := fun a => ev.1 ≤ a) hexe hlt (fun w hw => xcd_all (cc := cc) ⟨⟨hexe, hb, hml, hown, hts⟩, hK, hR1, hR2, hR3, hR4, hlk⟩ (w5 w hw).1 (w5 w hw).2) w6 (xzq hH0 hex.2.2.2.2.2.2.1) (xzq hH0 hex.2.2.2.2.2.2.2.1) (xvaS hH0 hH hL h2) (hl.trans hml.symm) (by rw [hR3]; exact hfr) (by rw [hR4]; exact hlo) (by rw [hR1]; omega) (by rw [hR2]; omega) hlk (fun H1 q9 ce y1 y2 y3 y4 y5 y6 => ?_) T hT X
  refine vx_catch hown pre x suf hsplit hpass hx hx0 (hts _ hlink) (va_Nw.use (w := .castable "java/lang/NullPointerException" "java/lang/NullPointerException") rfl (hex.2.2.2.2.2.1 _ w7 rfl)) y4 y5 y6 ?_
  refine xbound fun g1 g2 => xknow fun g3 g4 => ?_
  have g5 : xtot H ≤ xtot H1 := (xtot_drop y1 (fun a c hc => ⟨c, by rw [y2 a (Array.getElem?_eq_some_iff.mp hc).1]; exact hc, rfl⟩)).2
  exact kk H1 _ _ q9 (by omega) (by omega) (Hs_bump hH y1 y2 g5 (by omega) (by omega))
/-- an index out of a long[] -/
theorem m_laldX (C : Cx p m meth c cc nL s args own R ev D H0 fr lo) (hH : Hs D H0 ev σ H) {a n : Nat} {f : Nat → Int64} (hna : ev.1 ≤ a) (ha : σ.1 a = some (.inl (1, n, .inr (.inl f)))) {i : Int32} (hout : ¬ vp_in i n) (hdg : decode cc pc = .ok (.laload, 1))
    (k : ∀ tx : String, tx = (toString "Index " ++ toString i ++ toString " out of bounds for length " ++ toString n : String) → vx_Note p l e R s m args below meth c H locs cells slots Q (F0 m pc ls rest) "java/lang/ArrayIndexOutOfBoundsException" tx) : W p l e R s m args below meth c H locs cells slots Q (F0 m pc ls (.int i :: .ref a :: rest)) := by
  obtain ⟨cell, h1, h2, h3, h4, -⟩ := Hs_arr hH C.2.1 (x := (1, n, .inr (.inl f))) (by show 1 < 9; decide) ha
  intro T hT X
  obtain ⟨t, st, q⟩ := k _ rfl T hT X
  refine ⟨t, ?_, q⟩
  have h4 : cell.slots.size = n := h4.2.2 hna
  have h5 := X.laloadOut C.x (by rw [hT]; exact h1) h2 (j := i) (by rw [h4]; exact Classical.byContradiction hout) (g := F0 m pc ls (.int i :: .ref a :: rest)) rfl (rest := rest) rfl (by rw [C.b]; exact hdg) t
  rw [h4] at h5
  exact h5 st
theorem m_lastX (C : Cx p m meth c cc nL s args own R ev D H0 fr lo) (hH : Hs D H0 ev σ H) {a n : Nat} {f : Nat → Int64} (hna : ev.1 ≤ a) (ha : σ.1 a = some (.inl (1, n, .inr (.inl f)))) {i : Int32} {v : Int64} (hout : ¬ vp_in i n) (hdg : decode cc pc = .ok (.lastore, 1))
    (k : ∀ tx : String, tx = (toString "Index " ++ toString i ++ toString " out of bounds for length " ++ toString n : String) → vx_Note p l e R s m args below meth c H locs cells slots Q (F0 m pc ls rest) "java/lang/ArrayIndexOutOfBoundsException" tx) : W p l e R s m args below meth c H locs cells slots Q (F0 m pc ls (.long v :: .int i :: .ref a :: rest)) := by
  obtain ⟨cell, h1, h2, h3, h4, -⟩ := Hs_arr hH C.2.1 (x := (1, n, .inr (.inl f))) (by show 1 < 9; decide) ha
  intro T hT X
  obtain ⟨t, st, q⟩ := k _ rfl T hT X
  refine ⟨t, ?_, q⟩
  have h4 : cell.slots.size = n := h4.2.2 hna
  have h5 := X.lastoreOut C.x (by rw [hT]; exact h1) h2 (j := i) (by rw [h4]; exact Classical.byContradiction hout) (g := F0 m pc ls (.long v :: .int i :: .ref a :: rest)) rfl (rest := rest) rfl (by rw [C.b]; exact hdg) t
  rw [h4] at h5
  exact h5 st
end XX
theorem xw_all (w : Cond) : Bool.or (xcd w) (goodWord w) = true → (xcd w = true ∨ goodWord w = true) := fun h => Bool.or_eq_true _ _ ▸ h
theorem XW_nas : XW "java/lang/NegativeArraySizeException" ["java/lang/RuntimeException", "java/lang/Exception"] := ⟨by decide +kernel, by decide +kernel, by decide +kernel, by decide +kernel, fun w hw => ⟨(by decide +kernel : ∀ w ∈ vx_atM "java/lang/NegativeArraySizeException" ["java/lang/RuntimeException", "java/lang/Exception"], w ∈ lw_tbl) w hw, xw_all w ((by decide +kernel : ∀ w ∈ vx_atM "java/lang/NegativeArraySizeException" ["java/lang/RuntimeException", "java/lang/Exception"], Bool.or (xcd w) (goodWord w) = true) w hw)⟩, by decide +kernel, q950⟩
theorem XW_aio : XW "java/lang/ArrayIndexOutOfBoundsException" ["java/lang/IndexOutOfBoundsException", "java/lang/RuntimeException", "java/lang/Exception"] := ⟨by decide +kernel, by decide +kernel, by decide +kernel, by decide +kernel, fun w hw => ⟨(by decide +kernel : ∀ w ∈ vx_atM "java/lang/ArrayIndexOutOfBoundsException" ["java/lang/IndexOutOfBoundsException", "java/lang/RuntimeException", "java/lang/Exception"], w ∈ lw_tbl) w hw, xw_all w ((by decide +kernel : ∀ w ∈ vx_atM "java/lang/ArrayIndexOutOfBoundsException" ["java/lang/IndexOutOfBoundsException", "java/lang/RuntimeException", "java/lang/Exception"], Bool.or (xcd w) (goodWord w) = true) w hw)⟩, by decide +kernel, q1731⟩
theorem XW_npe : (∀ w ∈ vx_atN 8, w ∈ lw_tbl ∧ (xcd w = true ∨ goodWord w = true)) ∧ (∀ w ∈ vx_atN 8, vx_ot w = true) := ⟨fun w hw => ⟨(by decide +kernel : ∀ w ∈ vx_atN 8, w ∈ lw_tbl) w hw, xw_all w ((by decide +kernel : ∀ w ∈ vx_atN 8, Bool.or (xcd w) (goodWord w) = true) w hw)⟩, by decide +kernel⟩
