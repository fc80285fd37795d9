/-! rows for references that may be null, for lcmp with its branch -/
section XB
variable {p : Program} {l : Launch} {e : Env} {R : Room} {s : State} {m : MethodId} {args : Array Value} {below : List Frame} {meth : Method} {c : Code} {H : Heap} {locs : List Loc} {cells slots : Nat} {Q : State → Prop}
variable {cc : ByteArray} {nL pc : Nat} {ls : Array Slot} {rest : List Value}
theorem r_aload_n (hx : p.tables.exec = Jvm.exec) (hb : c.code = cc) {k : Fin 4} {i : Nat} {r : Option Nat} (hdg : decode cc pc = .ok (.aload_n k, 1)) (hi : (k : Nat) = i) (hl : ls[i]? = some (.val (va_rf r))) (kk : W p l e R s m args below meth c H locs cells slots Q (F0 m (pc + 1) ls (va_rf r :: rest))) : W p l e R s m args below meth c H locs cells slots Q (F0 m pc ls rest) := by
  cases r with
  | none => exact lv_aload_nN hx hb hdg hi hl kk
  | some a => exact lv_aload_n hx hb hdg hi hl kk
theorem r_aload (hx : p.tables.exec = Jvm.exec) (hb : c.code = cc) {i : Nat} {r : Option Nat} (hdg : decode cc pc = .ok (.aload i, 2)) (hl : ls[i]? = some (.val (va_rf r))) (kk : W p l e R s m args below meth c H locs cells slots Q (F0 m (pc + 2) ls (va_rf r :: rest))) : W p l e R s m args below meth c H locs cells slots Q (F0 m pc ls rest) := by
  cases r with
  | none => exact lv_aloadN hx hb hdg hl kk
  | some a => exact lv_aload hx hb hdg hl kk
theorem r_astore_n (hx : p.tables.exec = Jvm.exec) (hb : c.code = cc) {k : Fin 4} {i nL : Nat} {r : Option Nat} {lv lv' : List (Nat × Value)} (hdg : decode cc pc = .ok (.astore_n k, 1)) (hi : (k : Nat) = i) (h : lv_has ls nL lv) (hn : i < nL) (hl : (i, va_rf r) :: lv.filter (fun q => !(q.1 == i) && !(q.1 + 1 == i && q.2.category == 2)) = lv') (kk : ∀ ls' : Array Slot, lv_has ls' nL lv' → W p l e R s m args below meth c H locs cells slots Q (F0 m (pc + 1) ls' rest)) : W p l e R s m args below meth c H locs cells slots Q (F0 m pc ls (va_rf r :: rest)) := by
  cases r with
  | none => exact lv_astore_nN hx hb hdg hi h hn hl kk
  | some a => exact lv_astore_n hx hb hdg hi h hn hl kk
theorem r_astore (hx : p.tables.exec = Jvm.exec) (hb : c.code = cc) {i nL : Nat} {r : Option Nat} {lv lv' : List (Nat × Value)} (hdg : decode cc pc = .ok (.astore i, 2)) (h : lv_has ls nL lv) (hn : i < nL) (hl : (i, va_rf r) :: lv.filter (fun q => !(q.1 == i) && !(q.1 + 1 == i && q.2.category == 2)) = lv') (kk : ∀ ls' : Array Slot, lv_has ls' nL lv' → W p l e R s m args below meth c H locs cells slots Q (F0 m (pc + 2) ls' rest)) : W p l e R s m args below meth c H locs cells slots Q (F0 m pc ls (va_rf r :: rest)) := by
  cases r with
  | none => exact lv_astoreN hx hb hdg h hn hl kk
  | some a => exact lv_astore hx hb hdg h hn hl kk
theorem r_ifnull (hx : p.tables.exec = Jvm.exec) (hb : c.code = cc) {r : Option Nat} {off : Int} {tgt : Nat} (hdg : decode cc pc = .ok (.ifnull off, 3)) (ht : (pc : Int) + off = (tgt : Int)) (kt : r = none → W p l e R s m args below meth c H locs cells slots Q (F0 m tgt ls rest)) (kf : ¬ r = none → W p l e R s m args below meth c H locs cells slots Q (F0 m (pc + 3) ls rest)) : W p l e R s m args below meth c H locs cells slots Q (F0 m pc ls (va_rf r :: rest)) := by
  cases r with
  | none => exact lv_ifnullN hx hb hdg ht (kt rfl)
  | some a => exact lv_ifnull hx hb hdg (kf (by simp))
theorem r_ifnonnull (hx : p.tables.exec = Jvm.exec) (hb : c.code = cc) {r : Option Nat} {off : Int} {tgt : Nat} (hdg : decode cc pc = .ok (.ifnonnull off, 3)) (ht : (pc : Int) + off = (tgt : Int)) (kt : ¬ r = none → W p l e R s m args below meth c H locs cells slots Q (F0 m tgt ls rest)) (kf : r = none → W p l e R s m args below meth c H locs cells slots Q (F0 m (pc + 3) ls rest)) : W p l e R s m args below meth c H locs cells slots Q (F0 m pc ls (va_rf r :: rest)) := by
  cases r with
  | none => exact lv_ifnonnullN hx hb hdg (kf rfl)
  | some a => exact lv_ifnonnull hx hb hdg ht (kt (by simp))
theorem r_catv (r : Option Nat) : (va_rf r).category = 1 := by cases r <;> rfl
theorem rf_some (a : Nat) : va_rf (some a) = Value.ref a := rfl
theorem cat_I (x : Int32) : (Value.int x).category = 1 := rfl
theorem cat_J (x : Int64) : (Value.long x).category = 2 := rfl
theorem cat_R (x : Nat) : (Value.ref x).category = 1 := rfl
variable {x y : Int64} {off : Int} {tgt : Nat}
theorem r_lc_eq (hx : p.tables.exec = Jvm.exec) (hb : c.code = cc) (h1 : decode cc pc = .ok (.lcmp, 1)) (h2 : decode cc (pc + 1) = .ok (.ifCond .eq off, 3)) (ht : ((pc + 1 : Nat) : Int) + off = (tgt : Int)) (kt : x = y → W p l e R s m args below meth c H locs cells slots Q (F0 m tgt ls rest)) (kf : ¬ x = y → W p l e R s m args below meth c H locs cells slots Q (F0 m (pc + 1 + 3) ls rest)) : W p l e R s m args below meth c H locs cells slots Q (F0 m pc ls (.long y :: .long x :: rest)) :=
  W.lcmp hx hb h1 (lv_if_eq hx hb h2 ht (fun q => kt ((lg_cmp_eq _ _).mp q)) (fun q => kf (fun z => q ((lg_cmp_eq _ _).mpr z))))
theorem r_lc_ne (hx : p.tables.exec = Jvm.exec) (hb : c.code = cc) (h1 : decode cc pc = .ok (.lcmp, 1)) (h2 : decode cc (pc + 1) = .ok (.ifCond .ne off, 3)) (ht : ((pc + 1 : Nat) : Int) + off = (tgt : Int)) (kt : ¬ x = y → W p l e R s m args below meth c H locs cells slots Q (F0 m tgt ls rest)) (kf : x = y → W p l e R s m args below meth c H locs cells slots Q (F0 m (pc + 1 + 3) ls rest)) : W p l e R s m args below meth c H locs cells slots Q (F0 m pc ls (.long y :: .long x :: rest)) :=
  W.lcmp hx hb h1 (lv_if_ne hx hb h2 ht (fun q => kt (fun z => q ((lg_cmp_eq _ _).mpr z))) (fun q => kf ((lg_cmp_eq _ _).mp q)))
theorem r_lc_lt (hx : p.tables.exec = Jvm.exec) (hb : c.code = cc) (h1 : decode cc pc = .ok (.lcmp, 1)) (h2 : decode cc (pc + 1) = .ok (.ifCond .lt off, 3)) (ht : ((pc + 1 : Nat) : Int) + off = (tgt : Int)) (kt : x < y → W p l e R s m args below meth c H locs cells slots Q (F0 m tgt ls rest)) (kf : ¬ x < y → W p l e R s m args below meth c H locs cells slots Q (F0 m (pc + 1 + 3) ls rest)) : W p l e R s m args below meth c H locs cells slots Q (F0 m pc ls (.long y :: .long x :: rest)) :=
  W.lcmp hx hb h1 (lv_if_lt hx hb h2 ht (fun q => kt ((lg_cmp_lt _ _).mp q)) (fun q => kf (fun z => q ((lg_cmp_lt _ _).mpr z))))
theorem r_lc_ge (hx : p.tables.exec = Jvm.exec) (hb : c.code = cc) (h1 : decode cc pc = .ok (.lcmp, 1)) (h2 : decode cc (pc + 1) = .ok (.ifCond .ge off, 3)) (ht : ((pc + 1 : Nat) : Int) + off = (tgt : Int)) (kt : y ≤ x → W p l e R s m args below meth c H locs cells slots Q (F0 m tgt ls rest)) (kf : ¬ y ≤ x → W p l e R s m args below meth c H locs cells slots Q (F0 m (pc + 1 + 3) ls rest)) : W p l e R s m args below meth c H locs cells slots Q (F0 m pc ls (.long y :: .long x :: rest)) :=
  W.lcmp hx hb h1 (lv_if_ge hx hb h2 ht (fun q => kt ((lg_cmp_ge _ _).mp q)) (fun q => kf (fun z => q ((lg_cmp_ge _ _).mpr z))))
theorem r_lc_gt (hx : p.tables.exec = Jvm.exec) (hb : c.code = cc) (h1 : decode cc pc = .ok (.lcmp, 1)) (h2 : decode cc (pc + 1) = .ok (.ifCond .gt off, 3)) (ht : ((pc + 1 : Nat) : Int) + off = (tgt : Int)) (kt : y < x → W p l e R s m args below meth c H locs cells slots Q (F0 m tgt ls rest)) (kf : ¬ y < x → W p l e R s m args below meth c H locs cells slots Q (F0 m (pc + 1 + 3) ls rest)) : W p l e R s m args below meth c H locs cells slots Q (F0 m pc ls (.long y :: .long x :: rest)) :=
  W.lcmp hx hb h1 (lv_if_gt hx hb h2 ht (fun q => kt ((lg_cmp_gt _ _).mp q)) (fun q => kf (fun z => q ((lg_cmp_gt _ _).mpr z))))
theorem r_lc_le (hx : p.tables.exec = Jvm.exec) (hb : c.code = cc) (h1 : decode cc pc = .ok (.lcmp, 1)) (h2 : decode cc (pc + 1) = .ok (.ifCond .le off, 3)) (ht : ((pc + 1 : Nat) : Int) + off = (tgt : Int)) (kt : x ≤ y → W p l e R s m args below meth c H locs cells slots Q (F0 m tgt ls rest)) (kf : ¬ x ≤ y → W p l e R s m args below meth c H locs cells slots Q (F0 m (pc + 1 + 3) ls rest)) : W p l e R s m args below meth c H locs cells slots Q (F0 m pc ls (.long y :: .long x :: rest)) :=
  W.lcmp hx hb h1 (lv_if_le hx hb h2 ht (fun q => kt ((lg_cmp_le _ _).mp q)) (fun q => kf (fun z => q ((lg_cmp_le _ _).mpr z))))
end XB
section XC
variable {p : Program} {l : Launch} {e : Env} {R : Room} {s : State} {m : MethodId} {args : Array Value} {below : List Frame} {meth : Method} {c : Code} {H : Heap} {locs : List Loc} {cells slots : Nat} {Q : State → Prop}
variable {cc : ByteArray} {nL pc : Nat} {ls : Array Slot} {rest : List Value} {D : Dx} {H0 : Heap} {ev : Ev} {σ σ' : Mm} {own : String} {fr lo : Nat}
variable {y : MethodName} {bytes : ByteArray} {maxL n index ci fr' lo' b : Nat} {ret : Option FieldType} {As : List Value} {st0 : List Value}
theorem m_callVI {v : Int32} (C : Cx p m meth c cc nL s args own R ev D H0 fr lo) (hH : Hs D H0 ev σ H) (hL : ∀ q ∈ locs, ev.1 ≤ q.base) (V : CV own index ci y bytes maxL ret n) (hM : Ct l D H0 ev y (ws_ y bytes maxL ret) fr' lo' (.ref b :: As) σ (some (.int v)) σ') (hc : isC σ b ci = some ()) (hfl : fr' + 1 ≤ fr ∧ 8 + (maxL + 11) + lo' ≤ lo) (hn : As.length = n) (hl : ls.size = nL) (hst : st0 = As.reverse ++ .ref b :: rest) (hW : (rest.map fun v => v.category).sum ≤ 8) (hdg : decode cc pc = .ok (.invokevirtual index, 3))
    (kk : ∀ (H1 : Heap) (locs1 : List Loc), Hs D H0 ev σ' H1 → (∀ q ∈ locs1, ev.1 ≤ q.base) → W p l e R s m args below meth c H1 locs1 (H1.size - s.heap.size) (xtot H1 - xtot s.heap) Q (F0 m (pc + 3) ls ((.int v) :: rest))) : W p l e R s m args below meth c H locs cells slots Q (F0 m pc ls st0) := m_callV C hH hL V hM hc hfl hn hl hst hW hdg kk
theorem m_callVJ {v : Int64} (C : Cx p m meth c cc nL s args own R ev D H0 fr lo) (hH : Hs D H0 ev σ H) (hL : ∀ q ∈ locs, ev.1 ≤ q.base) (V : CV own index ci y bytes maxL ret n) (hM : Ct l D H0 ev y (ws_ y bytes maxL ret) fr' lo' (.ref b :: As) σ (some (.long v)) σ') (hc : isC σ b ci = some ()) (hfl : fr' + 1 ≤ fr ∧ 8 + (maxL + 11) + lo' ≤ lo) (hn : As.length = n) (hl : ls.size = nL) (hst : st0 = As.reverse ++ .ref b :: rest) (hW : (rest.map fun v => v.category).sum ≤ 8) (hdg : decode cc pc = .ok (.invokevirtual index, 3))
    (kk : ∀ (H1 : Heap) (locs1 : List Loc), Hs D H0 ev σ' H1 → (∀ q ∈ locs1, ev.1 ≤ q.base) → W p l e R s m args below meth c H1 locs1 (H1.size - s.heap.size) (xtot H1 - xtot s.heap) Q (F0 m (pc + 3) ls ((.long v) :: rest))) : W p l e R s m args below meth c H locs cells slots Q (F0 m pc ls st0) := m_callV C hH hL V hM hc hfl hn hl hst hW hdg kk
theorem m_callVA {v : Option Nat} (C : Cx p m meth c cc nL s args own R ev D H0 fr lo) (hH : Hs D H0 ev σ H) (hL : ∀ q ∈ locs, ev.1 ≤ q.base) (V : CV own index ci y bytes maxL ret n) (hM : Ct l D H0 ev y (ws_ y bytes maxL ret) fr' lo' (.ref b :: As) σ (some (va_rf v)) σ') (hc : isC σ b ci = some ()) (hfl : fr' + 1 ≤ fr ∧ 8 + (maxL + 11) + lo' ≤ lo) (hn : As.length = n) (hl : ls.size = nL) (hst : st0 = As.reverse ++ .ref b :: rest) (hW : (rest.map fun v => v.category).sum ≤ 8) (hdg : decode cc pc = .ok (.invokevirtual index, 3))
    (kk : ∀ (H1 : Heap) (locs1 : List Loc), Hs D H0 ev σ' H1 → (∀ q ∈ locs1, ev.1 ≤ q.base) → W p l e R s m args below meth c H1 locs1 (H1.size - s.heap.size) (xtot H1 - xtot s.heap) Q (F0 m (pc + 3) ls ((va_rf v) :: rest))) : W p l e R s m args below meth c H locs cells slots Q (F0 m pc ls st0) := m_callV C hH hL V hM hc hfl hn hl hst hW hdg kk
theorem m_callVN (C : Cx p m meth c cc nL s args own R ev D H0 fr lo) (hH : Hs D H0 ev σ H) (hL : ∀ q ∈ locs, ev.1 ≤ q.base) (V : CV own index ci y bytes maxL ret n) (hM : Ct l D H0 ev y (ws_ y bytes maxL ret) fr' lo' (.ref b :: As) σ none σ') (hc : isC σ b ci = some ()) (hfl : fr' + 1 ≤ fr ∧ 8 + (maxL + 11) + lo' ≤ lo) (hn : As.length = n) (hl : ls.size = nL) (hst : st0 = As.reverse ++ .ref b :: rest) (hW : (rest.map fun v => v.category).sum ≤ 8) (hdg : decode cc pc = .ok (.invokevirtual index, 3))
    (kk : ∀ (H1 : Heap) (locs1 : List Loc), Hs D H0 ev σ' H1 → (∀ q ∈ locs1, ev.1 ≤ q.base) → W p l e R s m args below meth c H1 locs1 (H1.size - s.heap.size) (xtot H1 - xtot s.heap) Q (F0 m (pc + 3) ls rest)) : W p l e R s m args below meth c H locs cells slots Q (F0 m pc ls st0) := m_callV C hH hL V hM hc hfl hn hl hst hW hdg kk
theorem m_callSI {v : Int32} (C : Cx p m meth c cc nL s args own R ev D H0 fr lo) (hH : Hs D H0 ev σ H) (hL : ∀ q ∈ locs, ev.1 ≤ q.base) (V : CS own index y bytes maxL ret n) (hM : Ct l D H0 ev y (ws_ y bytes maxL ret) fr' lo' As σ (some (.int v)) σ') (hfl : fr' + 1 ≤ fr ∧ 8 + (maxL + 11) + lo' ≤ lo) (hn : As.length = n) (hl : ls.size = nL) (hst : st0 = As.reverse ++ rest) (hW : (rest.map fun v => v.category).sum ≤ 8) (hdg : decode cc pc = .ok (.invokestatic index, 3))
    (kk : ∀ (H1 : Heap) (locs1 : List Loc), Hs D H0 ev σ' H1 → (∀ q ∈ locs1, ev.1 ≤ q.base) → W p l e R s m args below meth c H1 locs1 (H1.size - s.heap.size) (xtot H1 - xtot s.heap) Q (F0 m (pc + 3) ls ((.int v) :: rest))) : W p l e R s m args below meth c H locs cells slots Q (F0 m pc ls st0) := m_callS C hH hL V hM hfl hn hl hst hW hdg kk
theorem m_callSJ {v : Int64} (C : Cx p m meth c cc nL s args own R ev D H0 fr lo) (hH : Hs D H0 ev σ H) (hL : ∀ q ∈ locs, ev.1 ≤ q.base) (V : CS own index y bytes maxL ret n) (hM : Ct l D H0 ev y (ws_ y bytes maxL ret) fr' lo' As σ (some (.long v)) σ') (hfl : fr' + 1 ≤ fr ∧ 8 + (maxL + 11) + lo' ≤ lo) (hn : As.length = n) (hl : ls.size = nL) (hst : st0 = As.reverse ++ rest) (hW : (rest.map fun v => v.category).sum ≤ 8) (hdg : decode cc pc = .ok (.invokestatic index, 3))
    (kk : ∀ (H1 : Heap) (locs1 : List Loc), Hs D H0 ev σ' H1 → (∀ q ∈ locs1, ev.1 ≤ q.base) → W p l e R s m args below meth c H1 locs1 (H1.size - s.heap.size) (xtot H1 - xtot s.heap) Q (F0 m (pc + 3) ls ((.long v) :: rest))) : W p l e R s m args below meth c H locs cells slots Q (F0 m pc ls st0) := m_callS C hH hL V hM hfl hn hl hst hW hdg kk
theorem m_callSA {v : Option Nat} (C : Cx p m meth c cc nL s args own R ev D H0 fr lo) (hH : Hs D H0 ev σ H) (hL : ∀ q ∈ locs, ev.1 ≤ q.base) (V : CS own index y bytes maxL ret n) (hM : Ct l D H0 ev y (ws_ y bytes maxL ret) fr' lo' As σ (some (va_rf v)) σ') (hfl : fr' + 1 ≤ fr ∧ 8 + (maxL + 11) + lo' ≤ lo) (hn : As.length = n) (hl : ls.size = nL) (hst : st0 = As.reverse ++ rest) (hW : (rest.map fun v => v.category).sum ≤ 8) (hdg : decode cc pc = .ok (.invokestatic index, 3))
    (kk : ∀ (H1 : Heap) (locs1 : List Loc), Hs D H0 ev σ' H1 → (∀ q ∈ locs1, ev.1 ≤ q.base) → W p l e R s m args below meth c H1 locs1 (H1.size - s.heap.size) (xtot H1 - xtot s.heap) Q (F0 m (pc + 3) ls ((va_rf v) :: rest))) : W p l e R s m args below meth c H locs cells slots Q (F0 m pc ls st0) := m_callS C hH hL V hM hfl hn hl hst hW hdg kk
theorem m_callSN (C : Cx p m meth c cc nL s args own R ev D H0 fr lo) (hH : Hs D H0 ev σ H) (hL : ∀ q ∈ locs, ev.1 ≤ q.base) (V : CS own index y bytes maxL ret n) (hM : Ct l D H0 ev y (ws_ y bytes maxL ret) fr' lo' As σ none σ') (hfl : fr' + 1 ≤ fr ∧ 8 + (maxL + 11) + lo' ≤ lo) (hn : As.length = n) (hl : ls.size = nL) (hst : st0 = As.reverse ++ rest) (hW : (rest.map fun v => v.category).sum ≤ 8) (hdg : decode cc pc = .ok (.invokestatic index, 3))
    (kk : ∀ (H1 : Heap) (locs1 : List Loc), Hs D H0 ev σ' H1 → (∀ q ∈ locs1, ev.1 ≤ q.base) → W p l e R s m args below meth c H1 locs1 (H1.size - s.heap.size) (xtot H1 - xtot s.heap) Q (F0 m (pc + 3) ls rest)) : W p l e R s m args below meth c H locs cells slots Q (F0 m pc ls st0) := m_callS C hH hL V hM hfl hn hl hst hW hdg kk
theorem m_callIN (C : Cx p m meth c cc nL s args own R ev D H0 fr lo) (hH : Hs D H0 ev σ H) (hL : ∀ q ∈ locs, ev.1 ≤ q.base) (V : CI own index y bytes maxL n) (hM : Ct l D H0 ev y (ws_ y bytes maxL none) fr' lo' (.ref b :: As) σ none σ') (hfl : fr' + 1 ≤ fr ∧ 8 + (maxL + 11) + lo' ≤ lo) (hn : As.length = n) (hl : ls.size = nL) (hst : st0 = As.reverse ++ .ref b :: rest) (hW : (rest.map fun v => v.category).sum ≤ 8) (hdg : decode cc pc = .ok (.invokespecial index, 3))
    (kk : ∀ (H1 : Heap) (locs1 : List Loc), Hs D H0 ev σ' H1 → (∀ q ∈ locs1, ev.1 ≤ q.base) → W p l e R s m args below meth c H1 locs1 (H1.size - s.heap.size) (xtot H1 - xtot s.heap) Q (F0 m (pc + 3) ls rest)) : W p l e R s m args below meth c H locs cells slots Q (F0 m pc ls st0) := m_callI C hH hL V hM hfl hn hl hst hW hdg kk
end XC
/-- the walk's goal at a place -/
def GG (p : Program) (l : Launch) (e : Env) (R : Room) (s : State) (m : MethodId) (args : Array Value) (below : List Frame) (meth : Method) (c : Code) (D : Dx) (H0 : Heap) (ev : Ev) (nL : Nat) (Q : State → Prop) (σ : Mm) (pc : Nat) (lv : List (Nat × Value)) (st : List Value) : Prop :=
  ∀ (H : Heap) (locs : List Loc) (ls : Array Slot), Hs D H0 ev σ H → (∀ q ∈ locs, ev.1 ≤ q.base) → lv_has ls nL lv → W p l e R s m args below meth c H locs (H.size - s.heap.size) (xtot H - xtot s.heap) Q (F0 m pc ls st)
def bd2 {α β : Type} (o : Option (α × Mm)) (f : α → Mm → Option β) : Option β := o.bind fun q => f q.1 q.2
theorem ob2 {α β : Type} {o : Option (α × Mm)} {f : α → Mm → Option β} {r : β} (h : bd2 o f = some r) : ∃ v σ, o = some (v, σ) ∧ f v σ = some r := by
  obtain ⟨q, h1, h2⟩ := ob h
  exact ⟨q.1, q.2, h1, h2⟩
def nzI (y : Int32) : Option Unit := if y = 0 then none else some ()
def nzJ (y : Int64) : Option Unit := if y = 0 then none else some ()
def zbI (y : Int32) : Option Unit := if y = 0 ∨ y = 1 then some () else none
theorem nzI_ne {y : Int32} {u : Unit} (h : nzI y = some u) : ¬ y = 0 := by intro e; simp [nzI, e] at h
theorem nzJ_ne {y : Int64} {u : Unit} (h : nzJ y = some u) : ¬ y = 0 := by intro e; simp [nzJ, e] at h
theorem zbI_is {y : Int32} {u : Unit} (h : zbI y = some u) : y = 0 ∨ y = 1 := by
  unfold zbI at h
  split at h
  · assumption
  · cases h
theorem cp {c : Prop} {d : Decidable c} {α : Type} {a b : α} {r : α} (h : (if c then a else b) = r) (q : c) : a = r := (if_pos q).symm.trans h
theorem cn {c : Prop} {d : Decidable c} {α : Type} {a b : α} {r : α} (h : (if c then a else b) = r) (q : ¬ c) : b = r := (if_neg q).symm.trans h
