/-! arrays: loads, stores, lengths -/
theorem aldI_at {κ : Nat} {σ : Mm} {a : Nat} {i x : Int32} (h : aldI κ σ a i = some x) : ∃ (n : Nat) (f : Nat → Int32), σ.1 a = some (.inl (κ, n, .inl f)) ∧ vp_in i n ∧ f i.toNatClampNeg = x := by
  unfold aldI at h
  split at h
  · rename_i k n f e
    split at h
    · rename_i hc
      obtain ⟨rfl, h2⟩ := hc
      exact ⟨n, f, e, h2, Option.some.inj h⟩
    · cases h
  · cases h
theorem aldJ_at {σ : Mm} {a : Nat} {i : Int32} {x : Int64} (h : aldJ σ a i = some x) : ∃ (n : Nat) (f : Nat → Int64), σ.1 a = some (.inl (1, n, .inr (.inl f))) ∧ vp_in i n ∧ f i.toNatClampNeg = x := by
  unfold aldJ at h
  split at h
  · rename_i k n f e
    split at h
    · rename_i hc
      obtain ⟨rfl, h2⟩ := hc
      exact ⟨n, f, e, h2, Option.some.inj h⟩
    · cases h
  · cases h
theorem aldA_at {κ : Nat} {σ : Mm} {a : Nat} {i : Int32} {x : Option Nat} (h : aldA κ σ a i = some x) : ∃ (n : Nat) (f : Nat → Option Nat), σ.1 a = some (.inl (κ, n, .inr (.inr (.inr (.inr f))))) ∧ vp_in i n ∧ f i.toNatClampNeg = x := by
  unfold aldA at h
  split at h
  · rename_i k n f e
    split at h
    · rename_i hc
      obtain ⟨rfl, h2⟩ := hc
      exact ⟨n, f, e, h2, Option.some.inj h⟩
    · cases h
  · cases h
theorem astI_at {ev : Ev} {κ : Nat} {σ σ' : Mm} {a : Nat} {i x : Int32} (h : astI ev κ σ a i x = some σ') : ∃ (n : Nat) (f : Nat → Int32), σ.1 a = some (.inl (κ, n, .inl f)) ∧ ev.1 ≤ a ∧ vp_in i n ∧ σ' = (va_up σ.1 a (some (.inl (κ, n, .inl (upd f i.toNatClampNeg (vp_nar (xTy κ) x))))), σ.2) := by
  unfold astI at h
  split at h
  · rename_i k n f e
    split at h
    · rename_i hc
      obtain ⟨rfl, h2, h3⟩ := hc
      exact ⟨n, f, e, h2, h3, (Option.some.inj h).symm⟩
    · cases h
  · cases h
theorem astJ_at {ev : Ev} {σ σ' : Mm} {a : Nat} {i : Int32} {x : Int64} (h : astJ ev σ a i x = some σ') : ∃ (n : Nat) (f : Nat → Int64), σ.1 a = some (.inl (1, n, .inr (.inl f))) ∧ ev.1 ≤ a ∧ vp_in i n ∧ σ' = (va_up σ.1 a (some (.inl (1, n, .inr (.inl (vp_updL f i.toNatClampNeg x))))), σ.2) := by
  unfold astJ at h
  split at h
  · rename_i k n f e
    split at h
    · rename_i hc
      obtain ⟨rfl, h2, h3⟩ := hc
      exact ⟨n, f, e, h2, h3, (Option.some.inj h).symm⟩
    · cases h
  · cases h
section XA
variable {p : Program} {l : Launch} {e : Env} {R : Room} {s : State} {m : MethodId} {args : Array Value} {below : List Frame} {meth : Method} {c : Code} {H : Heap} {locs : List Loc} {cells slots : Nat} {Q : State → Prop}
variable {cc : ByteArray} {nL pc : Nat} {ls : Array Slot} {rest : List Value} {D : Dx} {H0 : Heap} {ev : Ev} {σ σ' : Mm} {own : String} {fr lo : Nat}
theorem m_iald (C : Cx p m meth c cc nL s args own R ev D H0 fr lo) (hH : Hs D H0 ev σ H) {a : Nat} {i : Int32} {v : Int32} (hv : aldI 0 σ a i = some v) (hdg : decode cc pc = .ok (.iaload, 1))
    (kk : W p l e R s m args below meth c H locs cells slots Q (F0 m (pc + 1) ls (.int v :: rest))) : W p l e R s m args below meth c H locs cells slots Q (F0 m pc ls (.int i :: .ref a :: rest)) := by
  obtain ⟨n, f, h1, h2, rfl⟩ := aldI_at hv
  obtain ⟨cell, q1, q2, q3, q4, q5⟩ := Hs_arr hH C.2.1 (Nat.le_of_ble_eq_true rfl) h1
  exact W.iald C.x C.b q1 q2 q3 (fun z => h2 (z.imp_right (Nat.le_trans q4.1))) (q5 _ (Nat.not_le.mp fun q => h2 (Or.inr q))) rfl rfl hdg kk
theorem m_zald (C : Cx p m meth c cc nL s args own R ev D H0 fr lo) (hH : Hs D H0 ev σ H) {a : Nat} {i : Int32} {v : Int32} (hv : aldI 2 σ a i = some v) (hdg : decode cc pc = .ok (.baload, 1))
    (kk : W p l e R s m args below meth c H locs cells slots Q (F0 m (pc + 1) ls (.int v :: rest))) : W p l e R s m args below meth c H locs cells slots Q (F0 m pc ls (.int i :: .ref a :: rest)) := by
  obtain ⟨n, f, h1, h2, rfl⟩ := aldI_at hv
  obtain ⟨cell, q1, q2, q3, q4, q5⟩ := Hs_arr hH C.2.1 (Nat.le_of_ble_eq_true rfl) h1
  exact W.zald C.x C.b q1 q2 q3 (fun z => h2 (z.imp_right (Nat.le_trans q4.1))) (q5 _ (Nat.not_le.mp fun q => h2 (Or.inr q))) rfl rfl hdg kk
theorem m_bald (C : Cx p m meth c cc nL s args own R ev D H0 fr lo) (hH : Hs D H0 ev σ H) {a : Nat} {i : Int32} {v : Int32} (hv : aldI 3 σ a i = some v) (hdg : decode cc pc = .ok (.baload, 1))
    (kk : W p l e R s m args below meth c H locs cells slots Q (F0 m (pc + 1) ls (.int v :: rest))) : W p l e R s m args below meth c H locs cells slots Q (F0 m pc ls (.int i :: .ref a :: rest)) := by
  obtain ⟨n, f, h1, h2, rfl⟩ := aldI_at hv
  obtain ⟨cell, q1, q2, q3, q4, q5⟩ := Hs_arr hH C.2.1 (Nat.le_of_ble_eq_true rfl) h1
  exact W.bald C.x C.b q1 q2 q3 (fun z => h2 (z.imp_right (Nat.le_trans q4.1))) (q5 _ (Nat.not_le.mp fun q => h2 (Or.inr q))) rfl rfl hdg kk
theorem m_lald (C : Cx p m meth c cc nL s args own R ev D H0 fr lo) (hH : Hs D H0 ev σ H) {a : Nat} {i : Int32} {v : Int64} (hv : aldJ σ a i = some v) (hdg : decode cc pc = .ok (.laload, 1))
    (kk : W p l e R s m args below meth c H locs cells slots Q (F0 m (pc + 1) ls (.long v :: rest))) : W p l e R s m args below meth c H locs cells slots Q (F0 m pc ls (.int i :: .ref a :: rest)) := by
  obtain ⟨n, f, h1, h2, rfl⟩ := aldJ_at hv
  obtain ⟨cell, q1, q2, q3, q4, q5⟩ := Hs_arr hH C.2.1 (Nat.le_of_ble_eq_true rfl) h1
  exact W.lald C.x C.b q1 q2 q3 (fun z => h2 (z.imp_right (Nat.le_trans q4.1))) (q5 _ (Nat.not_le.mp fun q => h2 (Or.inr q))) rfl rfl hdg kk
theorem m_aald {κ : Nat} (hκ : (xTy κ).isReference = true) (hκ7 : κ < 9) (C : Cx p m meth c cc nL s args own R ev D H0 fr lo) (hH : Hs D H0 ev σ H) {a : Nat} {i : Int32} {v : Option Nat} (hv : aldA κ σ a i = some v) (hdg : decode cc pc = .ok (.aaload, 1))
    (kk : W p l e R s m args below meth c H locs cells slots Q (F0 m (pc + 1) ls (va_rf v :: rest))) : W p l e R s m args below meth c H locs cells slots Q (F0 m pc ls (.int i :: .ref a :: rest)) := by
  obtain ⟨n, f, h1, h2, rfl⟩ := aldA_at hv
  obtain ⟨cell, q1, q2, q3, q4, q5⟩ := Hs_arr hH C.2.1 hκ7 h1
  exact W.aald C.x C.b q1 q2 hκ q3 (fun z => h2 (z.imp_right (Nat.le_trans q4.1))) (q5 _ (Nat.not_le.mp fun q => h2 (Or.inr q))) rfl rfl hdg kk
theorem m_alen (C : Cx p m meth c cc nL s args own R ev D H0 fr lo) (hH : Hs D H0 ev σ H) {a : Nat} {v : Int32} (hv : alen σ a = some v) (hdg : decode cc pc = .ok (.arraylength, 1))
    (kk : W p l e R s m args below meth c H locs cells slots Q (F0 m (pc + 1) ls (.int v :: rest))) : W p l e R s m args below meth c H locs cells slots Q (F0 m pc ls (.ref a :: rest)) := by
  unfold alen at hv
  split at hv
  · rename_i x h1
    split at hv
    · rename_i h7
      obtain ⟨cell, q1, q2, q3, q4, q5⟩ := Hs_arr hH C.2.1 h7 h1
      exact W.alen C.x C.b q1 q2 (q4.2.1.trans (Option.some.inj hv)) rfl rfl hdg kk
    · cases hv
  · cases hv
theorem m_stI (hH : Hs D H0 ev σ H) (hL : ∀ q ∈ locs, ev.1 ≤ q.base) {a n : Nat} {κ : Nat} {f : Nat → Int32} {i x : Int32} (h1 : σ.1 a = some (.inl (κ, n, .inl f))) (ha : ev.1 ≤ a) {H1 : Heap} (e1 : H1[a]? = some ((vp_cell (D.2 κ) (n, .inl f)).setSlot i.toNatClampNeg (.int x))) (z : H1.size = H.size) (oq : ∀ q : Nat, q ≠ a → H1[q]? = H[q]?) :
    Hs D H0 ev (va_up σ.1 a (some (.inl (κ, n, .inl (upd f i.toNatClampNeg x)))), σ.2) H1 ∧ ∀ q ∈ locs ++ [(⟨a, i.toNatClampNeg⟩ : Loc)], ev.1 ≤ q.base := by
  refine ⟨Hs_put hH (hH.2.2.2.2.2.2.1 a _ ha h1) ha e1 z oq ?_, fun q hq => ?_⟩
  · show H1[a]? = some (vp_cell _ _)
    rw [e1]
    rw [vp_cell_i, vp_cell_i, arrV_store]
    congr 2
    funext q
    by_cases hq : q = i.toNatClampNeg
    · subst hq; simp [updV, upd]
    · simp [updV, upd, hq]
  · rcases List.mem_append.mp hq with h | h
    · exact hL q h
    · rw [List.mem_singleton.mp h]; exact ha
theorem m_iast (C : Cx p m meth c cc nL s args own R ev D H0 fr lo) (hH : Hs D H0 ev σ H) (hL : ∀ q ∈ locs, ev.1 ≤ q.base) {a : Nat} {i x : Int32} (hv : astI ev 0 σ a i x = some σ') (hdg : decode cc pc = .ok (.iastore, 1))
    (kk : ∀ (H1 : Heap) (locs1 : List Loc), Hs D H0 ev σ' H1 → (∀ q ∈ locs1, ev.1 ≤ q.base) → W p l e R s m args below meth c H1 locs1 (H1.size - s.heap.size) (xtot H1 - xtot s.heap) Q (F0 m (pc + 1) ls rest)) : W p l e R s m args below meth c H locs cells slots Q (F0 m pc ls (.int x :: .int i :: .ref a :: rest)) := by
  obtain ⟨n, f, h1, h2, h3, rfl⟩ := astI_at hv
  refine W.iast C.x C.b (hH.2.2.2.2.2.2.1 a _ h2 h1) ((C.2.1.1.2 0 _ rfl).1 n (fun j => .int (f j))) (fun q => by cases q) (by show ¬ (i < 0 ∨ (arrV _ _ _).slots.size ≤ _); rw [arrV_size]; exact h3) rfl rfl hdg fun H1 e1 z oq => ?_
  obtain ⟨r1, r2⟩ := m_stI hH hL h1 h2 e1 z oq
  exact xtight (kk H1 _ r1 r2)
theorem m_last (C : Cx p m meth c cc nL s args own R ev D H0 fr lo) (hH : Hs D H0 ev σ H) (hL : ∀ q ∈ locs, ev.1 ≤ q.base) {a : Nat} {i : Int32} {x : Int64} (hv : astJ ev σ a i x = some σ') (hdg : decode cc pc = .ok (.lastore, 1))
    (kk : ∀ (H1 : Heap) (locs1 : List Loc), Hs D H0 ev σ' H1 → (∀ q ∈ locs1, ev.1 ≤ q.base) → W p l e R s m args below meth c H1 locs1 (H1.size - s.heap.size) (xtot H1 - xtot s.heap) Q (F0 m (pc + 1) ls rest)) : W p l e R s m args below meth c H locs cells slots Q (F0 m pc ls (.long x :: .int i :: .ref a :: rest)) := by
  obtain ⟨n, f, h1, h2, h3, rfl⟩ := astJ_at hv
  refine W.last C.x C.b (hH.2.2.2.2.2.2.1 a _ h2 h1) ((C.2.1.1.2 1 _ rfl).1 n (fun j => .long (f j))) (fun q => by cases q) (by show ¬ (i < 0 ∨ (arrV _ _ _).slots.size ≤ _); rw [arrV_size]; exact h3) rfl rfl hdg fun H1 e1 z oq => ?_
  refine xtight (kk H1 _ (Hs_put hH (hH.2.2.2.2.2.2.1 a _ h2 h1) h2 e1 z oq ?_) fun q hq => ?_)
  · show H1[a]? = some (vp_cell _ _)
    rw [e1]
    show some ((vp_cell _ _).setSlot _ _) = _
    rw [vp_cell_l]
    show _ = some (vp_cell _ (_, Sum.inr (Sum.inl _)))
    rw [vp_cell_l, arrV_store]
    congr 2
    funext q
    by_cases hq : q = i.toNatClampNeg
    · subst hq; simp [updV, vp_updL]
    · simp [updV, vp_updL, hq]
  · rcases List.mem_append.mp hq with h | h
    · exact hL q h
    · rw [List.mem_singleton.mp h]; exact h2
theorem m_zast (C : Cx p m meth c cc nL s args own R ev D H0 fr lo) (hH : Hs D H0 ev σ H) (hL : ∀ q ∈ locs, ev.1 ≤ q.base) {a : Nat} {i x : Int32} (hv : astI ev 2 σ a i x = some σ') (hdg : decode cc pc = .ok (.bastore, 1))
    (kk : ∀ (H1 : Heap) (locs1 : List Loc), Hs D H0 ev σ' H1 → (∀ q ∈ locs1, ev.1 ≤ q.base) → W p l e R s m args below meth c H1 locs1 (H1.size - s.heap.size) (xtot H1 - xtot s.heap) Q (F0 m (pc + 1) ls rest)) : W p l e R s m args below meth c H locs cells slots Q (F0 m pc ls (.int x :: .int i :: .ref a :: rest)) := by
  obtain ⟨n, f, h1, h2, h3, rfl⟩ := astI_at hv
  refine W.zast C.x C.b (hH.2.2.2.2.2.2.1 a _ h2 h1) ((C.2.1.1.2 2 _ rfl).1 n (fun j => .int (f j))) (fun q => by cases q) (by show ¬ (i < 0 ∨ (arrV _ _ _).slots.size ≤ _); rw [arrV_size]; exact h3) rfl rfl hdg fun H1 e1 z oq => ?_
  obtain ⟨r1, r2⟩ := m_stI hH hL h1 h2 e1 z oq
  exact xtight (kk H1 _ r1 r2)
theorem m_bast (C : Cx p m meth c cc nL s args own R ev D H0 fr lo) (hH : Hs D H0 ev σ H) (hL : ∀ q ∈ locs, ev.1 ≤ q.base) {a : Nat} {i x : Int32} (hv : astI ev 3 σ a i x = some σ') (hdg : decode cc pc = .ok (.bastore, 1))
    (kk : ∀ (H1 : Heap) (locs1 : List Loc), Hs D H0 ev σ' H1 → (∀ q ∈ locs1, ev.1 ≤ q.base) → W p l e R s m args below meth c H1 locs1 (H1.size - s.heap.size) (xtot H1 - xtot s.heap) Q (F0 m (pc + 1) ls rest)) : W p l e R s m args below meth c H locs cells slots Q (F0 m pc ls (.int x :: .int i :: .ref a :: rest)) := by
  obtain ⟨n, f, h1, h2, h3, rfl⟩ := astI_at hv
  refine W.bast C.x C.b (hH.2.2.2.2.2.2.1 a _ h2 h1) ((C.2.1.1.2 3 _ rfl).1 n (fun j => .int (f j))) (fun q => by cases q) (by show ¬ (i < 0 ∨ (arrV _ _ _).slots.size ≤ _); rw [arrV_size]; exact h3) rfl rfl hdg fun H1 e1 z oq => ?_
  obtain ⟨r1, r2⟩ := m_stI hH hL h1 h2 e1 z oq
  exact xtight (kk H1 _ r1 r2)
end XA
