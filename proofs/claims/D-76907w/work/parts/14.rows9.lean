/-! statics; arrays of references; casts; calls through interfaces, of inherited methods, of the superclass -/
def gsI (ev : Ev) (k : Nat) : Option Int32 := match ev.2.2.2.1 k with
  | .int x => some x
  | _ => none
def gsA (ev : Ev) (k : Nat) : Option (Option Nat) := match ev.2.2.2.1 k with
  | .null => some none
  | .ref a => some (some a)
  | _ => none
/-- a static field, by its link -/
def SL (own : String) (index k : Nat) : Prop := ∃ (q : String × String × String), xSt[k]? = some q ∧ Cond.fieldLink own index q.1 q.2.1 q.2.2 ∈ lw_all
/-- what may stand in an array of references -/
def asg (σ : Mm) (κ : Nat) (v : Nat) : Bool := match σ.1 v with
  | some (.inr o) => match xCl[o.1]? with
    | some q => match xTy κ with
      | .object E => decide (q.1 = E) || decide ((q.1, E) ∈ xCa)
      | _ => false
    | none => false
  | some (.inl x) => decide (κ = 6 ∧ x.1 = 1)
  | none => false
def astA (ev : Ev) (κ : Nat) (σ : Mm) (a : Nat) (i : Int32) (r : Option Nat) : Option Mm := match σ.1 a with
  | some (.inl (k, n, .inr (.inr (.inr (.inr f))))) => if k = κ ∧ ev.1 ≤ a ∧ (r.all (asg σ κ)) = true ∧ ¬ (i < 0 ∨ n ≤ i.toNatClampNeg) then some (va_up σ.1 a (some (.inl (k, n, .inr (.inr (.inr (.inr (va_up f i.toNatClampNeg r))))))), σ.2) else none
  | _ => none
theorem astA_at {ev : Ev} {κ : Nat} {σ σ' : Mm} {a : Nat} {i : Int32} {r : Option Nat} (h : astA ev κ σ a i r = some σ') : ∃ (n : Nat) (f : Nat → Option Nat), σ.1 a = some (.inl (κ, n, .inr (.inr (.inr (.inr f))))) ∧ ev.1 ≤ a ∧ (r.all (asg σ κ)) = true ∧ vp_in i n ∧ σ' = (va_up σ.1 a (some (.inl (κ, n, .inr (.inr (.inr (.inr (va_up f i.toNatClampNeg r))))))), σ.2) := by
  unfold astA at h
  split at h
  · rename_i k n f e
    split at h
    · rename_i hc
      obtain ⟨rfl, h2, h3, h4⟩ := hc
      exact ⟨n, f, e, h2, h3, h4, (Option.some.inj h).symm⟩
    · cases h
  · cases h
section XQ
variable {p : Program} {l : Launch} {e : Env} {R : Room} {s : State} {m : MethodId} {args : Array Value} {below : List Frame} {meth : Method} {c : Code} {H : Heap} {locs : List Loc} {cells slots : Nat} {Q : State → Prop}
variable {cc : ByteArray} {nL pc : Nat} {ls : Array Slot} {rest : List Value} {D : Dx} {H0 : Heap} {ev : Ev} {σ σ' : Mm} {own : String} {fr lo : Nat}
theorem m_gsV (C : Cx p m meth c cc nL s args own R ev D H0 fr lo) (hH : Hs D H0 ev σ H) {index k : Nat} (F : SL own index k) {v : Value} (hv : ev.2.2.2.1 k = v) (hdg : decode cc pc = .ok (.getstatic index, 3))
    (kk : W p l e R s m args below meth c H locs cells slots Q (F0 m (pc + 3) ls (v :: rest))) : W p l e R s m args below meth c H locs cells slots Q (F0 m pc ls rest) := by
  obtain ⟨⟨hx, hb, hml, hown, hts⟩, hK, -⟩ := C
  obtain ⟨q, hq, hl⟩ := F
  obtain ⟨cf, kf, fi, f, a, cell, h1, h2, h3, h4, h5, h6, h7, h8⟩ := hK.2.2.2.2.2.2.2.1 k q hq
  exact W.gets hx hb hown (hts _ hl) h1 h2 h3 h4 (by rw [hH.2.2.2.2.2.1 a (by omega)]; exact h5) (fun e => by rw [e] at h6; cases h6) (by rw [← hv]; exact h7) rfl hdg kk
theorem m_gsI (C : Cx p m meth c cc nL s args own R ev D H0 fr lo) (hH : Hs D H0 ev σ H) {index k : Nat} (F : SL own index k) {v : Int32} (hv : gsI ev k = some v) (hdg : decode cc pc = .ok (.getstatic index, 3))
    (kk : W p l e R s m args below meth c H locs cells slots Q (F0 m (pc + 3) ls (.int v :: rest))) : W p l e R s m args below meth c H locs cells slots Q (F0 m pc ls rest) := by
  refine m_gsV C hH F (v := .int v) ?_ hdg kk
  unfold gsI at hv
  split at hv
  · rename_i x e; cases hv; exact e
  · cases hv
theorem m_gsA (C : Cx p m meth c cc nL s args own R ev D H0 fr lo) (hH : Hs D H0 ev σ H) {index k : Nat} (F : SL own index k) {v : Option Nat} (hv : gsA ev k = some v) (hdg : decode cc pc = .ok (.getstatic index, 3))
    (kk : W p l e R s m args below meth c H locs cells slots Q (F0 m (pc + 3) ls (va_rf v :: rest))) : W p l e R s m args below meth c H locs cells slots Q (F0 m pc ls rest) := by
  refine m_gsV C hH F (v := va_rf v) ?_ hdg kk
  unfold gsA at hv
  split at hv
  · rename_i e; cases hv; exact e
  · rename_i x e; cases hv; exact e
  · cases hv
theorem m_stA (hH : Hs D H0 ev σ H) (hL : ∀ q ∈ locs, ev.1 ≤ q.base) {a n κ : Nat} {f : Nat → Option Nat} {i : Int32} {r : Option Nat} (h1 : σ.1 a = some (.inl (κ, n, .inr (.inr (.inr (.inr f)))))) (ha : ev.1 ≤ a) {H1 : Heap} (e1 : H1[a]? = some ((vp_cell (D.2 κ) (n, .inr (.inr (.inr (.inr f))))).setSlot i.toNatClampNeg (va_rf r))) (z : H1.size = H.size) (oq : ∀ q : Nat, q ≠ a → H1[q]? = H[q]?) :
    Hs D H0 ev (va_up σ.1 a (some (.inl (κ, n, .inr (.inr (.inr (.inr (va_up f i.toNatClampNeg r))))))), σ.2) H1 ∧ ∀ q ∈ locs ++ [(⟨a, i.toNatClampNeg⟩ : Loc)], ev.1 ≤ q.base := by
  refine ⟨Hs_put hH (hH.2.2.2.2.2.2.1 a _ ha h1) ha e1 z oq ?_, fun q hq => ?_⟩
  · show H1[a]? = some (vp_cell _ _)
    rw [e1]
    rw [vp_cell_q, vp_cell_q, arrV_store]
    congr 2
    funext q
    by_cases hq : q = i.toNatClampNeg
    · subst hq; simp [updV, va_up]
    · simp [updV, va_up, hq]
  · rcases List.mem_append.mp hq with h | h
    · exact hL q h
    · rw [List.mem_singleton.mp h]; exact ha
/-- a cell of the map of a class (or an array of longs) may stand in an array over κ -/
theorem asg_ok (hK : Kx D H0 ev s) (hH : Hs D H0 ev σ H) {κ v : Nat} (hκ : κ = 4 ∨ κ = 5) (h : asg σ κ v = true) : ∃ (E : String) (cv : Cell), xTy κ = .object E ∧ H[v]? = some cv ∧ cv.vm.isStatics = false ∧ (∃ kC : Class, s.vm.classes[cv.cls]? = some kC) ∧ ∀ comp : ClassId, s.vm.findClass E = some comp → s.vm.assignable cv.cls comp = true := by
  unfold asg at h
  split at h
  · rename_i o ho
    split at h
    · rename_i q hq
      split at h
      · rename_i E hE
        obtain ⟨cell, q1, q2, q3, q4, -⟩ := Hs_obj hH hK hq ho
        refine ⟨E, cell, hE, q1, q2, ?_, ?_⟩
        · obtain ⟨kC, hkC, -⟩ := Vm.findClass_spec q4
          exact ⟨kC, hkC⟩
        · intro comp hcomp
          have hKn := (hK.1.1 _ _ hq).2
          rcases Bool.or_eq_true _ _ ▸ h with h | h
          · have h := of_decide_eq_true h
            rw [h] at q4
            have e1 : cell.cls = comp := Option.some.inj (q4.symm.trans hcomp)
            rw [← e1]
            refine va_assign (C := E) (cC := cell.cls) ?_
            rw [← h]
            have e2 : cell.cls = D.1.1 o.1 := by rw [← h] at q4; exact Option.some.inj (q4.symm.trans hKn.1)
            rw [e2]
            exact hKn
          · have h := of_decide_eq_true h
            obtain ⟨c0, t1, f1, f2, f3⟩ := Cond.castable_spec (va_Nw.use (A := #[]) rfl (hK.2.2.2.2.2.1 _ h))
            have f1 : s.vm.findClass q.1 = some c0 := f1
            have f2 : s.vm.findClass E = some t1 := f2
            rw [Option.some.inj (q4.symm.trans f1), Option.some.inj (hcomp.symm.trans f2)]
            exact f3
      · cases h
    · cases h
  · rename_i x hx
    have h := of_decide_eq_true h
    rcases hκ with rfl | rfl <;> exact absurd h.1 (by decide)
  · cases h
theorem m_aast {κ : Nat} (hκ : κ = 4 ∨ κ = 5) (C : Cx p m meth c cc nL s args own R ev D H0 fr lo) (hH : Hs D H0 ev σ H) (hL : ∀ q ∈ locs, ev.1 ≤ q.base) {a : Nat} {i : Int32} {x : Option Nat} (hv : astA ev κ σ a i x = some σ') (hdg : decode cc pc = .ok (.aastore, 1))
    (kk : ∀ (H1 : Heap) (locs1 : List Loc), Hs D H0 ev σ' H1 → (∀ q ∈ locs1, ev.1 ≤ q.base) → W p l e R s m args below meth c H1 locs1 (H1.size - s.heap.size) (xtot H1 - xtot s.heap) Q (F0 m (pc + 1) ls rest)) : W p l e R s m args below meth c H locs cells slots Q (F0 m pc ls (va_rf x :: .int i :: .ref a :: rest)) := by
  obtain ⟨n, f, h1, h2, h3, h4, rfl⟩ := astA_at hv
  have hlt : i.toNatClampNeg < n := Nat.not_le.mp fun q => h4 (Or.inr q)
  have h0 : ¬ i < 0 := fun q => h4 (Or.inl q)
  have hc : H[a]? = some (vp_cell (D.2 κ) (n, .inr (.inr (.inr (.inr f))))) := hH.2.2.2.2.2.2.1 a _ h2 h1
  have hκ9 : κ < 7 := by omega
  cases x with
  | none =>
    obtain ⟨E, hE⟩ : ∃ E, xTy κ = .object E := by rcases hκ with rfl | rfl <;> exact ⟨_, rfl⟩
    refine va_WaastN (C := E) C.x C.b hc (by rw [← hE]; exact (C.2.1.1.2 κ _ (xTys_at hκ9)).1 n (fun j => va_rf (f j))) (fun q => by cases q) (by show ¬ (i < 0 ∨ (arrV _ _ _).slots.size ≤ _); rw [arrV_size]; exact h4) rfl rfl hdg fun H1 e1 z oq => ?_
    obtain ⟨r1, r2⟩ := m_stA (r := none) hH hL h1 h2 e1 z oq
    exact xtight (kk H1 _ r1 r2)
  | some v =>
    obtain ⟨E, cv, hE, g1, g3, ⟨kC, hkC⟩, hasg⟩ := asg_ok C.2.1 hH hκ (by simpa using h3)
    have hRA := (C.2.1.1.2 κ _ (xTys_at hκ9)).2
    rw [hE] at hRA
    obtain ⟨kA, comp, k1, k2, k3, -⟩ := hRA
    obtain ⟨kE, hkE, -⟩ := Vm.findClass_spec k3
    refine W.aast C.x C.b hc (fun q h => by cases h) (fun h => by cases h) k1 k2 rfl hkE ⟨h0, by show _ < (arrV _ _ _).slots.size; rw [arrV_size]; exact hlt⟩ g1 (fun q h => by rw [h] at g3; cases g3) hkC (hasg comp k3) rfl rfl hdg fun H1 e1 z oq => ?_
    obtain ⟨r1, r2⟩ := m_stA (r := some v) hH hL h1 h2 e1 z oq
    exact xtight (kk H1 _ r1 r2)
end XQ
