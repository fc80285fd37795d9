/-! rows: long[][] of the map, strings, statics of nest mates -/
section XS1
variable {p : Program} {l : Launch} {e : Env} {R : Room} {s : State} {m : MethodId} {args : Array Value} {below : List Frame} {meth : Method} {c : Code} {H : Heap} {locs : List Loc} {cells slots : Nat} {Q : State → Prop}
variable {cc : ByteArray} {nL pc : Nat} {ls : Array Slot} {rest : List Value} {D : Dx} {H0 : Heap} {ev : Ev} {σ σ' : Mm} {own : String} {fr lo : Nat}
theorem xJJ (hK : Kx D H0 ev s) : ∃ (kA kC : Class) (cJ : ClassId), s.vm.findClass "[[J" = some (D.2 6) ∧ s.vm.findClass "[J" = some (D.2 1) ∧ s.vm.classes[D.2 6]? = some kA ∧ kA.kind = .array (D.2 1) (.array .long) ∧ s.vm.classes[D.2 1]? = some kC ∧ kC.kind = .array cJ .long := by
  obtain ⟨comp, cA, kA, g1, g2, g3, g4, g5⟩ := arrayOverA_spec hK.2.2.2.2.1.2.1
  have f6 : s.vm.findClass ("[" ++ (FieldType.array .long).toString) = some (D.2 6) := (hK.1.2 6 _ (xTys_at (D := D) (by decide))).2
  have f1 : s.vm.findClass ("[" ++ FieldType.long.toString) = some (D.2 1) := (hK.1.2 1 _ (xTys_at (D := D) (by decide))).2
  have e6 : "[" ++ (FieldType.array .long).toString = "[[J" := by decide
  have e1 : "[" ++ FieldType.long.toString = "[J" := by decide
  have e0 : (FieldType.array .long).toString = "[J" := by decide
  rw [e6] at f6 g5
  rw [e1] at f1
  rw [e0] at g1
  obtain rfl : cA = D.2 6 := Option.some.inj (g5.symm.trans f6)
  obtain rfl : comp = D.2 1 := Option.some.inj (g1.symm.trans f1)
  obtain ⟨w1, kC, w2, cJ, w3⟩ := (hK.1.2 1 _ (xTys_at (D := D) (by decide))).1 0 (fun _ => .null)
  exact ⟨kA, kC, cJ, f6, f1, g3, g4, w2, w3⟩
theorem m_multi (C : Cx p m meth c cc nL s args own R ev D H0 fr lo) (hH : Hs D H0 ev σ H) (hL : ∀ q ∈ locs, ev.1 ≤ q.base) {n k : Int32} {index a : Nat} (hl : Cond.classLink own index "[[J" ∈ lw_all) (hv : nwM ev σ n k = some (a, σ')) (hdg : decode cc pc = .ok (.multianewarray index 2, 4))
    (kk : ∀ (H1 : Heap) (locs1 : List Loc), Hs D H0 ev σ' H1 → (∀ q ∈ locs1, ev.1 ≤ q.base) → W p l e R s m args below meth c H1 locs1 (H1.size - s.heap.size) (xtot H1 - xtot s.heap) Q (F0 m (pc + 4) ls (.ref a :: rest))) : W p l e R s m args below meth c H locs cells slots Q (F0 m pc ls (.int k :: .int n :: rest)) := by
  obtain ⟨⟨hx, hb, hml, hown, hts⟩, hK, hR1, hR2, -⟩ := C
  unfold nwM at hv
  split at hv
  · rename_i hq
    cases hv
    obtain ⟨q1, q2, q3, q4, q5, q6⟩ := hq
    refine xknow fun k1 k2 => ?_
    have z1 := hH.1
    have z2 := hH.2.1
    have z3 := hH.2.2.1
    obtain ⟨kA, kC, cJ, f6, f1, g3, g4, w2, w3⟩ := xJJ hK
    refine xMw hx hb hown (hts _ hl) f6 g3 g4 w2 w3 rfl hdg rfl q1 q2 q3 q4 (by rw [hR1]; omega) (by rw [hR2]; omega) fun H1 locs1 e1 e2 e3 e4 e5 e6 => ?_
    have hL1 : ∀ q ∈ locs1, ev.1 ≤ q.base := by
      intro q hq
      rcases e6 q hq with h | h
      · exact hL q h
      · rw [h, z1]; exact z3
    have hk := kk H1 locs1 ⟨by rw [e1, z1], by rw [e5, z2], by show ev.1 ≤ σ.2.1 + 1 + n.toNatClampNeg; omega, q5, q6, fun q hq => ?_, fun b e' hnb hb => ?_, fun b hb => ?_⟩ hL1
    · rw [← z1] at hk
      exact xtight hk
    · rw [e2 q (by omega)]; exact hH.2.2.2.2.2.1 q hq
    · by_cases h1 : b = σ.2.1
      · subst h1
        have : e' = .inl (6, n.toNatClampNeg, .inr (.inr (.inr (.inr fun j => if j < n.toNatClampNeg then some (σ.2.1 + 1 + j) else none)))) := by simpa using hb.symm
        subst this
        show H1[σ.2.1]? = some (vp_cell (D.2 6) _)
        rw [← z1, e3, vp_cell_q]
        unfold xMo
        congr 2
        funext j
        by_cases hj : j < n.toNatClampNeg
        · simp [hj, va_rf]
        · simp [hj, va_rf]
      · by_cases h2 : σ.2.1 < b ∧ b ≤ σ.2.1 + n.toNatClampNeg
        · have : e' = .inl (1, k.toNatClampNeg, .inr (.inl fun _ => 0)) := by simpa [h1, h2] using hb.symm
          subst this
          show H1[b]? = some (vp_cell (D.2 1) _)
          have := e4 (b - σ.2.1 - 1) (by omega)
          rw [show H.size + 1 + (b - σ.2.1 - 1) = b by omega] at this
          rw [this]
          rfl
        · have hb' : σ.1 b = some e' := by simpa [h1, h2] using hb
          have := hH.2.2.2.2.2.2.1 b e' hnb hb'
          exact va_at.kept this (e2 b (va_at.lt this))
    · have h1 : b ≠ σ.2.1 := by omega
      have h2 : ¬ (σ.2.1 < b ∧ b ≤ σ.2.1 + n.toNatClampNeg) := by omega
      show (if b = σ.2.1 then _ else if σ.2.1 < b ∧ b ≤ σ.2.1 + n.toNatClampNeg then _ else σ.1 b) = _
      rw [if_neg h1, if_neg h2]
      exact hH.2.2.2.2.2.2.2 b hb
  · cases hv
theorem m_anewJ {index : Nat} (hl : Cond.classLink own index "[J" ∈ lw_all) (C : Cx p m meth c cc nL s args own R ev D H0 fr lo) (hH : Hs D H0 ev σ H) (hL : ∀ q ∈ locs, ev.1 ≤ q.base) {n : Int32} {a : Nat} (hv : nwA ev σ 6 n 4 (.inr (.inr (.inr (.inr fun _ => none)))) = some (a, σ')) (hdg : decode cc pc = .ok (.anewarray index, 3))
    (kk : ∀ (H1 : Heap) (locs1 : List Loc), Hs D H0 ev σ' H1 → (∀ q ∈ locs1, ev.1 ≤ q.base) → W p l e R s m args below meth c H1 locs1 (H1.size - s.heap.size) (xtot H1 - xtot s.heap) Q (F0 m (pc + 3) ls (.ref a :: rest))) : W p l e R s m args below meth c H locs cells slots Q (F0 m pc ls (.int n :: rest)) := by
  obtain ⟨⟨hx, hb, hml, hown, hts⟩, hK, hR1, hR2, -⟩ := C
  unfold nwA at hv
  split at hv
  · rename_i hq
    cases hv
    refine xknow fun k1 k2 => ?_
    have z1 := hH.1
    have z2 := hH.2.1
    obtain ⟨-, -, -, f6, -, -⟩ := xJJ hK
    have e0 : (FieldType.array .long).toString = "[J" := by decide
    have e6 : "[" ++ (FieldType.array .long).toString = "[[J" := by decide
    have ho : (Cond.arrayOver (.array .long)).before args s = true := over_moved (Vm.Alike.refl s.vm) hK.2.2.2.2.1.2.1
    have hcl : (Cond.classLink own index (FieldType.array .long).toString).before args s = true := by rw [e0]; exact hts _ hl
    refine W.anewA (t := .long) hx hb hown hcl ho rfl hdg rfl hq.1 hq.2.1 (by rw [hR1]; omega) (by rw [hR2]; omega) fun cA kA comp g1 g2 g3 g4 => ?_
    rw [e6] at g1
    obtain rfl : cA = D.2 6 := Option.some.inj (g1.symm.trans f6)
    have e0 : ({ cls := D.2 6, slots := Array.replicate n.toNatClampNeg .null, vm := .none } : Cell) = vp_cell (D.2 6) (n.toNatClampNeg, .inr (.inr (.inr (.inr fun _ => none)))) := by
      rw [arrV_new]; rfl
    rw [e0]
    have e1 : (H.push (vp_cell (D.2 6) (n.toNatClampNeg, .inr (.inr (.inr (.inr fun _ => none))))))[H.size]? = some (vp_cell (D.2 6) (n.toNatClampNeg, .inr (.inr (.inr (.inr fun _ => none))))) := by simp
    have hsz : (vp_cell (D.2 6) (n.toNatClampNeg, .inr (.inr (.inr (.inr fun _ => none))))).slots.size = n.toNatClampNeg := by rw [vp_cell_q, arrV_size]
    have hk := kk _ locs (Hs_push (cell := vp_cell (D.2 6) (n.toNatClampNeg, .inr (.inr (.inr (.inr fun _ => none))))) (e1 := .inl (6, n.toNatClampNeg, .inr (.inr (.inr (.inr fun _ => none))))) hH hq.2.2.1 (by rw [hsz]; exact hq.2.2.2) e1 (by simp) (fun q hq => by rw [Array.getElem?_push, if_neg (Nat.ne_of_lt hq)]) e1 |> fun h => by rw [hsz] at h; exact h) hL
    rw [← z1] at hk
    exact xtight hk
  · cases hv
/-- a row put into a long[][] -/
def astJJ (ev : Ev) (σ : Mm) (a : Nat) (i : Int32) (v : Nat) : Option Mm := if ev.1 ≤ v then astA ev 6 σ a i (some v) else none
theorem m_aastJ (C : Cx p m meth c cc nL s args own R ev D H0 fr lo) (hH : Hs D H0 ev σ H) (hL : ∀ q ∈ locs, ev.1 ≤ q.base) {a v : Nat} {i : Int32} (hv : astJJ ev σ a i v = some σ') (hdg : decode cc pc = .ok (.aastore, 1))
    (kk : ∀ (H1 : Heap) (locs1 : List Loc), Hs D H0 ev σ' H1 → (∀ q ∈ locs1, ev.1 ≤ q.base) → W p l e R s m args below meth c H1 locs1 (H1.size - s.heap.size) (xtot H1 - xtot s.heap) Q (F0 m (pc + 1) ls rest)) : W p l e R s m args below meth c H locs cells slots Q (F0 m pc ls (.ref v :: .int i :: .ref a :: rest)) := by
  have hv1 : ev.1 ≤ v := by
    unfold astJJ at hv
    split at hv
    · assumption
    · cases hv
  have hv : astA ev 6 σ a i (some v) = some σ' := by
    unfold astJJ at hv
    rw [if_pos hv1] at hv
    exact hv
  obtain ⟨n, f, h1, h2, h3, h4, rfl⟩ := astA_at hv
  have hlt : i.toNatClampNeg < n := Nat.not_le.mp fun q => h4 (Or.inr q)
  have h0 : ¬ i < 0 := fun q => h4 (Or.inl q)
  have hc : H[a]? = some (vp_cell (D.2 6) (n, .inr (.inr (.inr (.inr f))))) := hH.2.2.2.2.2.2.1 a _ h2 h1
  obtain ⟨kA, kC, cJ, f6, f1, g3, g4, w2, w3⟩ := xJJ C.2.1
  have hx : ∃ y : vp_A, σ.1 v = some (.inl (1, y)) := by
    have h5 : asg σ 6 v = true := by simpa using h3
    unfold asg at h5
    split at h5
    · split at h5
      · exact absurd h5 (by simp [xTy])
      · cases h5
    · rename_i x hx
      obtain ⟨-, h7⟩ : (6 : Nat) = 6 ∧ x.1 = 1 := by simpa using h5
      obtain ⟨x1, x2⟩ := x
      cases h7
      exact ⟨x2, hx⟩
    · cases h5
  obtain ⟨y, hy⟩ := hx
  have g1 : H[v]? = some (vp_cell (D.2 1) y) := hH.2.2.2.2.2.2.1 v _ hv1 hy
  have g5 : ∀ q, (vp_cell (D.2 1) y).vm ≠ .statics q := by
    obtain ⟨n, f | f | f | f | f⟩ := y <;> intro q h <;> cases h
  have g6 : (vp_cell (D.2 1) y).cls = D.2 1 := by
    obtain ⟨n, f | f | f | f | f⟩ := y <;> rfl
  have hcls : s.vm.assignable (vp_cell (D.2 1) y).cls (D.2 1) = true := by
    rw [g6]
    show Vm.assignableAux s.vm (255 + 1) (D.2 1) (D.2 1) = true
    rw [Vm.assignableAux, beq_self_eq_true, Bool.true_or]
  refine W.aast C.x C.b hc (fun q h => by cases h) (fun h => by cases h) g3 g4 rfl w2 ⟨h0, by show _ < (arrV _ _ _).slots.size; rw [arrV_size]; exact hlt⟩ g1 g5 (by rw [g6]; exact w2) hcls rfl rfl hdg fun H1 e1 z oq => ?_
  obtain ⟨r1, r2⟩ := m_stA (r := some v) hH hL h1 h2 e1 z oq
  exact xtight (kk H1 _ r1 r2)
def gsS (ev : Ev) (k : Nat) : Option Nat := match ev.2.2.2.1 (100 + k) with
  | .ref a => some a
  | _ => none
theorem m_ldcS (C : Cx p m meth c cc nL s args own R ev D H0 fr lo) {k index a : Nat} {tx : String} (hk : xLd[k]? = some (own, index, tx)) (hv : gsS ev k = some a) (hdg : decode cc pc = .ok (.ldc index, 2))
    (kk : W p l e R s m args below meth c H locs cells slots Q (F0 m (pc + 2) ls (.ref a :: rest))) : W p l e R s m args below meth c H locs cells slots Q (F0 m pc ls rest) := by
  obtain ⟨⟨hx, hb, hml, hown, hts⟩, hK, -⟩ := C
  obtain ⟨a', h1, h2⟩ := hK.2.2.2.2.1.2.2.1 k _ hk
  unfold gsS at hv
  rw [h1] at hv
  cases hv
  exact va_ldcS hx hb hown h2 hdg kk
def SLN (own : String) (index k : Nat) : Prop := ∃ (q : String × String × String) (h : String), xSt[k]? = some q ∧ (own, index, q.1, q.2.1, q.2.2, h) ∈ xNF
theorem m_gsIn (C : Cx p m meth c cc nL s args own R ev D H0 fr lo) (hH : Hs D H0 ev σ H) {index k : Nat} (F : SLN own index k) {v : Int32} (hv : gsI ev k = some v) (hdg : decode cc pc = .ok (.getstatic index, 3))
    (kk : W p l e R s m args below meth c H locs cells slots Q (F0 m (pc + 3) ls (.int v :: rest))) : W p l e R s m args below meth c H locs cells slots Q (F0 m pc ls rest) := by
  have hv' : ev.2.2.2.1 k = .int v := by
    unfold gsI at hv
    split at hv
    · rename_i x hx
      rw [hx, Option.some.inj hv]
    · cases hv
  obtain ⟨⟨hx, hb, hml, hown, hts⟩, hK, -⟩ := C
  obtain ⟨q, h, hq, hl⟩ := F
  obtain ⟨cf, kf, fi, f, a, cell, h1, h2, h3, h4, h5, h6, h7, h8⟩ := hK.2.2.2.2.2.2.2.1 k q hq
  exact va_WgetsN hx hb hown (va_Nw.use rfl (hK.2.1 _ hl)) h1 h2 h3 h4 (by rw [hH.2.2.2.2.2.1 a (by omega)]; exact h5) (fun e => by rw [e] at h6; cases h6) (by rw [← hv']; exact h7) rfl hdg kk
end XS1
