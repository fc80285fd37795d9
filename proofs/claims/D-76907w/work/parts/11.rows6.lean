/-! System.arraycopy of longs -/
def cpyJ (ev : Ev) (σ : Mm) (a0 : Nat) (sp : Int32) (a : Nat) (dp n : Int32) : Option Mm := match σ.1 a0, σ.1 a with
  | some (.inl (k0, n0, .inr (.inl f))), some (.inl (k1, n1, .inr (.inl g))) => if (k0 = 1 ∧ k1 = 1 ∧ ev.1 ≤ a ∧ ev.1 ≤ a0) ∧ ¬ sp < 0 ∧ ¬ dp < 0 ∧ ¬ n < 0 ∧ sp.toNatClampNeg + n.toNatClampNeg ≤ n0 ∧ dp.toNatClampNeg + n.toNatClampNeg ≤ n1 then some (va_up σ.1 a (some (.inl (1, n1, .inr (.inl (va_cpy f g sp.toNatClampNeg dp.toNatClampNeg n.toNatClampNeg))))), σ.2) else none
  | _, _ => none
theorem cpyJ_at {ev : Ev} {σ σ' : Mm} {a0 a : Nat} {sp dp n : Int32} (h : cpyJ ev σ a0 sp a dp n = some σ') : ∃ (n0 n1 : Nat) (f g : Nat → Int64), σ.1 a0 = some (.inl (1, n0, .inr (.inl f))) ∧ σ.1 a = some (.inl (1, n1, .inr (.inl g))) ∧ (ev.1 ≤ a ∧ ev.1 ≤ a0) ∧ ¬ sp < 0 ∧ ¬ dp < 0 ∧ ¬ n < 0 ∧ sp.toNatClampNeg + n.toNatClampNeg ≤ n0 ∧ dp.toNatClampNeg + n.toNatClampNeg ≤ n1 ∧ σ' = (va_up σ.1 a (some (.inl (1, n1, .inr (.inl (va_cpy f g sp.toNatClampNeg dp.toNatClampNeg n.toNatClampNeg))))), σ.2) := by
  unfold cpyJ at h
  split at h
  · rename_i k0 n0 f k1 n1 g e0 e1
    split at h
    · rename_i hc
      obtain ⟨⟨rfl, rfl, h2⟩, h3, h4, h5, h6, h7⟩ := hc
      exact ⟨n0, n1, f, g, e0, e1, h2, h3, h4, h5, h6, h7, (Option.some.inj h).symm⟩
    · cases h
  · cases h
section XCP
variable {p : Program} {l : Launch} {e : Env} {R : Room} {s : State} {m : MethodId} {args : Array Value} {below : List Frame} {meth : Method} {c : Code} {H : Heap} {locs : List Loc} {cells slots : Nat} {Q : State → Prop}
variable {cc : ByteArray} {nL pc : Nat} {ls : Array Slot} {rest : List Value} {D : Dx} {H0 : Heap} {ev : Ev} {σ σ' : Mm} {own : String} {fr lo : Nat}
theorem Hs_upd (hH : Hs D H0 ev σ H) {a : Nat} {cell cell' : Cell} {H1 : Heap} {e1 : Ob} (hc : H[a]? = some cell) (ha : ev.1 ≤ a) (e : H1[a]? = some cell') (hs : cell'.slots.size = cell.slots.size) (z : H1.size = H.size) (oq : ∀ q : Nat, q ≠ a → H1[q]? = H[q]?) (he : xat D a e1 H1) : Hs D H0 ev (va_up σ.1 a (some e1), σ.2) H1 := by
  obtain ⟨h1, h2, h3, h4, h5, h6, h7, h8⟩ := hH
  refine ⟨by rw [z]; exact h1, ?_, h3, h4, h5, fun q hq => ?_, fun b e2 hnb hb => ?_, fun b hb => ?_⟩
  · rw [← h2]
    refine xtot_eq z fun q => ?_
    by_cases hq : q = a
    · subst hq
      rw [e, hc]
      simp [hs]
    · rw [oq q hq]
  · rw [oq q (by omega)]
    exact h6 q hq
  · by_cases hba : b = a
    · subst hba
      have : e1 = e2 := by simpa [va_up] using hb
      rw [← this]
      exact he
    · have hb' : σ.1 b = some e2 := by simpa [va_up, hba] using hb
      exact va_at.kept (h7 b e2 hnb hb') (oq b hba)
  · show va_up σ.1 a (some e1) b = _
    rw [← h8 b hb]
    simp [va_up, show b ≠ a by omega]
theorem m_copyJ (C : Cx p m meth c cc nL s args own R ev D H0 fr lo) (hH : Hs D H0 ev σ H) (hL : ∀ q ∈ locs, ev.1 ≤ q.base) {index a0 a : Nat} {sp dp n : Int32} (hlink : Cond.methodLink own index arraycopyName ∈ lw_all) (hnat : Cond.native arraycopyName ∈ lw_all) (hstat : Cond.static arraycopyName ∈ lw_all) (hini : Cond.initialized "java/lang/System" ∈ lw_all)
    (hv : cpyJ ev σ a0 sp a dp n = some σ') (hl : ls.size = nL) (hframes : 1 ≤ fr) (hlocals : (rest.map fun v => v.category).sum + (nativeFrameWords "java/lang/System" "arraycopy" 5 + 11) ≤ lo) (hdg : decode cc pc = .ok (.invokestatic index, 3))
    (kk : ∀ (H1 : Heap) (locs1 : List Loc), Hs D H0 ev σ' H1 → (∀ q ∈ locs1, ev.1 ≤ q.base) → W p l e R s m args below meth c H1 locs1 (H1.size - s.heap.size) (xtot H1 - xtot s.heap) Q (F0 m (pc + 3) ls rest)) : W p l e R s m args below meth c H locs cells slots Q (F0 m pc ls (.int n :: .int dp :: .ref a :: .int sp :: .ref a0 :: rest)) := by
  obtain ⟨n0, n1, f, g, ha0, ha1, ⟨hna, hna0⟩, h1, h2, h3, h4, h5, rfl⟩ := cpyJ_at hv
  obtain ⟨⟨hexec, hb, hml, hown, hts⟩, ⟨hK, -⟩, hR1, hR2, hR3, hR4, hlk⟩ := C
  have nn : ∀ z : Int32, ¬ z < 0 → z.toInt = (z.toNatClampNeg : Int) := by
    intro z hz
    have hz0 : (0 : Int) ≤ z.toInt := by
      have := Int32.not_lt.mp hz
      simpa using Int32.le_iff_toInt_le.mp this
    show z.toInt = ((z.toInt.toNat : Nat) : Int)
    omega
  refine xtight (cells := cells) (slots := slots) (H := H) ?_
  intro T hT X
  have hc0 : H[a0]? = some (vp_cell (D.2 1) (n0, .inr (.inl f))) := hH.2.2.2.2.2.2.1 a0 _ hna0 ha0
  have hc1 : H[a]? = some (vp_cell (D.2 1) (n1, .inr (.inl g))) := hH.2.2.2.2.2.2.1 a _ hna ha1
  obtain ⟨-, k0, hk0, cm0, hkk0⟩ := (hK.2 1 _ rfl).1 n0 (fun j => .long (f j))
  obtain ⟨-, k1, hk1, cm1, hkk1⟩ := (hK.2 1 _ rfl).1 n1 (fun j => .long (g j))
  obtain ⟨vm', X', step⟩ := X.arraycopy hexec hown (hts _ hlink) (hts _ hnat) (hts _ hstat) (hts _ hini) (src := a0) (dst := a) (cs := vp_cell (D.2 1) (n0, .inr (.inl f))) (cd := vp_cell (D.2 1) (n1, .inr (.inl g))) (srcPos := sp) (destPos := dp) (n := n) (by rw [hT]; exact hc0) (by rw [hT]; exact hc1)
    (fun _ h => by cases h) (fun _ h => by cases h) (fun h => by cases h) (fun h => by cases h) hk0 hk1 hkk0 hkk1 (by simp [xTy, refKind]) h1 h2 h3
    (by rw [nn sp h1, nn n h3]; show ¬ _ > ((arrV (D.2 1) n0 (fun j => .long (f j))).slots.size : Int); rw [arrV_size]; omega)
    (by rw [nn dp h2, nn n h3]; show ¬ _ > ((arrV (D.2 1) n1 (fun j => .long (g j))).slots.size : Int); rw [arrV_size]; omega)
    (fun vm₁ _ i hi => by
      have e : (vp_cell (D.2 1) (n0, .inr (.inl f))).slots.getD (sp.toNatClampNeg + i) .null = .long (f (sp.toNatClampNeg + i)) := by
        show (arrV (D.2 1) n0 (fun j => .long (f j))).slots.getD _ _ = _
        rw [Array.getD_eq_getD_getElem?, arrV_read _ _ (by omega)]
        rfl
      refine ⟨?_, ?_⟩
      · rw [e]
        rfl
      · rw [e]
        exact trivial)
    (g := F0 m pc ls (.int n :: .int dp :: .ref a :: .int sp :: .ref a0 :: rest)) rfl (by rw [hml]; exact hl) (rest := rest) rfl (by rw [hb]; exact hdg) (by rw [hR3]; exact hframes) (by show 2 * 0 + _ + _ ≤ _; rw [hR4]; omega)
  have e1 : copied (vp_cell (D.2 1) (n0, .inr (.inl f))) (vp_cell (D.2 1) (n1, .inr (.inl g))) sp dp n = vp_cell (D.2 1) (n1, .inr (.inl (va_cpy f g sp.toNatClampNeg dp.toNatClampNeg n.toNatClampNeg))) := va_copied (fun z => .long z) (D.2 1) (D.2 1) f g h4
  rw [e1] at X' step
  have hlt : a < H.size := (Array.getElem?_eq_some_iff.mp hc1).1
  have hheap : ((T.setVm vm').setCell a (vp_cell (D.2 1) (n1, .inr (.inl (va_cpy f g sp.toNatClampNeg dp.toNatClampNeg n.toNatClampNeg))))).heap = H.setIfInBounds a (vp_cell (D.2 1) (n1, .inr (.inl (va_cpy f g sp.toNatClampNeg dp.toNatClampNeg n.toNatClampNeg)))) := by rw [← hT]; rfl
  have oq : ∀ q : Nat, q ≠ a → (H.setIfInBounds a (vp_cell (D.2 1) (n1, .inr (.inl (va_cpy f g sp.toNatClampNeg dp.toNatClampNeg n.toNatClampNeg)))))[q]? = H[q]? := fun q hq => by simp [Array.getElem?_setIfInBounds, Ne.symm hq]
  have ea : (H.setIfInBounds a (vp_cell (D.2 1) (n1, .inr (.inl (va_cpy f g sp.toNatClampNeg dp.toNatClampNeg n.toNatClampNeg)))))[a]? = some (vp_cell (D.2 1) (n1, .inr (.inl (va_cpy f g sp.toNatClampNeg dp.toNatClampNeg n.toNatClampNeg)))) := by simp [Array.getElem?_setIfInBounds, hlt]
  obtain ⟨t, a1, b1⟩ := xtight (kk _ _ (Hs_upd hH hc1 hna ea (by rw [vp_cell_l, vp_cell_l, arrV_size, arrV_size]) (by simp) oq ea) (fun q hq => by
      rcases List.mem_append.mp hq with h | h
      · exact hL q h
      · obtain ⟨z, -, hz⟩ := List.mem_map.mp h
        rw [← hz]
        exact hna)) _ hheap X'
  exact ⟨t, step t a1, b1⟩
end XCP
