/-! CELLS AND WHAT WAS, OF BOTH; what an operation upon a cell leaves alone -/
def fI (q i : Nat) : Prop := sI q i ∨ (q = 0 ∧ (i = 1 ∨ i = 8)) ∨ q = 27 ∨ (q = 966 ∧ (i = 2 ∨ i = 9 ∨ i = 10)) ∨ q = 973
def Fr (w w' : Wd) : Prop := (∀ k : Nat, k < 6 → cv w' (4 + 2 * k) = cv w (4 + 2 * k) ∧ sl w' (8 + k) = sl w (8 + k)) ∧ (∀ q : Nat, (q = 983 ∨ q = 35) → ∀ i : Nat, w'.1 q i = w.1 q i) ∧ (∀ q i : Nat, ¬ fI q i → w'.2.1 q i = w.2.1 q i) ∧ (∀ q i : Nat, q ≠ 26 → w'.2.2.1 q i = w.2.2.1 q i) ∧ w'.2.2.2 = w.2.2.2
theorem Fr_refl (w : Wd) : Fr w w := ⟨fun _ _ => ⟨rfl, rfl⟩, fun _ _ _ => rfl, fun _ _ _ => rfl, fun _ _ _ => rfl, rfl⟩
theorem Fr_trans {w w1 w2 : Wd} (h1 : Fr w w1) (h2 : Fr w1 w2) : Fr w w2 := ⟨fun k hk => ⟨((h2.1 k hk).1).trans (h1.1 k hk).1, ((h2.1 k hk).2).trans (h1.1 k hk).2⟩, fun q hq i => (h2.2.1 q hq i).trans (h1.2.1 q hq i), fun q i h => (h2.2.2.1 q i h).trans (h1.2.2.1 q i h), fun q i h => (h2.2.2.2.1 q i h).trans (h1.2.2.2.1 q i h), h2.2.2.2.2.trans h1.2.2.2.2⟩
theorem Fr_sq {w w' : Wd} (h : Sq w w') : Fr w w' := ⟨fun k hk => ⟨Sq_cv h (by omega), Sq_sl h (by omega)⟩, fun q hq i => h.1 q i (by unfold sJ; omega), fun q i hq => h.2.1 q i (fun z => hq (Or.inl z)), fun q i _ => by rw [h.2.2], by rw [h.2.2]⟩
def RCK (ev : Ev) (w : Wd) (M C F : Nat) (p : Nat → Nat) : Prop := RC w M ∧ RK ev w M C F p
theorem RK_sq {ev : Ev} {w w' : Wd} {M C F : Nat} {p : Nat → Nat} (h : Sq w w') (r : RK ev w M C F p) : RK ev w' M C F p := by
  obtain ⟨h12, hF, hC0, hC9, hF10, hp, hinj, hrel⟩ := r
  refine ⟨h12, hF, by rw [h.2.1 0 8 (by unfold sI; omega)]; exact hC0, by rw [h.2.1 966 9 (by unfold sI; omega)]; exact hC9, by rw [h.2.1 966 10 (by unfold sI; omega)]; exact hF10, fun k hk => by rw [h.2.2]; exact hp k hk, hinj, fun i hi => ?_⟩
  have hpi := (hp i (by omega)).2
  have hm : (F + i) % 12 < 12 := Nat.mod_lt _ (by decide)
  rw [Sq_cv h (by omega), Sq_sl h (by omega), h.2.1 27 i (by unfold sI; omega), h.2.1 973 _ (by unfold sI; omega)]
  exact hrel i hi
theorem RCK_sq {ev : Ev} {w w' : Wd} {M C F : Nat} {p : Nat → Nat} (h : Sq w w') (r : RCK ev w M C F p) : RCK ev w' M C F p := ⟨RC_sq h r.1, RK_sq h r.2⟩
theorem keepM_slc {w w1 : Wd} {C F k j : Nat} (h : ∀ K : Nat, K ≠ 6 ∧ K ≠ 7 → sl w1 K = sl w K) (hk : k < 6) (hj : j < 12) : sl (keepM w1 C F k) (14 + j) = sl (keepM w C F k) (14 + j) := by
  unfold keepM
  have hm : (F + C) % 12 < 12 := Nat.mod_lt _ (by decide)
  by_cases h12 : C < 12
  · rw [if_pos h12, if_pos h12]
    by_cases e : 14 + j = 14 + (F + C) % 12
    · rw [e, sl_mk Mk_sl, sl_mk Mk_sl]
      exact h k (by omega)
    · rw [sl_ne e, sl_ne e]
      exact h _ (by omega)
  · rw [if_neg h12, if_neg h12]
    by_cases e : 14 + j = 14 + F
    · rw [e, sl_mk Mk_sl, sl_mk Mk_sl]
      exact h k (by omega)
    · rw [sl_ne e, sl_ne e]
      exact h _ (by omega)
theorem keepM_Ic {w w1 : Wd} {C F k q i : Nat} (h : ∀ i : Nat, w1.2.1 q i = w.2.1 q i) : (keepM w1 C F k).2.1 q i = (keepM w C F k).2.1 q i := by
  unfold keepM
  by_cases h12 : C < 12
  · rw [if_pos h12, if_pos h12]
    show (wI (wI w1 966 9 _) 973 _ _).2.1 q i = (wI (wI w 966 9 _) 973 _ _).2.1 q i
    simp only [wI_at, h]
  · rw [if_neg h12, if_neg h12]
    show (wI (wI w1 966 10 _) 973 _ _).2.1 q i = (wI (wI w 966 10 _) 973 _ _).2.1 q i
    simp only [wI_at, h]
/-- a cell becomes V in both, what it was is kept -/
theorem RCK_mod {ev : Ev} {w w1 wb w2 : Wd} {M C F k : Nat} {p : Nat → Nat} {V : Nat → Int64} (hR : RCK ev w M C F p) (hk : k < M) (hV : Mk V) (hok : OkV V) (h1 : w1 = setC (keepC ev w p C k) (3 + 2 * k) V) (hb : Sq w1 wb) (h2 : w2 = setS (keepM wb C F k) k V) :
    (∃ (C' F' : Nat) (p' : Nat → Nat), C' = min (C + 1) 12 ∧ RCK ev w2 M C' F' p') ∧ Fr w w2 := by
  obtain ⟨⟨hM6, hM0, hM2, hc⟩, hK⟩ := hR
  have hK0 := hK
  obtain ⟨h12, hF, hC0, hC9, hF10, hp, hinj, hrel⟩ := hK0
  have hk6 : k < 6 := by omega
  have s1 : ∀ K : Nat, sl w1 K = sl w K := fun K => by rw [h1, sl_setC (by omega), keepC_sl hp h12]
  have sb : ∀ K : Nat, K ≠ 6 ∧ K ≠ 7 → sl wb K = sl w K := fun K hK => by rw [Sq_sl hb hK, s1]
  have i1 : ∀ q i : Nat, w1.2.1 q i = (keepC ev w p C k).2.1 q i := fun q i => by rw [h1]; rfl
  have ib : ∀ q i : Nat, ¬ sI q i → wb.2.1 q i = (keepC ev w p C k).2.1 q i := fun q i h => by rw [hb.2.1 q i h, i1]
  have i2 : ∀ q i : Nat, w2.2.1 q i = (keepM wb C F k).2.1 q i := fun q i => by rw [h2]; rfl
  have c2 : ∀ c : Nat, 3 ≤ c ∧ c < 27 → cv w2 c = cv w1 c := fun c hc => by rw [h2, cv_setS (by omega), keepM_cv (by omega), Sq_cv hb (by omega)]
  have s2 : ∀ K : Nat, K < 14 → K ≠ 6 ∧ K ≠ 7 → K ≠ k → sl w2 K = sl w K := fun K h14 h67 hne => by rw [h2, sl_ne hne, keepM_sl h14, sb K h67]
  have hm3 : w2.2.1 966 9 = (keepM w C F k).2.1 966 9 := by
    rw [i2]
    unfold keepM
    split
    · show (wI (wI wb 966 9 _) 973 _ _).2.1 966 9 = (wI (wI w 966 9 _) 973 _ _).2.1 966 9
      rw [wI_ne (by omega), wI_same, wI_ne (by omega), wI_same]
    · show (wI (wI wb 966 10 _) 973 _ _).2.1 966 9 = (wI (wI w 966 10 _) 973 _ _).2.1 966 9
      rw [wI_ne (by omega), wI_ne (by omega), wI_ne (by omega), wI_ne (by omega), ib _ _ (by unfold sI; omega), keepC_I (by omega)]
  have hm4 : w2.2.1 966 10 = (keepM w C F k).2.1 966 10 := by
    rw [i2]
    unfold keepM
    split
    · show (wI (wI wb 966 9 _) 973 _ _).2.1 966 10 = (wI (wI w 966 9 _) 973 _ _).2.1 966 10
      rw [wI_ne (by omega), wI_ne (by omega), wI_ne (by omega), wI_ne (by omega), ib _ _ (by unfold sI; omega), keepC_I (by omega)]
    · show (wI (wI wb 966 10 _) 973 _ _).2.1 966 10 = (wI (wI w 966 10 _) 973 _ _).2.1 966 10
      rw [wI_ne (by omega), wI_same, wI_ne (by omega), wI_same]
  refine ⟨?_, ?_⟩
  · obtain ⟨C', F', p', e, r⟩ := RK_keep (w' := w2) hK hk (hc k hk).1 (hc k hk).2 (fun j hj => by rw [c2 _ (by omega), h1, cv_ne (by omega)]) (fun i => by rw [i2, keepM_I (by omega), ib _ _ (by unfold sI; omega)]) (by rw [i2, keepM_I (by omega), ib _ _ (by unfold sI; omega)])
      (fun i => by
        have e1 : w2.2.2 = wb.2.2 := by rw [h2]; show (keepM wb C F k).2.2 = wb.2.2; unfold keepM; split <;> rfl
        rw [e1, hb.2.2, h1]
        rfl)
      (fun j hj => by rw [h2, sl_ne (by omega), keepM_slc sb hk6 hj]) (fun i => by rw [i2]; exact keepM_Ic (fun i => by rw [ib _ _ (by unfold sI; omega), keepC_I (by omega)])) hm3 hm4
    · refine ⟨C', F', p', e, ⟨hM6, ?_, ?_, fun l hl => ?_⟩, r⟩
      · rw [i2, keepM_I (by omega), ib _ _ (by unfold sI; omega), keepC_I (by omega)]
        exact hM0
      · rw [i2, keepM_I (by omega), ib _ _ (by unfold sI; omega), keepC_I (by omega)]
        exact hM2
      · by_cases hlk : l = k
        · subst hlk
          have e1 : cv w2 (3 + 2 * l) = V := by rw [c2 _ (by omega), h1, cv_mk hV]
          have e2 : sl w2 l = V := by rw [h2, sl_mk hV]
          rw [e1, e2]
          exact ⟨rfl, hok⟩
        · rw [c2 _ (by omega), h1, cv_ne (by omega), keepC_cv (by omega) hp h12, s2 l (by omega) (by omega) hlk]
          exact hc l hl
  · have e2 : w2.2.2 = wb.2.2 := by rw [h2]; show (keepM wb C F k).2.2 = wb.2.2; unfold keepM; split <;> rfl
    refine ⟨fun l hl => ⟨?_, ?_⟩, fun q hq i => ?_, fun q i hq => ?_, fun q i hq => ?_, ?_⟩
    · rw [c2 _ (by omega), h1, cv_ne (by omega), keepC_cv (by omega) hp h12]
    · exact s2 _ (by omega) (by omega) (by omega)
    · have a1 : w2.1 q i = wb.1 q i := by
        rw [h2]
        simp only [setS]
        rw [if_neg (by omega), if_neg (by omega)]
        unfold keepM
        split
        · simp only [setS]; rw [if_neg (by omega), if_neg (by omega)]; rfl
        · simp only [setS]; rw [if_neg (by omega), if_neg (by omega)]; rfl
      have a2 : w1.1 q i = w.1 q i := by
        have key : ∀ (c : Nat) (u : Nat → Int64) (w0 : Wd), c < 118 → (setC w0 c u).1 q i = w0.1 q i := by
          intro c u w0 hc
          have : cr c + 7 < 26 ∨ (46 ≤ cr c ∧ cr c + 7 < 966) := by unfold cr; split <;> omega
          simp only [setC]
          rw [if_neg (by omega), if_neg (by omega), if_neg (by omega), if_neg (by omega), if_neg (by omega)]
        rw [h1, key _ _ _ (by omega)]
        unfold keepC
        split
        · rename_i hlt
          have := (hp C hlt).2
          exact key _ _ _ (by omega)
        · have := (hp 0 (by decide)).2
          exact key _ _ _ (by omega)
      rw [a1, hb.1 q i (by unfold sJ; omega), a2]
    · unfold fI at hq
      rw [i2, keepM_I (by omega), ib _ _ (fun z => hq (Or.inl z)), keepC_I (by omega)]
    · rw [e2, hb.2.2, h1]
      show (keepC ev w p C k).2.2.1 q i = _
      unfold keepC
      split
      · rfl
      · show (if q = 26 ∧ i < 12 then some (ev.1 + cr (15 + pro p i)) else w.2.2.1 q i) = _
        rw [if_neg (by omega)]
    · rw [e2, hb.2.2, h1]
      show (keepC ev w p C k).2.2.2 = _
      unfold keepC
      split <;> rfl
