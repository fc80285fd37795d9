/-! WORLDS THAT DIFFER IN WHAT IS FOR THOUGHT ONLY -/
def sJ (q i : Nat) : Prop := (2 ≤ q ∧ q < 26) ∨ (30 ≤ q ∧ q ≤ 33) ∨ q = 37 ∨ (238 ≤ q ∧ q < 966) ∨ (q = 967 ∧ 36 ≤ i ∧ i < 48) ∨ (q = 968 ∧ 54 ≤ i ∧ i < 72) ∨ (974 ≤ q ∧ q ≤ 976) ∨ q = 980 ∨ q = 981
def sI (q i : Nat) : Prop := (2 ≤ q ∧ q < 26) ∨ (46 ≤ q ∧ q < 966) ∨ (q = 0 ∧ i = 14) ∨ q = 979 ∨ (q = 966 ∧ (i = 27 ∨ i = 28 ∨ i = 31))
def Sq (w w' : Wd) : Prop := (∀ q i : Nat, ¬ sJ q i → w'.1 q i = w.1 q i) ∧ (∀ q i : Nat, ¬ sI q i → w'.2.1 q i = w.2.1 q i) ∧ w'.2.2 = w.2.2
theorem Sq_refl (w : Wd) : Sq w w := ⟨fun _ _ _ => rfl, fun _ _ _ => rfl, rfl⟩
theorem Sq_trans {w w1 w2 : Wd} (h1 : Sq w w1) (h2 : Sq w1 w2) : Sq w w2 := ⟨fun q i h => (h2.1 q i h).trans (h1.1 q i h), fun q i h => (h2.2.1 q i h).trans (h1.2.1 q i h), h2.2.2.trans h1.2.2⟩
theorem Sq_setC {w : Wd} {c : Nat} {v : Nat → Int64} (h : c < 3 ∨ (27 ≤ c ∧ c < 118)) : Sq w (setC w c v) := by
  refine ⟨fun q i hq => ?_, fun _ _ _ => rfl, rfl⟩
  unfold sJ at hq
  have hc : (2 ≤ cr c ∧ cr c + 7 < 26) ∨ (238 ≤ cr c ∧ cr c + 7 < 966) := by unfold cr; split <;> omega
  simp only [setC]
  rw [if_neg (by omega), if_neg (by omega), if_neg (by omega), if_neg (by omega), if_neg (by omega)]
theorem Sq_setT {w : Wd} {c : Nat} {t : Nat → Int32} (h : c < 118) : Sq w (setT w c t) := by
  refine ⟨fun _ _ _ => rfl, fun q i hq => ?_, rfl⟩
  unfold sI at hq
  have hc : (2 ≤ cr c ∧ cr c + 7 < 26) ∨ (46 ≤ cr c ∧ cr c + 7 < 966) := by unfold cr; split <;> omega
  show (if q = cr c + 7 then t i else w.2.1 q i) = w.2.1 q i
  rw [if_neg (by omega)]
theorem Sq_setS {w : Wd} {K : Nat} {v : Nat → Int64} (h : K = 6 ∨ K = 7) : Sq w (setS w K v) := by
  refine ⟨fun q i hq => ?_, fun _ _ _ => rfl, rfl⟩
  unfold sJ at hq
  simp only [setS]
  rw [if_neg (by omega), if_neg (by omega)]
theorem Sq_cv {w w' : Wd} (h : Sq w w') {c : Nat} (hc : 3 ≤ c ∧ c < 27) : cv w' c = cv w c := by
  have hr : 46 ≤ cr c ∧ cr c + 7 < 238 := by unfold cr; split <;> omega
  have k : ∀ q i : Nat, q < 8 → w'.1 (cr c + q) i = w.1 (cr c + q) i := fun q i hq => h.1 _ _ (by unfold sJ; omega)
  funext j
  simp only [cv]
  rw [k 1 _ (by decide), k 2 _ (by decide), k 4 _ (by decide), k 5 _ (by decide), k 6 _ (by decide)]
theorem Sq_sl {w w' : Wd} (h : Sq w w') {K : Nat} (hK : K ≠ 6 ∧ K ≠ 7) : sl w' K = sl w K := by
  funext j
  unfold sl
  by_cases h6 : j < 6
  · rw [if_pos h6, if_pos h6]
    exact h.1 _ _ (by unfold sJ; omega)
  · rw [if_neg h6, if_neg h6]
    by_cases h15 : j < 15
    · rw [if_pos h15, if_pos h15]
      exact h.1 _ _ (by unfold sJ; omega)
    · rw [if_neg h15, if_neg h15]
/-- the cells of both -/
def RC (w : Wd) (M : Nat) : Prop := M ≤ 6 ∧ w.2.1 0 1 = nI M ∧ w.2.1 966 2 = nI M ∧ ∀ k : Nat, k < M → cv w (3 + 2 * k) = sl w k ∧ GdV (sl w k) ∧ (sl w k 0).toInt ≤ 100000 ∧ (sl w k 1).toInt ≤ 100000 ∧ (sl w k 2).toInt ≤ 100000
theorem RC_sq {w w' : Wd} {M : Nat} (h : Sq w w') (r : RC w M) : RC w' M := by
  obtain ⟨h6, h0, h2, hc⟩ := r
  refine ⟨h6, by rw [h.2.1 0 1 (by unfold sI; omega)]; exact h0, by rw [h.2.1 966 2 (by unfold sI; omega)]; exact h2, fun k hk => ?_⟩
  rw [Sq_cv h (by omega), Sq_sl h (by omega)]
  exact hc k hk
