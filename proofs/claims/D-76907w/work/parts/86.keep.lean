/-! WHAT WAS, OF BOTH -/
def keepC (ev : Ev) (w : Wd) (p : Nat → Nat) (C k : Nat) : Wd := if C < 12 then wI (wI (setC w (15 + p C) (cv w (3 + 2 * k))) 27 C (nI k)) 0 8 (nI (C + 1)) else wI (wI (setC (rotW ev w p) (15 + p 0) (cv w (3 + 2 * k))) 27 11 (nI k)) 0 8 12
def keepM (w : Wd) (C F k : Nat) : Wd := if C < 12 then setS (wI (wI w 966 9 (nI (C + 1))) 973 ((F + C) % 12) (nI k)) (14 + (F + C) % 12) (sl w k) else setS (wI (wI w 966 10 (nI ((F + 1) % 12))) 973 F (nI k)) (14 + F) (sl w k)
section XKP
variable {ev : Ev} {w : Wd} {fu M C F k c : Nat} {x y z : Int32} {p : Nat → Nat}
theorem X0_keepsV (hf : 20 ≤ fu) (hk : k < 6) (hC : w.2.1 0 8 = nI C) (h12 : C ≤ 12) (hp : Wp ev w p) : f_X0_keeps fu ev (mem ev w) ev.1 (nI k) = some ((), mem ev (keepC ev w p C k)) := by
  unfold keepC
  by_cases h : C < 12
  · rw [if_pos h]
    exact X0_keeps_ok (by omega) hk hC h hp
  · rw [if_neg h]
    obtain rfl : C = 12 := by omega
    exact X0_keeps_full hf hk hC hp
theorem X2_remembersV (hf : 20 ≤ fu) (hk : k < 6) (hC : w.2.1 966 9 = nI C) (h12 : C ≤ 12) (hF : w.2.1 966 10 = nI F) (hF12 : F < 12) : f_X2_remembers fu ev (mem ev w) (ev.1 + 966) (nI k) = some ((), mem ev (keepM w C F k)) := by
  unfold keepM
  by_cases h : C < 12
  · rw [if_pos h]
    exact X2_remembers_ok (by omega) hk hC h hF hF12
  · rw [if_neg h]
    obtain rfl : C = 12 := by omega
    exact X2_remembers_full (by omega) hk hC hF hF12
theorem keepC_cv (hc : c < 15 ∨ 27 ≤ c) (hp : Wp ev w p) (h12 : C ≤ 12) : cv (keepC ev w p C k) c = cv w c := by
  unfold keepC
  by_cases h : C < 12
  · have := (hp C h).2
    rw [if_pos h, cv_wI, cv_wI, cv_ne (by omega)]
  · have := (hp 0 (by decide)).2
    rw [if_neg h, cv_wI, cv_wI, cv_ne (by omega)]
    rfl
theorem keepC_sl {K : Nat} (hp : Wp ev w p) (h12 : C ≤ 12) : sl (keepC ev w p C k) K = sl w K := by
  unfold keepC
  by_cases h : C < 12
  · have := (hp C h).2
    rw [if_pos h, sl_wI, sl_wI, sl_setC (by omega)]
  · have := (hp 0 (by decide)).2
    rw [if_neg h, sl_wI, sl_wI, sl_setC (by omega)]
    rfl
theorem keepM_cv (hc : c < 118) : cv (keepM w C F k) c = cv w c := by
  unfold keepM
  by_cases h : C < 12
  · rw [if_pos h, cv_setS hc, cv_wI, cv_wI]
  · rw [if_neg h, cv_setS hc, cv_wI, cv_wI]
theorem keepM_sl {K : Nat} (hK : K < 14) : sl (keepM w C F k) K = sl w K := by
  unfold keepM
  by_cases h : C < 12
  · rw [if_pos h, sl_ne (by omega), sl_wI, sl_wI]
  · rw [if_neg h, sl_ne (by omega), sl_wI, sl_wI]
/-- rows of ints that keeping leaves alone -/
theorem keepC_I {q i : Nat} (h : ¬ (q = 27) ∧ ¬ (q = 0 ∧ i = 8)) : (keepC ev w p C k).2.1 q i = w.2.1 q i := by
  unfold keepC
  by_cases h12 : C < 12
  · rw [if_pos h12, wI_ne (by omega), wI_ne (by omega)]
    rfl
  · rw [if_neg h12, wI_ne (by omega), wI_ne (by omega)]
    show (if q = 0 ∧ i = 8 then (11 : Int32) else if q = 27 ∧ i < 11 then w.2.1 27 (i + 1) else w.2.1 q i) = _
    rw [if_neg (by omega), if_neg (by omega)]
theorem keepM_I {q i : Nat} (h : ¬ (q = 973) ∧ ¬ (q = 966 ∧ (i = 9 ∨ i = 10))) : (keepM w C F k).2.1 q i = w.2.1 q i := by
  unfold keepM
  by_cases h12 : C < 12
  · rw [if_pos h12]
    show (wI (wI w 966 9 _) 973 _ _).2.1 q i = _
    rw [wI_ne (by omega), wI_ne (by omega)]
  · rw [if_neg h12]
    show (wI (wI w 966 10 _) 973 _ _).2.1 q i = _
    rw [wI_ne (by omega), wI_ne (by omega)]
end XKP
def OkV (v : Nat → Int64) : Prop := GdV v ∧ (v 0).toInt ≤ 100000 ∧ (v 1).toInt ≤ 100000 ∧ (v 2).toInt ≤ 100000
/-- what is kept, of both -/
def RK (ev : Ev) (w : Wd) (M C F : Nat) (p : Nat → Nat) : Prop := C ≤ 12 ∧ F < 12 ∧ w.2.1 0 8 = nI C ∧ w.2.1 966 9 = nI C ∧ w.2.1 966 10 = nI F ∧ Wp ev w p ∧ (∀ i j : Nat, i < 12 → j < 12 → p i = p j → i = j) ∧ ∀ i : Nat, i < C → cv w (15 + p i) = sl w (14 + (F + i) % 12) ∧ OkV (sl w (14 + (F + i) % 12)) ∧ ∃ k : Nat, k < M ∧ w.2.1 27 i = nI k ∧ w.2.1 973 ((F + i) % 12) = nI k
theorem RK_keep {ev : Ev} {w w' : Wd} {M C F k : Nat} {p : Nat → Nat} (h : RK ev w M C F p) (hk : k < M) (he : cv w (3 + 2 * k) = sl w k) (hg : OkV (sl w k))
    (c1 : ∀ j : Nat, j < 12 → cv w' (15 + j) = cv (keepC ev w p C k) (15 + j)) (c2 : ∀ i : Nat, w'.2.1 27 i = (keepC ev w p C k).2.1 27 i) (c3 : w'.2.1 0 8 = (keepC ev w p C k).2.1 0 8) (c4 : ∀ i : Nat, w'.2.2.1 26 i = (keepC ev w p C k).2.2.1 26 i)
    (m1 : ∀ j : Nat, j < 12 → sl w' (14 + j) = sl (keepM w C F k) (14 + j)) (m2 : ∀ i : Nat, w'.2.1 973 i = (keepM w C F k).2.1 973 i) (m3 : w'.2.1 966 9 = (keepM w C F k).2.1 966 9) (m4 : w'.2.1 966 10 = (keepM w C F k).2.1 966 10) :
    ∃ (C' F' : Nat) (p' : Nat → Nat), C' = min (C + 1) 12 ∧ RK ev w' M C' F' p' := by
  obtain ⟨h12, hF, hC0, hC9, hF10, hp, hinj, hrel⟩ := h
  by_cases hlt : C < 12
  · have hpC := (hp C hlt).2
    refine ⟨C + 1, F, p, by omega, by omega, hF, ?_, ?_, ?_, ?_, hinj, ?_⟩
    · rw [c3, keepC, if_pos hlt, wI_same]
    · rw [m3, keepM, if_pos hlt]
      show (wI (wI w 966 9 (nI (C + 1))) 973 _ _).2.1 966 9 = _
      rw [wI_ne (by omega), wI_same]
    · rw [m4, keepM, if_pos hlt]
      show (wI (wI w 966 9 (nI (C + 1))) 973 _ _).2.1 966 10 = _
      rw [wI_ne (by omega), wI_ne (by omega)]
      exact hF10
    · intro i hi
      refine ⟨?_, (hp i hi).2⟩
      rw [c4, keepC, if_pos hlt]
      exact (hp i hi).1
    · intro i hi
      have hpi := (hp i (by omega)).2
      have hm : (F + i) % 12 < 12 := Nat.mod_lt _ (by decide)
      rw [c1 _ hpi, m1 _ hm, c2, m2, keepC, if_pos hlt, keepM, if_pos hlt, cv_wI, cv_wI]
      by_cases hiC : i = C
      · subst hiC
        rw [cv_mk Mk_cv, sl_mk Mk_sl]
        refine ⟨he, hg, k, hk, ?_, ?_⟩
        · rw [wI_ne (by omega), wI_same]
        · exact wI_same
      · have hne : p i ≠ p C := fun e => hiC (hinj i C (by omega) hlt e)
        have hmn : (F + i) % 12 ≠ (F + C) % 12 := by omega
        rw [cv_ne (by omega), sl_ne (by omega), sl_wI, sl_wI]
        obtain ⟨r1, r2, j, r3, r4, r5⟩ := hrel i (by omega)
        refine ⟨r1, r2, j, r3, ?_, ?_⟩
        · rw [wI_ne (by omega), wI_ne (by omega)]
          exact r4
        · show (wI (wI w 966 9 (nI (C + 1))) 973 _ _).2.1 973 ((F + i) % 12) = _
          rw [wI_ne (by omega), wI_ne (by omega)]
          exact r5
  · obtain rfl : C = 12 := by omega
    have hp0 := (hp 0 (by decide)).2
    refine ⟨12, (F + 1) % 12, pro p, by omega, by omega, Nat.mod_lt _ (by decide), ?_, ?_, ?_, ?_, ?_, ?_⟩
    · rw [c3, keepC, if_neg hlt, wI_same]
      rfl
    · rw [m3, keepM, if_neg hlt]
      show (wI (wI w 966 10 _) 973 _ _).2.1 966 9 = _
      rw [wI_ne (by omega), wI_ne (by omega)]
      exact hC9
    · rw [m4, keepM, if_neg hlt]
      show (wI (wI w 966 10 _) 973 _ _).2.1 966 10 = _
      rw [wI_ne (by omega), wI_same]
    · intro i hi
      refine ⟨?_, ?_⟩
      · rw [c4, keepC, if_neg hlt]
        show (if 26 = 26 ∧ i < 12 then some (ev.1 + cr (15 + pro p i)) else w.2.2.1 26 i) = _
        rw [if_pos ⟨rfl, hi⟩]
      · unfold pro
        split
        · exact (hp (i + 1) (by omega)).2
        · exact hp0
    · intro i j hi hj e
      unfold pro at e
      split at e <;> split at e
      · have := hinj (i + 1) (j + 1) (by omega) (by omega) e
        omega
      · have := hinj (i + 1) 0 (by omega) (by decide) e
        omega
      · have := hinj 0 (j + 1) (by decide) (by omega) e
        omega
      · omega
    · intro i hi
      have hm : ((F + 1) % 12 + i) % 12 < 12 := Nat.mod_lt _ (by decide)
      have hpi : pro p i < 12 := by
        unfold pro
        split
        · exact (hp (i + 1) (by omega)).2
        · exact hp0
      rw [c1 _ hpi, m1 _ hm, c2, m2, keepC, if_neg hlt, keepM, if_neg hlt, cv_wI, cv_wI]
      by_cases hi11 : i = 11
      · subst hi11
        have e1 : pro p 11 = p 0 := rfl
        have e2 : ((F + 1) % 12 + 11) % 12 = F := by omega
        rw [e1, e2, cv_mk Mk_cv, sl_mk Mk_sl]
        refine ⟨he, hg, k, hk, ?_, ?_⟩
        · rw [wI_ne (by omega), wI_same]
        · exact wI_same
      · have e1 : pro p i = p (i + 1) := by unfold pro; rw [if_pos (by omega)]
        have e2 : ((F + 1) % 12 + i) % 12 = (F + (i + 1)) % 12 := by omega
        have hne : p (i + 1) ≠ p 0 := fun e => by have := hinj (i + 1) 0 (by omega) (by decide) e; omega
        have hmn : (F + (i + 1)) % 12 ≠ F := by omega
        rw [e1, e2, cv_ne (by omega), sl_ne (by omega), sl_wI, sl_wI]
        obtain ⟨r1, r2, j, r3, r4, r5⟩ := hrel (i + 1) (by omega)
        refine ⟨r1, r2, j, r3, ?_, ?_⟩
        · rw [wI_ne (by omega), wI_ne (by omega)]
          show (if 27 = 0 ∧ i = 8 then (11 : Int32) else if 27 = 27 ∧ i < 11 then w.2.1 27 (i + 1) else w.2.1 27 i) = _
          rw [if_neg (by omega), if_pos (by omega)]
          exact r4
        · show (wI (wI w 966 10 _) 973 _ _).2.1 973 ((F + (i + 1)) % 12) = _
          rw [wI_ne (by omega), wI_ne (by omega)]
          exact r5
