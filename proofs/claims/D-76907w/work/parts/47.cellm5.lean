/-! THE METHODS OF A CELL, upon the world (5): steps, normalOf -/
/-- nothing behind the fifteen numbers -/
def Mk (v : Nat → Int64) : Prop := ∀ j : Nat, 15 ≤ j → v j = 0
theorem Mk_cv {w : Wd} {c : Nat} : Mk (cv w c) := by
  intro j hj
  unfold cv
  rw [if_neg (by omega), if_neg (by omega), if_neg (by omega), if_neg (by omega), if_neg (by omega)]
theorem cv_mk {w : Wd} {c : Nat} {v : Nat → Int64} (hv : Mk v) : cv (setC w c v) c = v := by
  funext j
  rcases Nat.lt_or_ge j 15 with h | h
  · exact cv_self h
  · rw [hv j h, Mk_cv j h]
theorem Mk_up {v : Nat → Int64} {i : Nat} {x : Int64} (hv : Mk v) (hi : i < 15) : Mk (upV v i x) := by
  intro j hj
  rw [upV_at, if_neg (by omega), hv j hj]
theorem Mk_turn {v : Nat → Int64} {i : Nat} (hv : Mk v) (hi : i < 3) : Mk (sTurn v i) := by
  intro j hj
  simp only [sTurn]
  rw [if_neg (by omega), if_neg (by omega), hv j hj]
theorem Mk_swap {v : Nat → Int64} {i k : Nat} (hv : Mk v) (hi : i < 3) (hk : k < 3) : Mk (sSwap v i k) := by
  intro j hj
  simp only [sSwap]
  rw [if_neg (by omega), if_neg (by omega), if_neg (by omega), if_neg (by omega), if_neg (by omega), if_neg (by omega), hv j hj]
theorem Mk_adds {v : Nat → Int64} {i j t : Nat} {k : Int64} (hv : Mk v) (hi : i < 3) (hj : j < 3) (ht : t < 3) : Mk (sAdds v i j t k) := by
  unfold sAdds
  exact Mk_up (Mk_up (Mk_up (Mk_up (Mk_up (Mk_up hv (by omega)) (by omega)) (by omega)) (by omega)) (by omega)) (by omega)
theorem Mk_tu3 {v : Nat → Int64} {a b d : Bool} (hv : Mk v) : Mk (tu3 v a b d) := by
  unfold tu3
  cases a <;> cases b <;> cases d <;> simp only [if_true, if_false, Bool.false_eq_true] <;> first | exact hv | exact Mk_turn hv (by decide) | exact Mk_turn (Mk_turn hv (by decide)) (by decide) | exact Mk_turn (Mk_turn (Mk_turn hv (by decide)) (by decide)) (by decide)
theorem Mk_go {v : Nat → Int64} (hv : Mk v) : Mk (goV v) := by
  unfold goV
  split
  · exact Mk_turn (Mk_turn (Mk_turn (Mk_swap hv (by decide) (by decide)) (by decide)) (by decide)) (by decide)
  split
  · exact Mk_turn (Mk_turn (Mk_turn (Mk_swap hv (by decide) (by decide)) (by decide)) (by decide)) (by decide)
  split
  · exact Mk_tu3 hv
  split
  · exact Mk_tu3 hv
  split
  · exact Mk_adds hv (by decide) (by decide) (by decide)
  split
  · exact Mk_adds hv (by decide) (by decide) (by decide)
  split
  · exact Mk_adds hv (by decide) (by decide) (by decide)
  split
  · exact Mk_adds (Mk_adds hv (by decide) (by decide) (by decide)) (by decide) (by decide) (by decide)
  · exact hv
theorem Mk_fresh {v : Nat → Int64} (hv : Mk v) : Mk (sFresh v) := by
  unfold sFresh
  exact Mk_up (Mk_up (Mk_up (Mk_up (Mk_up (Mk_up (Mk_up (Mk_up (Mk_up hv (by decide)) (by decide)) (by decide)) (by decide)) (by decide)) (by decide)) (by decide)) (by decide)) (by decide)
section XCM5
variable {ev : Ev} {w : Wd} {c c2 fu : Nat} {k : Int64}
theorem setT_tv : setT w c (tv w c) = w := by
  refine Prod.ext rfl (Prod.ext (funext fun q => funext fun i => ?_) rfl)
  show (if q = cr c + 7 then w.2.1 (cr c + 7) i else w.2.1 q i) = w.2.1 q i
  split
  · rename_i e; rw [e]
  · rfl
theorem X1_steps (h : c < 118) (hf : 10 ≤ fu) : ∃ t : Nat → Int32, f_X1_steps fu ev (mem ev w) (ev.1 + cr c) = some (nI (stV (cv w c)), mem ev (setC (setT w c t) c (goV (cv w c)))) := by
  obtain ⟨m, hm⟩ : ∃ m, fu = m + 10 := ⟨fu - 10, by omega⟩
  have hL : ∀ σ x0 x1, L_X1_steps_2 fu ev fu σ x0 x1 = L_X1_steps_2 fu ev (m + 10) σ x0 x1 := fun _ _ _ => by rw [← hm]
  have hf : 4 ≤ fu := by omega
  by_cases a1 : ap1 (cv w c) = true
  · have e : f_X1_steps fu ev (mem ev w) (ev.1 + cr c) = some (1, mem ev (setC w c (go1 (cv w c)))) := by
      simp only [f_X1_steps, b_X1_steps_0, hL, L_X1_steps_2, b_X1_steps_2, b_X1_steps_8, b_X1_steps_16, b_X1_steps_23, b_X1_steps_29, cis h, Option.bind_some, bd2, b01, not_true_eq_false, not_false_eq_true, if_true, if_false, ie_1_0, Bool.false_eq_true, eq_self, Int32.reduceAdd, Int32.reduceLT, reduceIte, X1_applies_1 h hf, a1, X1_goes_1 h hf]
    refine ⟨tv w c, ?_⟩
    rw [setT_tv, e]
    simp only [stV, goV, a1, if_true, if_false, Bool.false_eq_true]
    rfl
  by_cases a2 : ap2 (cv w c) = true
  · have e : f_X1_steps fu ev (mem ev w) (ev.1 + cr c) = some (2, mem ev (setC w c (go2 (cv w c)))) := by
      simp only [f_X1_steps, b_X1_steps_0, hL, L_X1_steps_2, b_X1_steps_2, b_X1_steps_8, b_X1_steps_16, b_X1_steps_23, b_X1_steps_29, cis h, Option.bind_some, bd2, b01, not_true_eq_false, not_false_eq_true, if_true, if_false, ie_1_0, Bool.false_eq_true, eq_self, Int32.reduceAdd, Int32.reduceLT, reduceIte, X1_applies_1 h hf, a1, X1_applies_2 h hf, a2, X1_goes_2 h hf]
    refine ⟨tv w c, ?_⟩
    rw [setT_tv, e]
    simp only [stV, goV, a1, a2, if_true, if_false, Bool.false_eq_true]
    rfl
  by_cases a3 : ap3 (cv w c) = true
  · obtain ⟨t, g⟩ := X1_goes_3 (ev := ev) h hf a3
    have e : f_X1_steps fu ev (mem ev w) (ev.1 + cr c) = some (3, mem ev (setC (setT w c t) c (go3 (cv w c)))) := by
      simp only [f_X1_steps, b_X1_steps_0, hL, L_X1_steps_2, b_X1_steps_2, b_X1_steps_8, b_X1_steps_16, b_X1_steps_23, b_X1_steps_29, cis h, Option.bind_some, bd2, b01, not_true_eq_false, not_false_eq_true, if_true, if_false, ie_1_0, Bool.false_eq_true, eq_self, Int32.reduceAdd, Int32.reduceLT, reduceIte, X1_applies_1 h hf, a1, X1_applies_2 h hf, a2, X1_applies_3 h hf, a3, g]
    refine ⟨t, ?_⟩
    rw [e]
    simp only [stV, goV, a1, a2, a3, if_true, if_false, Bool.false_eq_true]
    rfl
  by_cases a4 : ap4 (cv w c) = true
  · obtain ⟨t, g⟩ := X1_goes_4 (ev := ev) h hf a4
    have e : f_X1_steps fu ev (mem ev w) (ev.1 + cr c) = some (4, mem ev (setC (setT w c t) c (go4 (cv w c)))) := by
      simp only [f_X1_steps, b_X1_steps_0, hL, L_X1_steps_2, b_X1_steps_2, b_X1_steps_8, b_X1_steps_16, b_X1_steps_23, b_X1_steps_29, cis h, Option.bind_some, bd2, b01, not_true_eq_false, not_false_eq_true, if_true, if_false, ie_1_0, Bool.false_eq_true, eq_self, Int32.reduceAdd, Int32.reduceLT, reduceIte, X1_applies_1 h hf, a1, X1_applies_2 h hf, a2, X1_applies_3 h hf, a3, X1_applies_4 h hf, a4, g]
    refine ⟨t, ?_⟩
    rw [e]
    simp only [stV, goV, a1, a2, a3, a4, if_true, if_false, Bool.false_eq_true]
    rfl
  by_cases a5 : ap5 (cv w c) = true
  · have e : f_X1_steps fu ev (mem ev w) (ev.1 + cr c) = some (5, mem ev (setC w c (go5 (cv w c)))) := by
      simp only [f_X1_steps, b_X1_steps_0, hL, L_X1_steps_2, b_X1_steps_2, b_X1_steps_8, b_X1_steps_16, b_X1_steps_23, b_X1_steps_29, cis h, Option.bind_some, bd2, b01, not_true_eq_false, not_false_eq_true, if_true, if_false, ie_1_0, Bool.false_eq_true, eq_self, Int32.reduceAdd, Int32.reduceLT, reduceIte, X1_applies_1 h hf, a1, X1_applies_2 h hf, a2, X1_applies_3 h hf, a3, X1_applies_4 h hf, a4, X1_applies_5 h hf, a5, X1_goes_5 h hf]
    refine ⟨tv w c, ?_⟩
    rw [setT_tv, e]
    simp only [stV, goV, a1, a2, a3, a4, a5, if_true, if_false, Bool.false_eq_true]
    rfl
  by_cases a6 : ap6 (cv w c) = true
  · have e : f_X1_steps fu ev (mem ev w) (ev.1 + cr c) = some (6, mem ev (setC w c (go6 (cv w c)))) := by
      simp only [f_X1_steps, b_X1_steps_0, hL, L_X1_steps_2, b_X1_steps_2, b_X1_steps_8, b_X1_steps_16, b_X1_steps_23, b_X1_steps_29, cis h, Option.bind_some, bd2, b01, not_true_eq_false, not_false_eq_true, if_true, if_false, ie_1_0, Bool.false_eq_true, eq_self, Int32.reduceAdd, Int32.reduceLT, reduceIte, X1_applies_1 h hf, a1, X1_applies_2 h hf, a2, X1_applies_3 h hf, a3, X1_applies_4 h hf, a4, X1_applies_5 h hf, a5, X1_applies_6 h hf, a6, X1_goes_6 h hf]
    refine ⟨tv w c, ?_⟩
    rw [setT_tv, e]
    simp only [stV, goV, a1, a2, a3, a4, a5, a6, if_true, if_false, Bool.false_eq_true]
    rfl
  by_cases a7 : ap7 (cv w c) = true
  · have e : f_X1_steps fu ev (mem ev w) (ev.1 + cr c) = some (7, mem ev (setC w c (go7 (cv w c)))) := by
      simp only [f_X1_steps, b_X1_steps_0, hL, L_X1_steps_2, b_X1_steps_2, b_X1_steps_8, b_X1_steps_16, b_X1_steps_23, b_X1_steps_29, cis h, Option.bind_some, bd2, b01, not_true_eq_false, not_false_eq_true, if_true, if_false, ie_1_0, Bool.false_eq_true, eq_self, Int32.reduceAdd, Int32.reduceLT, reduceIte, X1_applies_1 h hf, a1, X1_applies_2 h hf, a2, X1_applies_3 h hf, a3, X1_applies_4 h hf, a4, X1_applies_5 h hf, a5, X1_applies_6 h hf, a6, X1_applies_7 h hf, a7, X1_goes_7 h hf]
    refine ⟨tv w c, ?_⟩
    rw [setT_tv, e]
    simp only [stV, goV, a1, a2, a3, a4, a5, a6, a7, if_true, if_false, Bool.false_eq_true]
    rfl
  by_cases a8 : ap8 (cv w c) = true
  · have e : f_X1_steps fu ev (mem ev w) (ev.1 + cr c) = some (8, mem ev (setC w c (go8 (cv w c)))) := by
      simp only [f_X1_steps, b_X1_steps_0, hL, L_X1_steps_2, b_X1_steps_2, b_X1_steps_8, b_X1_steps_16, b_X1_steps_23, b_X1_steps_29, cis h, Option.bind_some, bd2, b01, not_true_eq_false, not_false_eq_true, if_true, if_false, ie_1_0, Bool.false_eq_true, eq_self, Int32.reduceAdd, Int32.reduceLT, reduceIte, X1_applies_1 h hf, a1, X1_applies_2 h hf, a2, X1_applies_3 h hf, a3, X1_applies_4 h hf, a4, X1_applies_5 h hf, a5, X1_applies_6 h hf, a6, X1_applies_7 h hf, a7, X1_applies_8 h hf, a8, X1_goes_8 h hf]
    refine ⟨tv w c, ?_⟩
    rw [setT_tv, e]
    simp only [stV, goV, a1, a2, a3, a4, a5, a6, a7, a8, if_true, if_false, Bool.false_eq_true]
    rfl
  have e : f_X1_steps fu ev (mem ev w) (ev.1 + cr c) = some (0, mem ev w) := by
    simp only [f_X1_steps, b_X1_steps_0, hL, L_X1_steps_2, b_X1_steps_2, b_X1_steps_8, b_X1_steps_16, b_X1_steps_23, b_X1_steps_29, cis h, Option.bind_some, bd2, b01, not_true_eq_false, not_false_eq_true, if_true, if_false, ie_1_0, Bool.false_eq_true, eq_self, Int32.reduceAdd, Int32.reduceLT, reduceIte, X1_applies_1 h hf, a1, X1_applies_2 h hf, a2, X1_applies_3 h hf, a3, X1_applies_4 h hf, a4, X1_applies_5 h hf, a5, X1_applies_6 h hf, a6, X1_applies_7 h hf, a7, X1_applies_8 h hf, a8]
  refine ⟨tv w c, ?_⟩
  rw [setT_tv, e]
  simp only [stV, goV, a1, a2, a3, a4, a5, a6, a7, a8, if_true, if_false, Bool.false_eq_true, setC_cv]
  rfl
/-- so many steps -/
def itV : Nat → (Nat → Int64) → Nat → Int64
  | 0, v => v
  | n + 1, v => itV n (goV v)
/-- it comes to its end behind N steps -/
def Ends (v : Nat → Int64) (N : Nat) : Prop := (∀ i : Nat, i < N → stV (itV i v) ≠ 0) ∧ stV (itV N v) = 0
theorem stV_le (v : Nat → Int64) : stV v ≤ 8 := by
  unfold stV
  repeat' split
  all_goals decide
theorem L_normal (h : c < 118) (hf : 10 ≤ fu) : ∀ (N n : Nat) (w : Wd) (v : Nat → Int64) (x : Int32), Mk v → Ends v N → N + 1 ≤ n → ∃ t : Nat → Int32, L_X1_normalOf_11 fu ev n (mem ev (setC w c v)) (ev.1 + cr c) x = some (x + nI N, mem ev (setC (setT w c t) c (itV N v))) := by
  intro N
  induction N with
  | zero =>
    intro n w v x hv hE hn
    obtain ⟨m, rfl⟩ : ∃ m, n = m + 1 := ⟨n - 1, by omega⟩
    obtain ⟨t, e⟩ := X1_steps (w := setC w c v) (ev := ev) h hf
    have h0 : stV v = 0 := hE.2
    have hg : goV v = v := by
      have hh := h0
      unfold stV at hh
      unfold goV
      repeat' split at hh
      all_goals first | (exact absurd hh (by decide)) | (simp only [*, if_false, if_true, Bool.false_eq_true])
    rw [cv_mk hv, h0, hg, setT_setC, setC_set] at e
    refine ⟨t, ?_⟩
    show (isC _ _ _).bind _ = _
    rw [cis h]
    simp only [Option.bind_some, bd2, e]
    rw [if_pos (by decide)]
    show some (x, _) = _
    rw [show nI 0 = (0 : Int32) from rfl, Int32.add_zero]
    rfl
  | succ N ih =>
    intro n w v x hv hE hn
    obtain ⟨m, rfl⟩ : ∃ m, n = m + 1 := ⟨n - 1, by omega⟩
    obtain ⟨t, e⟩ := X1_steps (w := setC w c v) (ev := ev) h hf
    have h0 : stV v ≠ 0 := hE.1 0 (by omega)
    rw [cv_mk hv, setT_setC, setC_set] at e
    have hE' : Ends (goV v) N := ⟨fun i hi => hE.1 (i + 1) (by omega), hE.2⟩
    obtain ⟨t2, e2⟩ := ih m (setT w c t) (goV v) (x + 1) (Mk_go hv) hE' (by omega)
    refine ⟨t2, ?_⟩
    show (isC _ _ _).bind _ = _
    rw [cis h]
    simp only [Option.bind_some, bd2, e]
    have hle := stV_le v
    rw [if_neg (nI_nle (by omega) (by omega))]
    show L_X1_normalOf_11 fu ev m _ _ (x + 1) = _
    rw [e2, setT_setT]
    refine congrArg (fun z => some (z, _)) ?_
    rw [Int32.add_assoc, show (1 : Int32) = nI 1 from rfl, nI_add, Nat.add_comm]
theorem X1_normalOf (h : c < 118) (h2 : c2 < 118) (hne : c2 ≠ c) {N : Nat} (hE : Ends (sFresh (cv w c2)) N) (hf : N + 11 ≤ fu) : ∃ t : Nat → Int32, f_X1_normalOf fu ev (mem ev w) (ev.1 + cr c) (some (ev.1 + cr c2)) = some (nI N, mem ev (setC (setT w c t) c (itV N (sFresh (cv w c2))))) := by
  obtain ⟨t, e⟩ := L_normal (ev := ev) h (show 10 ≤ fu by omega) N fu w (sFresh (cv w c2)) 0 (Mk_fresh Mk_cv) hE (by omega)
  refine ⟨t, ?_⟩
  have hs : setC w c (sFresh (cv (setC w c (cv w c2)) c)) = setC w c (sFresh (cv w c2)) := by rw [cv_mk Mk_cv]
  simp only [f_X1_normalOf, b_X1_normalOf_0, cis h, Option.bind_some, bd2, X1_takes h h2 hne (show 4 ≤ fu by omega), X1_asItCame h (show 4 ≤ fu by omega), setC_set, hs]
  rw [e, Int32.zero_add]
end XCM5
