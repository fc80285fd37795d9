/-! OPERATION: cell -/
section XO4
variable {ev : Ev} {w : Wd} {fu M K c : Nat} {x y z : Int32}
theorem setC_21 {v : Nat → Int64} : (setC w c v).2.1 = w.2.1 := rfl
theorem setS_21 {v : Nat → Int64} : (setS w K v).2.1 = w.2.1 := rfl
theorem setT_21 {t : Nat → Int32} {q i : Nat} (h : q ≠ cr c + 7) : (setT w c t).2.1 q i = w.2.1 q i := if_neg h
theorem X2_mayBe6 (hf : 4 ≤ fu) : f_X2_mayBe fu ev (mem ev w) (ev.1 + 966) 6 = some (if mayV (sl w 6) = true then 1 else 0, mem ev w) := X2_mayBe (K := 6) (by decide) hf
theorem X2_put6 {a1 a2 a3 a4 a5 a6 : Int64} : f_X2_put fu ev (mem ev w) (ev.1 + 966) 6 a1 a2 a3 a4 a5 a6 = some ((), mem ev (setS w 6 (sPut (sl w 6) a1 a2 a3 a4 a5 a6))) := X2_put (K := 6) (by decide)
theorem X2_moves6 (h : K < 6) (hf : 10 ≤ fu) : f_X2_moves fu ev (mem ev w) (ev.1 + 966) 6 (nI K) = some ((), mem ev (setS w K (sl w 6))) := X2_moves (K := 6) (K2 := K) (by decide) (by omega) (by omega) hf
theorem nI_eq6 (h : M < 6) : (nI M = 6) = False := eq_false (fun e => absurd ((nI_eq (by omega) (by decide)).mp (e.trans (show (6 : Int32) = nI 6 from rfl))) (by omega))
theorem X0_comes_bad (hf : 4 ≤ fu) (hb : ¬ mayV (cv w 2) = true) : f_X0_comes fu ev (mem ev w) ev.1 = some (-1, mem ev w) := by
  simp only [b_X0_comes_24, b_X0_comes_21, b_X0_comes_12, b_X0_comes_10, b_X0_comes_0, f_X0_comes, xf4, cis (show 2 < 118 by decide), X1_mayBe (show 2 < 118 by decide) hf, hb, Option.bind_some, bd2, b01, if_true, if_false, not_true_eq_false, not_false_eq_true, Bool.false_eq_true, eq_self, Int32.reduceAdd, Int32.reduceMul, Int32.reduceLE, Int32.reduceLT, reduceIte, Int32.add_assoc, ie_0_1, ie_0_2, ie_0_3, ie_0_4, ie_0_5, ie_0_6, ie_0_7, ie_0_8, ie_0_9, ie_1_0, ie_1_2, ie_1_3, ie_1_4, ie_1_5, ie_1_6, ie_1_7, ie_1_8, ie_1_9, ie_2_0, ie_2_1, ie_2_3, ie_2_4, ie_2_5, ie_2_6, ie_2_7, ie_2_8, ie_2_9, ie_3_0, ie_3_1, ie_3_2, ie_3_4, ie_3_5, ie_3_6, ie_3_7, ie_3_8, ie_3_9, ie_4_0, ie_4_1, ie_4_2, ie_4_3, ie_4_5, ie_4_6, ie_4_7, ie_4_8, ie_4_9, ie_5_0, ie_5_1, ie_5_2, ie_5_3, ie_5_4, ie_5_6, ie_5_7, ie_5_8, ie_5_9, ie_6_0, ie_6_1, ie_6_2, ie_6_3, ie_6_4, ie_6_5, ie_6_7, ie_6_8, ie_6_9, ie_7_0, ie_7_1, ie_7_2, ie_7_3, ie_7_4, ie_7_5, ie_7_6, ie_7_8, ie_7_9, ie_8_0, ie_8_1, ie_8_2, ie_8_3, ie_8_4, ie_8_5, ie_8_6, ie_8_7, ie_8_9, ie_9_0, ie_9_1, ie_9_2, ie_9_3, ie_9_4, ie_9_5, ie_9_6, ie_9_7, ie_9_8, nI_1, nI_pred, setC_21, setS_21, wI_same]
theorem X0_comes_full (hf : 4 ≤ fu) (hb : mayV (cv w 2) = true) (hM : w.2.1 0 1 = 6) : f_X0_comes fu ev (mem ev w) ev.1 = some (-3, mem ev w) := by
  simp only [b_X0_comes_24, b_X0_comes_21, b_X0_comes_12, b_X0_comes_10, b_X0_comes_0, f_X0_comes, xf4, xi1, hM, cis (show 2 < 118 by decide), X1_mayBe (show 2 < 118 by decide) hf, hb, Option.bind_some, bd2, b01, if_true, if_false, not_true_eq_false, not_false_eq_true, Bool.false_eq_true, eq_self, Int32.reduceAdd, Int32.reduceMul, Int32.reduceLE, Int32.reduceLT, reduceIte, Int32.add_assoc, ie_0_1, ie_0_2, ie_0_3, ie_0_4, ie_0_5, ie_0_6, ie_0_7, ie_0_8, ie_0_9, ie_1_0, ie_1_2, ie_1_3, ie_1_4, ie_1_5, ie_1_6, ie_1_7, ie_1_8, ie_1_9, ie_2_0, ie_2_1, ie_2_3, ie_2_4, ie_2_5, ie_2_6, ie_2_7, ie_2_8, ie_2_9, ie_3_0, ie_3_1, ie_3_2, ie_3_4, ie_3_5, ie_3_6, ie_3_7, ie_3_8, ie_3_9, ie_4_0, ie_4_1, ie_4_2, ie_4_3, ie_4_5, ie_4_6, ie_4_7, ie_4_8, ie_4_9, ie_5_0, ie_5_1, ie_5_2, ie_5_3, ie_5_4, ie_5_6, ie_5_7, ie_5_8, ie_5_9, ie_6_0, ie_6_1, ie_6_2, ie_6_3, ie_6_4, ie_6_5, ie_6_7, ie_6_8, ie_6_9, ie_7_0, ie_7_1, ie_7_2, ie_7_3, ie_7_4, ie_7_5, ie_7_6, ie_7_8, ie_7_9, ie_8_0, ie_8_1, ie_8_2, ie_8_3, ie_8_4, ie_8_5, ie_8_6, ie_8_7, ie_8_9, ie_9_0, ie_9_1, ie_9_2, ie_9_3, ie_9_4, ie_9_5, ie_9_6, ie_9_7, ie_9_8, nI_1, nI_pred, setC_21, setS_21, wI_same]
theorem X0_comes_ok (hf : 4 ≤ fu) (hb : mayV (cv w 2) = true) (hM : w.2.1 0 1 = nI M) (h6 : M < 6) : f_X0_comes fu ev (mem ev w) ev.1 = some (nI M, mem ev (wI (setC w (3 + 2 * M) (cv w 2)) 0 1 (nI (M + 1)))) := by
  simp only [b_X0_comes_24, b_X0_comes_21, b_X0_comes_12, b_X0_comes_10, b_X0_comes_0, f_X0_comes, xf0, xf4, xi1, xp1, hM, cis (show 2 < 118 by decide), cis (show 3 + 2 * M < 118 by omega), X1_mayBe (show 2 < 118 by decide) hf, hb, nI_eq6 h6, xcells h6, X1_takes (show 3 + 2 * M < 118 by omega) (show 2 < 118 by decide) (show 2 ≠ 3 + 2 * M by omega) hf, Option.bind_some, bd2, b01, if_true, if_false, not_true_eq_false, not_false_eq_true, Bool.false_eq_true, eq_self, Int32.reduceAdd, Int32.reduceMul, Int32.reduceLE, Int32.reduceLT, reduceIte, Int32.add_assoc, ie_0_1, ie_0_2, ie_0_3, ie_0_4, ie_0_5, ie_0_6, ie_0_7, ie_0_8, ie_0_9, ie_1_0, ie_1_2, ie_1_3, ie_1_4, ie_1_5, ie_1_6, ie_1_7, ie_1_8, ie_1_9, ie_2_0, ie_2_1, ie_2_3, ie_2_4, ie_2_5, ie_2_6, ie_2_7, ie_2_8, ie_2_9, ie_3_0, ie_3_1, ie_3_2, ie_3_4, ie_3_5, ie_3_6, ie_3_7, ie_3_8, ie_3_9, ie_4_0, ie_4_1, ie_4_2, ie_4_3, ie_4_5, ie_4_6, ie_4_7, ie_4_8, ie_4_9, ie_5_0, ie_5_1, ie_5_2, ie_5_3, ie_5_4, ie_5_6, ie_5_7, ie_5_8, ie_5_9, ie_6_0, ie_6_1, ie_6_2, ie_6_3, ie_6_4, ie_6_5, ie_6_7, ie_6_8, ie_6_9, ie_7_0, ie_7_1, ie_7_2, ie_7_3, ie_7_4, ie_7_5, ie_7_6, ie_7_8, ie_7_9, ie_8_0, ie_8_1, ie_8_2, ie_8_3, ie_8_4, ie_8_5, ie_8_6, ie_8_7, ie_8_9, ie_9_0, ie_9_1, ie_9_2, ie_9_3, ie_9_4, ie_9_5, ie_9_6, ie_9_7, ie_9_8, nI_1, nI_pred, setC_21, setS_21, wI_same]
theorem X2_comes_bad (hf : 10 ≤ fu) (hb : ¬ mayV (sl w 6) = true) : f_X2_comes fu ev (mem ev w) (ev.1 + 966) = some (-1, mem ev w) := by
  simp only [b_X2_comes_23, b_X2_comes_20, b_X2_comes_11, b_X2_comes_9, b_X2_comes_0, f_X2_comes, mis, X2_mayBe6 (show 4 ≤ fu by omega), hb, Option.bind_some, bd2, b01, if_true, if_false, not_true_eq_false, not_false_eq_true, Bool.false_eq_true, eq_self, Int32.reduceAdd, Int32.reduceMul, Int32.reduceLE, Int32.reduceLT, reduceIte, Int32.add_assoc, ie_0_1, ie_0_2, ie_0_3, ie_0_4, ie_0_5, ie_0_6, ie_0_7, ie_0_8, ie_0_9, ie_1_0, ie_1_2, ie_1_3, ie_1_4, ie_1_5, ie_1_6, ie_1_7, ie_1_8, ie_1_9, ie_2_0, ie_2_1, ie_2_3, ie_2_4, ie_2_5, ie_2_6, ie_2_7, ie_2_8, ie_2_9, ie_3_0, ie_3_1, ie_3_2, ie_3_4, ie_3_5, ie_3_6, ie_3_7, ie_3_8, ie_3_9, ie_4_0, ie_4_1, ie_4_2, ie_4_3, ie_4_5, ie_4_6, ie_4_7, ie_4_8, ie_4_9, ie_5_0, ie_5_1, ie_5_2, ie_5_3, ie_5_4, ie_5_6, ie_5_7, ie_5_8, ie_5_9, ie_6_0, ie_6_1, ie_6_2, ie_6_3, ie_6_4, ie_6_5, ie_6_7, ie_6_8, ie_6_9, ie_7_0, ie_7_1, ie_7_2, ie_7_3, ie_7_4, ie_7_5, ie_7_6, ie_7_8, ie_7_9, ie_8_0, ie_8_1, ie_8_2, ie_8_3, ie_8_4, ie_8_5, ie_8_6, ie_8_7, ie_8_9, ie_9_0, ie_9_1, ie_9_2, ie_9_3, ie_9_4, ie_9_5, ie_9_6, ie_9_7, ie_9_8, nI_1, nI_pred, setC_21, setS_21, wI_same]
theorem X2_comes_full (hf : 10 ≤ fu) (hb : mayV (sl w 6) = true) (hM : w.2.1 966 2 = 6) : f_X2_comes fu ev (mem ev w) (ev.1 + 966) = some (-3, mem ev w) := by
  simp only [b_X2_comes_23, b_X2_comes_20, b_X2_comes_11, b_X2_comes_9, b_X2_comes_0, f_X2_comes, mis, mi2, hM, X2_mayBe6 (show 4 ≤ fu by omega), hb, Option.bind_some, bd2, b01, if_true, if_false, not_true_eq_false, not_false_eq_true, Bool.false_eq_true, eq_self, Int32.reduceAdd, Int32.reduceMul, Int32.reduceLE, Int32.reduceLT, reduceIte, Int32.add_assoc, ie_0_1, ie_0_2, ie_0_3, ie_0_4, ie_0_5, ie_0_6, ie_0_7, ie_0_8, ie_0_9, ie_1_0, ie_1_2, ie_1_3, ie_1_4, ie_1_5, ie_1_6, ie_1_7, ie_1_8, ie_1_9, ie_2_0, ie_2_1, ie_2_3, ie_2_4, ie_2_5, ie_2_6, ie_2_7, ie_2_8, ie_2_9, ie_3_0, ie_3_1, ie_3_2, ie_3_4, ie_3_5, ie_3_6, ie_3_7, ie_3_8, ie_3_9, ie_4_0, ie_4_1, ie_4_2, ie_4_3, ie_4_5, ie_4_6, ie_4_7, ie_4_8, ie_4_9, ie_5_0, ie_5_1, ie_5_2, ie_5_3, ie_5_4, ie_5_6, ie_5_7, ie_5_8, ie_5_9, ie_6_0, ie_6_1, ie_6_2, ie_6_3, ie_6_4, ie_6_5, ie_6_7, ie_6_8, ie_6_9, ie_7_0, ie_7_1, ie_7_2, ie_7_3, ie_7_4, ie_7_5, ie_7_6, ie_7_8, ie_7_9, ie_8_0, ie_8_1, ie_8_2, ie_8_3, ie_8_4, ie_8_5, ie_8_6, ie_8_7, ie_8_9, ie_9_0, ie_9_1, ie_9_2, ie_9_3, ie_9_4, ie_9_5, ie_9_6, ie_9_7, ie_9_8, nI_1, nI_pred, setC_21, setS_21, wI_same]
theorem X2_comes_ok (hf : 10 ≤ fu) (hb : mayV (sl w 6) = true) (hM : w.2.1 966 2 = nI M) (h6 : M < 6) : f_X2_comes fu ev (mem ev w) (ev.1 + 966) = some (nI M, mem ev (wI (setS w M (sFresh (sl w 6))) 966 2 (nI (M + 1)))) := by
  have hs : setS w M (sFresh (sl (setS w M (sl w 6)) M)) = setS w M (sFresh (sl w 6)) := by rw [sl_mk Mk_sl]
  simp only [b_X2_comes_23, b_X2_comes_20, b_X2_comes_11, b_X2_comes_9, b_X2_comes_0, f_X2_comes, mis, mi2, mp2, hM, X2_mayBe6 (show 4 ≤ fu by omega), hb, nI_eq6 h6, X2_moves6 h6 hf, X2_fresh (show M < 26 by omega) hf, setS_set, hs, Option.bind_some, bd2, b01, if_true, if_false, not_true_eq_false, not_false_eq_true, Bool.false_eq_true, eq_self, Int32.reduceAdd, Int32.reduceMul, Int32.reduceLE, Int32.reduceLT, reduceIte, Int32.add_assoc, ie_0_1, ie_0_2, ie_0_3, ie_0_4, ie_0_5, ie_0_6, ie_0_7, ie_0_8, ie_0_9, ie_1_0, ie_1_2, ie_1_3, ie_1_4, ie_1_5, ie_1_6, ie_1_7, ie_1_8, ie_1_9, ie_2_0, ie_2_1, ie_2_3, ie_2_4, ie_2_5, ie_2_6, ie_2_7, ie_2_8, ie_2_9, ie_3_0, ie_3_1, ie_3_2, ie_3_4, ie_3_5, ie_3_6, ie_3_7, ie_3_8, ie_3_9, ie_4_0, ie_4_1, ie_4_2, ie_4_3, ie_4_5, ie_4_6, ie_4_7, ie_4_8, ie_4_9, ie_5_0, ie_5_1, ie_5_2, ie_5_3, ie_5_4, ie_5_6, ie_5_7, ie_5_8, ie_5_9, ie_6_0, ie_6_1, ie_6_2, ie_6_3, ie_6_4, ie_6_5, ie_6_7, ie_6_8, ie_6_9, ie_7_0, ie_7_1, ie_7_2, ie_7_3, ie_7_4, ie_7_5, ie_7_6, ie_7_8, ie_7_9, ie_8_0, ie_8_1, ie_8_2, ie_8_3, ie_8_4, ie_8_5, ie_8_6, ie_8_7, ie_8_9, ie_9_0, ie_9_1, ie_9_2, ie_9_3, ie_9_4, ie_9_5, ie_9_6, ie_9_7, ie_9_8, nI_1, nI_pred, setC_21, setS_21, wI_same]
theorem may_six {v u : Nat → Int64} (h : ∀ i : Nat, i < 6 → v i = u i) : mayV v = mayV u := by
  unfold mayV sVol
  rw [h 0 (by decide), h 1 (by decide), h 2 (by decide), h 3 (by decide), h 4 (by decide), h 5 (by decide)]
theorem Mk_tell {a b c x y z : Int64} : Mk (sTell a b c x y z) := by
  unfold sTell
  exact Mk_up (Mk_up (Mk_up (Mk_up (Mk_up (Mk_up (Mk_fresh (fun _ _ => rfl)) (by decide)) (by decide)) (by decide)) (by decide)) (by decide)) (by decide)
theorem Mk_put {v : Nat → Int64} {a b c x y z : Int64} (hv : Mk v) : Mk (sPut v a b c x y z) := by
  unfold sPut
  exact Mk_up (Mk_up (Mk_up (Mk_up (Mk_up (Mk_up hv (by decide)) (by decide)) (by decide)) (by decide)) (by decide)) (by decide)
theorem tell_put {v : Nat → Int64} {a b c x y z : Int64} (hv : Mk v) : sFresh (sPut v a b c x y z) = sTell a b c x y z := by
  funext i
  rcases Nat.lt_or_ge i 15 with h | h
  · match i, h with
    | 0, _ => rfl
    | 1, _ => rfl
    | 2, _ => rfl
    | 3, _ => rfl
    | 4, _ => rfl
    | 5, _ => rfl
    | 6, _ => rfl
    | 7, _ => rfl
    | 8, _ => rfl
    | 9, _ => rfl
    | 10, _ => rfl
    | 11, _ => rfl
    | 12, _ => rfl
    | 13, _ => rfl
    | 14, _ => rfl
  · rw [Mk_fresh (Mk_put hv) i h, Mk_tell i h]
def outC (M : Nat) (v : Nat → Int64) : Int32 := if mayV v = true then (if M < 6 then nI M else -3) else -1
/-- what comes: the class's world, the model's -/
def comC (w : Wd) (M : Nat) (v : Nat → Int64) : Wd := if mayV v = true ∧ M < 6 then wI (setC (setC w 2 v) (3 + 2 * M) v) 0 1 (nI (M + 1)) else setC w 2 v
def comM (w : Wd) (M : Nat) (v : Nat → Int64) : Wd := if mayV v = true ∧ M < 6 then wI (setS (setS w 6 v) M (sFresh v)) 966 2 (nI (M + 1)) else setS w 6 v
theorem X0_comesV {v : Nat → Int64} (hv : Mk v) (hf : 4 ≤ fu) (hM : w.2.1 0 1 = nI M) (hM6 : M ≤ 6) : f_X0_comes fu ev (mem ev (setC w 2 v)) ev.1 = some (outC M v, mem ev (comC w M v)) := by
  have hc : cv (setC w 2 v) 2 = v := cv_mk hv
  unfold outC comC
  by_cases hb : mayV v = true
  · by_cases h6 : M < 6
    · rw [if_pos hb, if_pos h6, if_pos ⟨hb, h6⟩, X0_comes_ok (w := setC w 2 v) hf (by rw [hc]; exact hb) hM h6, hc]
    · have e6 : M = 6 := by omega
      subst e6
      rw [if_pos hb, if_neg h6, if_neg (fun z => h6 z.2), X0_comes_full (w := setC w 2 v) hf (by rw [hc]; exact hb) hM]
  · rw [if_neg hb, if_neg (fun z => hb z.1), X0_comes_bad (w := setC w 2 v) hf (by rw [hc]; exact hb)]
theorem X2_comesV {v : Nat → Int64} (hv : Mk v) (hf : 10 ≤ fu) (hM : w.2.1 966 2 = nI M) (hM6 : M ≤ 6) : f_X2_comes fu ev (mem ev (setS w 6 v)) (ev.1 + 966) = some (outC M v, mem ev (comM w M v)) := by
  have hc : sl (setS w 6 v) 6 = v := sl_mk hv
  unfold outC comM
  by_cases hb : mayV v = true
  · by_cases h6 : M < 6
    · rw [if_pos hb, if_pos h6, if_pos ⟨hb, h6⟩, X2_comes_ok (w := setS w 6 v) hf (by rw [hc]; exact hb) hM h6, hc]
    · have e6 : M = 6 := by omega
      subst e6
      rw [if_pos hb, if_neg h6, if_neg (fun z => h6 z.2), X2_comes_full (w := setS w 6 v) hf (by rw [hc]; exact hb) hM]
  · rw [if_neg hb, if_neg (fun z => hb z.1), X2_comes_bad (w := setS w 6 v) hf (by rw [hc]; exact hb)]
theorem outC_six {v u : Nat → Int64} (h : ∀ i : Nat, i < 6 → v i = u i) : outC M v = outC M u := by
  unfold outC
  rw [may_six h]
theorem X0_cell {x1 x2 x3 x4 x5 x6 : Int32} (hf : 4 ≤ fu) (hM : w.2.1 0 1 = nI M) (hM6 : M ≤ 6) : f_X0_cell fu ev (mem ev w) ev.1 x1 x2 x3 x4 x5 x6 = some (outC M (sTell x1.toInt64 x2.toInt64 x3.toInt64 x4.toInt64 x5.toInt64 x6.toInt64), mem ev (comC w M (sTell x1.toInt64 x2.toInt64 x3.toInt64 x4.toInt64 x5.toInt64 x6.toInt64))) := by
  simp only [b_X0_cell_0, f_X0_cell, xf4, xis, cis (show 2 < 118 by decide), X1_tells (show 2 < 118 by decide) hf, X0_comesV Mk_tell hf hM hM6, Option.bind_some, bd2]
theorem X2_cell {x1 x2 x3 x4 x5 x6 : Int32} (hf : 10 ≤ fu) (hM : w.2.1 966 2 = nI M) (hM6 : M ≤ 6) : f_X2_cell fu ev (mem ev w) (ev.1 + 966) x1 x2 x3 x4 x5 x6 = some (outC M (sTell x1.toInt64 x2.toInt64 x3.toInt64 x4.toInt64 x5.toInt64 x6.toInt64), mem ev (comM w M (sPut (sl w 6) x1.toInt64 x2.toInt64 x3.toInt64 x4.toInt64 x5.toInt64 x6.toInt64))) := by
  rw [outC_six (v := (sTell x1.toInt64 x2.toInt64 x3.toInt64 x4.toInt64 x5.toInt64 x6.toInt64)) (u := (sPut (sl w 6) x1.toInt64 x2.toInt64 x3.toInt64 x4.toInt64 x5.toInt64 x6.toInt64)) (fun i hi => by match i, hi with | 0, _ => rfl | 1, _ => rfl | 2, _ => rfl | 3, _ => rfl | 4, _ => rfl | 5, _ => rfl)]
  simp only [b_X2_cell_0, f_X2_cell, mis, X2_put6, X2_comesV (Mk_put Mk_sl) hf hM hM6, Option.bind_some, bd2]
end XO4
