/-! THE METHODS OF A CELL, upon the world (4): goes, steps -/
def lessV (x : Int64) : Int64 := if 0 < x then -1 else 1
def tu4 (v : Nat → Int64) : Nat → Int64 := let p0 := decide (0 < v 3); let p1 := decide (0 < v 4); let p2 := decide (0 < v 5); let one := (p0 && !p1 && !p2) || (!p0 && p1 && !p2) || (!p0 && !p1 && p2); tu3 v (p0 || (one && (decide (v 3 = 0) && !decide (v 4 = 0) && !decide (v 5 = 0)))) (p1 || (one && (decide (v 4 = 0) && !decide (v 5 = 0)))) (p2 || (one && decide (v 5 = 0)))
def go1 (v : Nat → Int64) : Nat → Int64 := sTurn (sTurn (sTurn (sSwap v 0 1) 0) 1) 2
def go2 (v : Nat → Int64) : Nat → Int64 := sTurn (sTurn (sTurn (sSwap v 1 2) 0) 1) 2
def go3 (v : Nat → Int64) : Nat → Int64 := tu3 v (decide (v 3 < 0)) (decide (v 4 < 0)) (decide (v 5 < 0))
def go4 (v : Nat → Int64) : Nat → Int64 := tu4 v
def go5 (v : Nat → Int64) : Nat → Int64 := sAdds v 2 1 0 (lessV (v 3))
def go6 (v : Nat → Int64) : Nat → Int64 := sAdds v 2 0 1 (lessV (v 4))
def go7 (v : Nat → Int64) : Nat → Int64 := sAdds v 1 0 2 (lessV (v 5))
def go8 (v : Nat → Int64) : Nat → Int64 := sAdds (sAdds v 2 0 1 1) 2 1 0 1
/-- the first step that applies (0: none), and what it does -/
def stV (v : Nat → Int64) : Nat := if ap1 v = true then 1 else if ap2 v = true then 2 else if ap3 v = true then 3 else if ap4 v = true then 4 else if ap5 v = true then 5 else if ap6 v = true then 6 else if ap7 v = true then 7 else if ap8 v = true then 8 else 0
def goV (v : Nat → Int64) : Nat → Int64 := if ap1 v = true then go1 v else if ap2 v = true then go2 v else if ap3 v = true then go3 v else if ap4 v = true then go4 v else if ap5 v = true then go5 v else if ap6 v = true then go6 v else if ap7 v = true then go7 v else if ap8 v = true then go8 v else v
theorem tri (x : Int64) : 0 < x ∨ x = 0 ∨ x < 0 := by
  by_cases p : 0 < x
  · exact Or.inl p
  · by_cases z : x = 0
    · exact Or.inr (Or.inl z)
    · rcases Int64.lt_or_lt_of_ne z with h | h
      · exact Or.inr (Or.inr h)
      · exact absurd h p
theorem sgnP {x : Int64} (h : 0 < x) : sgn x = 1 ∧ (0 < x) = True ∧ (x = 0) = False ∧ (x < 0) = False := ⟨by unfold sgn; rw [if_pos h], eq_true h, (sP h).2.1, eq_false (fun q => Int64.lt_irrefl (Int64.lt_trans h q))⟩
theorem sgnZ {x : Int64} (h : x = 0) : sgn x = 0 ∧ (0 < x) = False ∧ (x = 0) = True ∧ (x < 0) = False := by subst h; exact ⟨by decide, eq_false (by decide), eq_true rfl, eq_false (by decide)⟩
theorem sgnN {x : Int64} (h : x < 0) : sgn x = -1 ∧ (0 < x) = False ∧ (x = 0) = False ∧ (x < 0) = True := ⟨by unfold sgn; rw [if_neg (fun q => Int64.lt_irrefl (Int64.lt_trans h q)), if_neg (fun e => by rw [e] at h; exact Int64.lt_irrefl h)], eq_false (fun q => Int64.lt_irrefl (Int64.lt_trans h q)), (sN h).2.1, eq_true h⟩
section XCM4
variable {ev : Ev} {w : Wd} {c c2 fu : Nat} {k : Int64}
theorem setC_adds {w0 : Wd} {v : Nat → Int64} {i j t : Nat} {k : Int64} (hi : i < 3) (hj : j < 3) (ht : t < 3) : setC w c (sAdds (cv (setC w0 c v) c) i j t k) = setC w c (sAdds v i j t k) := setC_ext fun q hq => by
  simp only [sAdds, upV_at]
  rw [cv_self (show i < 15 by omega), cv_self (show 3 + t < 15 by omega), cv_self (show j < 15 by omega), cv_self (show 3 + j < 15 by omega), cv_self (show 3 + i < 15 by omega), cv_self (show 6 + 3 * i < 15 by omega), cv_self (show 6 + 3 * j < 15 by omega), cv_self (show 7 + 3 * i < 15 by omega), cv_self (show 7 + 3 * j < 15 by omega), cv_self (show 8 + 3 * i < 15 by omega), cv_self (show 8 + 3 * j < 15 by omega), cv_self hq]
theorem X1_less {σ : Mm} {x : Int64} : f_X1_less fu ev σ x = some (lessV x, σ) := by
  simp only [f_X1_less, b_X1_less_0, b_X1_less_6, b_X1_less_12, b_X1_less_13, lessV, j_le]
  by_cases h : 0 < x <;> simp only [h, not_true_eq_false, not_false_eq_true, if_true, if_false]
theorem X1_goes_1 (h : c < 118) (hf : 4 ≤ fu) : f_X1_goes fu ev (mem ev w) (ev.1 + cr c) 1 = some ((), mem ev (setC w c (go1 (cv w c)))) := by
  simp only [b_X1_goes_154, b_X1_goes_44, b_X1_goes_57, b_X1_goes_70, b_X1_goes_78, b_X1_goes_86, b_X1_goes_104, b_X1_goes_122, b_X1_goes_140, b_X1_goes_0, f_X1_goes, bd2, Option.bind_some, setC_set, setC_up, upV_at, cv0, cv1, cv2, cv3, cv4, cv5, cv6, cv7, cv8, cv9, cv10, cv11, cv12, cv13, cv14, cf0 h, cf1 h, cf2 h, cf3 h, cis h, cr0 h, cr1 h, cr2 h, cl10 h, cl11 h, cl12 h, cl20 h, cl21 h, cl22 h, cl40 h, cl41 h, cl42 h, cl50 h, cl51 h, cl52 h, cl60 h, cl61 h, cl62 h, cs10 h, cs11 h, cs12 h, cs20 h, cs21 h, cs22 h, cs40 h, cs41 h, cs42 h, cs50 h, cs51 h, cs52 h, cs60 h, cs61 h, cs62 h, Int32.reduceAdd, Int32.reduceSub, Int32.reduceLE, Int32.reduceLT, Nat.reduceEqDiff, reduceIte, X1_exchanges_01 h hf, X1_turnsAll h hf, setC_turn3, ie_0_1, ie_0_2, ie_0_3, ie_0_4, ie_0_5, ie_0_6, ie_0_7, ie_0_8, ie_0_9, ie_1_0, ie_1_2, ie_1_3, ie_1_4, ie_1_5, ie_1_6, ie_1_7, ie_1_8, ie_1_9, ie_2_0, ie_2_1, ie_2_3, ie_2_4, ie_2_5, ie_2_6, ie_2_7, ie_2_8, ie_2_9, ie_3_0, ie_3_1, ie_3_2, ie_3_4, ie_3_5, ie_3_6, ie_3_7, ie_3_8, ie_3_9, ie_4_0, ie_4_1, ie_4_2, ie_4_3, ie_4_5, ie_4_6, ie_4_7, ie_4_8, ie_4_9, ie_5_0, ie_5_1, ie_5_2, ie_5_3, ie_5_4, ie_5_6, ie_5_7, ie_5_8, ie_5_9, ie_6_0, ie_6_1, ie_6_2, ie_6_3, ie_6_4, ie_6_5, ie_6_7, ie_6_8, ie_6_9, ie_7_0, ie_7_1, ie_7_2, ie_7_3, ie_7_4, ie_7_5, ie_7_6, ie_7_8, ie_7_9, ie_8_0, ie_8_1, ie_8_2, ie_8_3, ie_8_4, ie_8_5, ie_8_6, ie_8_7, ie_8_9, ie_9_0, ie_9_1, ie_9_2, ie_9_3, ie_9_4, ie_9_5, ie_9_6, ie_9_7, ie_9_8]
  try rfl
theorem X1_goes_2 (h : c < 118) (hf : 4 ≤ fu) : f_X1_goes fu ev (mem ev w) (ev.1 + cr c) 2 = some ((), mem ev (setC w c (go2 (cv w c)))) := by
  simp only [b_X1_goes_154, b_X1_goes_44, b_X1_goes_57, b_X1_goes_70, b_X1_goes_78, b_X1_goes_86, b_X1_goes_104, b_X1_goes_122, b_X1_goes_140, b_X1_goes_0, f_X1_goes, bd2, Option.bind_some, setC_set, setC_up, upV_at, cv0, cv1, cv2, cv3, cv4, cv5, cv6, cv7, cv8, cv9, cv10, cv11, cv12, cv13, cv14, cf0 h, cf1 h, cf2 h, cf3 h, cis h, cr0 h, cr1 h, cr2 h, cl10 h, cl11 h, cl12 h, cl20 h, cl21 h, cl22 h, cl40 h, cl41 h, cl42 h, cl50 h, cl51 h, cl52 h, cl60 h, cl61 h, cl62 h, cs10 h, cs11 h, cs12 h, cs20 h, cs21 h, cs22 h, cs40 h, cs41 h, cs42 h, cs50 h, cs51 h, cs52 h, cs60 h, cs61 h, cs62 h, Int32.reduceAdd, Int32.reduceSub, Int32.reduceLE, Int32.reduceLT, Nat.reduceEqDiff, reduceIte, X1_exchanges_12 h hf, X1_turnsAll h hf, setC_turn3, ie_0_1, ie_0_2, ie_0_3, ie_0_4, ie_0_5, ie_0_6, ie_0_7, ie_0_8, ie_0_9, ie_1_0, ie_1_2, ie_1_3, ie_1_4, ie_1_5, ie_1_6, ie_1_7, ie_1_8, ie_1_9, ie_2_0, ie_2_1, ie_2_3, ie_2_4, ie_2_5, ie_2_6, ie_2_7, ie_2_8, ie_2_9, ie_3_0, ie_3_1, ie_3_2, ie_3_4, ie_3_5, ie_3_6, ie_3_7, ie_3_8, ie_3_9, ie_4_0, ie_4_1, ie_4_2, ie_4_3, ie_4_5, ie_4_6, ie_4_7, ie_4_8, ie_4_9, ie_5_0, ie_5_1, ie_5_2, ie_5_3, ie_5_4, ie_5_6, ie_5_7, ie_5_8, ie_5_9, ie_6_0, ie_6_1, ie_6_2, ie_6_3, ie_6_4, ie_6_5, ie_6_7, ie_6_8, ie_6_9, ie_7_0, ie_7_1, ie_7_2, ie_7_3, ie_7_4, ie_7_5, ie_7_6, ie_7_8, ie_7_9, ie_8_0, ie_8_1, ie_8_2, ie_8_3, ie_8_4, ie_8_5, ie_8_6, ie_8_7, ie_8_9, ie_9_0, ie_9_1, ie_9_2, ie_9_3, ie_9_4, ie_9_5, ie_9_6, ie_9_7, ie_9_8]
  try rfl
theorem X1_goes_5 (h : c < 118) (hf : 4 ≤ fu) : f_X1_goes fu ev (mem ev w) (ev.1 + cr c) 5 = some ((), mem ev (setC w c (go5 (cv w c)))) := by
  simp only [b_X1_goes_154, b_X1_goes_44, b_X1_goes_57, b_X1_goes_70, b_X1_goes_78, b_X1_goes_86, b_X1_goes_104, b_X1_goes_122, b_X1_goes_140, b_X1_goes_0, f_X1_goes, bd2, Option.bind_some, setC_set, setC_up, upV_at, cv0, cv1, cv2, cv3, cv4, cv5, cv6, cv7, cv8, cv9, cv10, cv11, cv12, cv13, cv14, cf0 h, cf1 h, cf2 h, cf3 h, cis h, cr0 h, cr1 h, cr2 h, cl10 h, cl11 h, cl12 h, cl20 h, cl21 h, cl22 h, cl40 h, cl41 h, cl42 h, cl50 h, cl51 h, cl52 h, cl60 h, cl61 h, cl62 h, cs10 h, cs11 h, cs12 h, cs20 h, cs21 h, cs22 h, cs40 h, cs41 h, cs42 h, cs50 h, cs51 h, cs52 h, cs60 h, cs61 h, cs62 h, Int32.reduceAdd, Int32.reduceSub, Int32.reduceLE, Int32.reduceLT, Nat.reduceEqDiff, reduceIte, X1_less, X1_adds_21 h hf, ie_0_1, ie_0_2, ie_0_3, ie_0_4, ie_0_5, ie_0_6, ie_0_7, ie_0_8, ie_0_9, ie_1_0, ie_1_2, ie_1_3, ie_1_4, ie_1_5, ie_1_6, ie_1_7, ie_1_8, ie_1_9, ie_2_0, ie_2_1, ie_2_3, ie_2_4, ie_2_5, ie_2_6, ie_2_7, ie_2_8, ie_2_9, ie_3_0, ie_3_1, ie_3_2, ie_3_4, ie_3_5, ie_3_6, ie_3_7, ie_3_8, ie_3_9, ie_4_0, ie_4_1, ie_4_2, ie_4_3, ie_4_5, ie_4_6, ie_4_7, ie_4_8, ie_4_9, ie_5_0, ie_5_1, ie_5_2, ie_5_3, ie_5_4, ie_5_6, ie_5_7, ie_5_8, ie_5_9, ie_6_0, ie_6_1, ie_6_2, ie_6_3, ie_6_4, ie_6_5, ie_6_7, ie_6_8, ie_6_9, ie_7_0, ie_7_1, ie_7_2, ie_7_3, ie_7_4, ie_7_5, ie_7_6, ie_7_8, ie_7_9, ie_8_0, ie_8_1, ie_8_2, ie_8_3, ie_8_4, ie_8_5, ie_8_6, ie_8_7, ie_8_9, ie_9_0, ie_9_1, ie_9_2, ie_9_3, ie_9_4, ie_9_5, ie_9_6, ie_9_7, ie_9_8]
  try rfl
theorem X1_goes_6 (h : c < 118) (hf : 4 ≤ fu) : f_X1_goes fu ev (mem ev w) (ev.1 + cr c) 6 = some ((), mem ev (setC w c (go6 (cv w c)))) := by
  simp only [b_X1_goes_154, b_X1_goes_44, b_X1_goes_57, b_X1_goes_70, b_X1_goes_78, b_X1_goes_86, b_X1_goes_104, b_X1_goes_122, b_X1_goes_140, b_X1_goes_0, f_X1_goes, bd2, Option.bind_some, setC_set, setC_up, upV_at, cv0, cv1, cv2, cv3, cv4, cv5, cv6, cv7, cv8, cv9, cv10, cv11, cv12, cv13, cv14, cf0 h, cf1 h, cf2 h, cf3 h, cis h, cr0 h, cr1 h, cr2 h, cl10 h, cl11 h, cl12 h, cl20 h, cl21 h, cl22 h, cl40 h, cl41 h, cl42 h, cl50 h, cl51 h, cl52 h, cl60 h, cl61 h, cl62 h, cs10 h, cs11 h, cs12 h, cs20 h, cs21 h, cs22 h, cs40 h, cs41 h, cs42 h, cs50 h, cs51 h, cs52 h, cs60 h, cs61 h, cs62 h, Int32.reduceAdd, Int32.reduceSub, Int32.reduceLE, Int32.reduceLT, Nat.reduceEqDiff, reduceIte, X1_less, X1_adds_20 h hf, ie_0_1, ie_0_2, ie_0_3, ie_0_4, ie_0_5, ie_0_6, ie_0_7, ie_0_8, ie_0_9, ie_1_0, ie_1_2, ie_1_3, ie_1_4, ie_1_5, ie_1_6, ie_1_7, ie_1_8, ie_1_9, ie_2_0, ie_2_1, ie_2_3, ie_2_4, ie_2_5, ie_2_6, ie_2_7, ie_2_8, ie_2_9, ie_3_0, ie_3_1, ie_3_2, ie_3_4, ie_3_5, ie_3_6, ie_3_7, ie_3_8, ie_3_9, ie_4_0, ie_4_1, ie_4_2, ie_4_3, ie_4_5, ie_4_6, ie_4_7, ie_4_8, ie_4_9, ie_5_0, ie_5_1, ie_5_2, ie_5_3, ie_5_4, ie_5_6, ie_5_7, ie_5_8, ie_5_9, ie_6_0, ie_6_1, ie_6_2, ie_6_3, ie_6_4, ie_6_5, ie_6_7, ie_6_8, ie_6_9, ie_7_0, ie_7_1, ie_7_2, ie_7_3, ie_7_4, ie_7_5, ie_7_6, ie_7_8, ie_7_9, ie_8_0, ie_8_1, ie_8_2, ie_8_3, ie_8_4, ie_8_5, ie_8_6, ie_8_7, ie_8_9, ie_9_0, ie_9_1, ie_9_2, ie_9_3, ie_9_4, ie_9_5, ie_9_6, ie_9_7, ie_9_8]
  try rfl
theorem X1_goes_7 (h : c < 118) (hf : 4 ≤ fu) : f_X1_goes fu ev (mem ev w) (ev.1 + cr c) 7 = some ((), mem ev (setC w c (go7 (cv w c)))) := by
  simp only [b_X1_goes_154, b_X1_goes_44, b_X1_goes_57, b_X1_goes_70, b_X1_goes_78, b_X1_goes_86, b_X1_goes_104, b_X1_goes_122, b_X1_goes_140, b_X1_goes_0, f_X1_goes, bd2, Option.bind_some, setC_set, setC_up, upV_at, cv0, cv1, cv2, cv3, cv4, cv5, cv6, cv7, cv8, cv9, cv10, cv11, cv12, cv13, cv14, cf0 h, cf1 h, cf2 h, cf3 h, cis h, cr0 h, cr1 h, cr2 h, cl10 h, cl11 h, cl12 h, cl20 h, cl21 h, cl22 h, cl40 h, cl41 h, cl42 h, cl50 h, cl51 h, cl52 h, cl60 h, cl61 h, cl62 h, cs10 h, cs11 h, cs12 h, cs20 h, cs21 h, cs22 h, cs40 h, cs41 h, cs42 h, cs50 h, cs51 h, cs52 h, cs60 h, cs61 h, cs62 h, Int32.reduceAdd, Int32.reduceSub, Int32.reduceLE, Int32.reduceLT, Nat.reduceEqDiff, reduceIte, X1_less, X1_adds_10 h hf, ie_0_1, ie_0_2, ie_0_3, ie_0_4, ie_0_5, ie_0_6, ie_0_7, ie_0_8, ie_0_9, ie_1_0, ie_1_2, ie_1_3, ie_1_4, ie_1_5, ie_1_6, ie_1_7, ie_1_8, ie_1_9, ie_2_0, ie_2_1, ie_2_3, ie_2_4, ie_2_5, ie_2_6, ie_2_7, ie_2_8, ie_2_9, ie_3_0, ie_3_1, ie_3_2, ie_3_4, ie_3_5, ie_3_6, ie_3_7, ie_3_8, ie_3_9, ie_4_0, ie_4_1, ie_4_2, ie_4_3, ie_4_5, ie_4_6, ie_4_7, ie_4_8, ie_4_9, ie_5_0, ie_5_1, ie_5_2, ie_5_3, ie_5_4, ie_5_6, ie_5_7, ie_5_8, ie_5_9, ie_6_0, ie_6_1, ie_6_2, ie_6_3, ie_6_4, ie_6_5, ie_6_7, ie_6_8, ie_6_9, ie_7_0, ie_7_1, ie_7_2, ie_7_3, ie_7_4, ie_7_5, ie_7_6, ie_7_8, ie_7_9, ie_8_0, ie_8_1, ie_8_2, ie_8_3, ie_8_4, ie_8_5, ie_8_6, ie_8_7, ie_8_9, ie_9_0, ie_9_1, ie_9_2, ie_9_3, ie_9_4, ie_9_5, ie_9_6, ie_9_7, ie_9_8]
  try rfl
theorem X1_goes_8 (h : c < 118) (hf : 4 ≤ fu) : f_X1_goes fu ev (mem ev w) (ev.1 + cr c) 8 = some ((), mem ev (setC w c (go8 (cv w c)))) := by
  simp only [b_X1_goes_154, b_X1_goes_44, b_X1_goes_57, b_X1_goes_70, b_X1_goes_78, b_X1_goes_86, b_X1_goes_104, b_X1_goes_122, b_X1_goes_140, b_X1_goes_0, f_X1_goes, bd2, Option.bind_some, setC_set, setC_up, upV_at, cv0, cv1, cv2, cv3, cv4, cv5, cv6, cv7, cv8, cv9, cv10, cv11, cv12, cv13, cv14, cf0 h, cf1 h, cf2 h, cf3 h, cis h, cr0 h, cr1 h, cr2 h, cl10 h, cl11 h, cl12 h, cl20 h, cl21 h, cl22 h, cl40 h, cl41 h, cl42 h, cl50 h, cl51 h, cl52 h, cl60 h, cl61 h, cl62 h, cs10 h, cs11 h, cs12 h, cs20 h, cs21 h, cs22 h, cs40 h, cs41 h, cs42 h, cs50 h, cs51 h, cs52 h, cs60 h, cs61 h, cs62 h, Int32.reduceAdd, Int32.reduceSub, Int32.reduceLE, Int32.reduceLT, Nat.reduceEqDiff, reduceIte, X1_adds_20 h hf, X1_adds_21 h hf, setC_adds (show 2 < 3 by decide) (show 1 < 3 by decide) (show 0 < 3 by decide), ie_0_1, ie_0_2, ie_0_3, ie_0_4, ie_0_5, ie_0_6, ie_0_7, ie_0_8, ie_0_9, ie_1_0, ie_1_2, ie_1_3, ie_1_4, ie_1_5, ie_1_6, ie_1_7, ie_1_8, ie_1_9, ie_2_0, ie_2_1, ie_2_3, ie_2_4, ie_2_5, ie_2_6, ie_2_7, ie_2_8, ie_2_9, ie_3_0, ie_3_1, ie_3_2, ie_3_4, ie_3_5, ie_3_6, ie_3_7, ie_3_8, ie_3_9, ie_4_0, ie_4_1, ie_4_2, ie_4_3, ie_4_5, ie_4_6, ie_4_7, ie_4_8, ie_4_9, ie_5_0, ie_5_1, ie_5_2, ie_5_3, ie_5_4, ie_5_6, ie_5_7, ie_5_8, ie_5_9, ie_6_0, ie_6_1, ie_6_2, ie_6_3, ie_6_4, ie_6_5, ie_6_7, ie_6_8, ie_6_9, ie_7_0, ie_7_1, ie_7_2, ie_7_3, ie_7_4, ie_7_5, ie_7_6, ie_7_8, ie_7_9, ie_8_0, ie_8_1, ie_8_2, ie_8_3, ie_8_4, ie_8_5, ie_8_6, ie_8_7, ie_8_9, ie_9_0, ie_9_1, ie_9_2, ie_9_3, ie_9_4, ie_9_5, ie_9_6, ie_9_7, ie_9_8]
  try rfl
theorem X1_goes_3 (h : c < 118) (hf : 4 ≤ fu) (ha : ap3 (cv w c) = true) : ∃ t : Nat → Int32, f_X1_goes fu ev (mem ev w) (ev.1 + cr c) 3 = some ((), mem ev (setC (setT w c t) c (go3 (cv w c)))) := by
  rcases tri (cv w c 3) with s0 | s0 | s0 <;> rcases tri (cv w c 4) with s1 | s1 | s1 <;> rcases tri (cv w c 5) with s2 | s2 | s2
  · exfalso
    simp only [ap3, sg3, aboV, (sgnP s0).1, (sgnP s0).2.1, (sgnP s0).2.2.1, (sgnP s0).2.2.2, (sgnP s1).1, (sgnP s1).2.1, (sgnP s1).2.2.1, (sgnP s1).2.2.2, (sgnP s2).1, (sgnP s2).2.1, (sgnP s2).2.2.1, (sgnP s2).2.2.2, reduceIte, Bool.and_eq_true, Bool.not_eq_true', decide_eq_true_eq, decide_eq_false_iff_not] at ha
    revert ha
    decide
  · exfalso
    simp only [ap3, sg3, aboV, (sgnP s0).1, (sgnP s0).2.1, (sgnP s0).2.2.1, (sgnP s0).2.2.2, (sgnP s1).1, (sgnP s1).2.1, (sgnP s1).2.2.1, (sgnP s1).2.2.2, (sgnZ s2).1, (sgnZ s2).2.1, (sgnZ s2).2.2.1, (sgnZ s2).2.2.2, reduceIte, Bool.and_eq_true, Bool.not_eq_true', decide_eq_true_eq, decide_eq_false_iff_not] at ha
    revert ha
    decide
  · exfalso
    simp only [ap3, sg3, aboV, (sgnP s0).1, (sgnP s0).2.1, (sgnP s0).2.2.1, (sgnP s0).2.2.2, (sgnP s1).1, (sgnP s1).2.1, (sgnP s1).2.2.1, (sgnP s1).2.2.2, (sgnN s2).1, (sgnN s2).2.1, (sgnN s2).2.2.1, (sgnN s2).2.2.2, reduceIte, Bool.and_eq_true, Bool.not_eq_true', decide_eq_true_eq, decide_eq_false_iff_not] at ha
    revert ha
    decide
  · exfalso
    simp only [ap3, sg3, aboV, (sgnP s0).1, (sgnP s0).2.1, (sgnP s0).2.2.1, (sgnP s0).2.2.2, (sgnZ s1).1, (sgnZ s1).2.1, (sgnZ s1).2.2.1, (sgnZ s1).2.2.2, (sgnP s2).1, (sgnP s2).2.1, (sgnP s2).2.2.1, (sgnP s2).2.2.2, reduceIte, Bool.and_eq_true, Bool.not_eq_true', decide_eq_true_eq, decide_eq_false_iff_not] at ha
    revert ha
    decide
  · exfalso
    simp only [ap3, sg3, aboV, (sgnP s0).1, (sgnP s0).2.1, (sgnP s0).2.2.1, (sgnP s0).2.2.2, (sgnZ s1).1, (sgnZ s1).2.1, (sgnZ s1).2.2.1, (sgnZ s1).2.2.2, (sgnZ s2).1, (sgnZ s2).2.1, (sgnZ s2).2.2.1, (sgnZ s2).2.2.2, reduceIte, Bool.and_eq_true, Bool.not_eq_true', decide_eq_true_eq, decide_eq_false_iff_not] at ha
    revert ha
    decide
  · exfalso
    simp only [ap3, sg3, aboV, (sgnP s0).1, (sgnP s0).2.1, (sgnP s0).2.2.1, (sgnP s0).2.2.2, (sgnZ s1).1, (sgnZ s1).2.1, (sgnZ s1).2.2.1, (sgnZ s1).2.2.2, (sgnN s2).1, (sgnN s2).2.1, (sgnN s2).2.2.1, (sgnN s2).2.2.2, reduceIte, Bool.and_eq_true, Bool.not_eq_true', decide_eq_true_eq, decide_eq_false_iff_not] at ha
    revert ha
    decide
  · exfalso
    simp only [ap3, sg3, aboV, (sgnP s0).1, (sgnP s0).2.1, (sgnP s0).2.2.1, (sgnP s0).2.2.2, (sgnN s1).1, (sgnN s1).2.1, (sgnN s1).2.2.1, (sgnN s1).2.2.2, (sgnP s2).1, (sgnP s2).2.1, (sgnP s2).2.2.1, (sgnP s2).2.2.2, reduceIte, Bool.and_eq_true, Bool.not_eq_true', decide_eq_true_eq, decide_eq_false_iff_not] at ha
    revert ha
    decide
  · exfalso
    simp only [ap3, sg3, aboV, (sgnP s0).1, (sgnP s0).2.1, (sgnP s0).2.2.1, (sgnP s0).2.2.2, (sgnN s1).1, (sgnN s1).2.1, (sgnN s1).2.2.1, (sgnN s1).2.2.2, (sgnZ s2).1, (sgnZ s2).2.1, (sgnZ s2).2.2.1, (sgnZ s2).2.2.2, reduceIte, Bool.and_eq_true, Bool.not_eq_true', decide_eq_true_eq, decide_eq_false_iff_not] at ha
    revert ha
    decide
  · have g : f_X1_goes fu ev (mem ev w) (ev.1 + cr c) 3 = bd2 (f_X1_turnsBy fu ev (mem ev w) (ev.1 + cr c) 0) (fun _ s3 => some ((), s3)) := by simp only [f_X1_goes, b_X1_goes_0, b_X1_goes_70, b_X1_goes_78, b_X1_goes_154, cis h, Option.bind_some, reduceIte, ie_0_1, ie_0_2, ie_0_3, ie_0_4, ie_0_5, ie_0_6, ie_0_7, ie_0_8, ie_0_9, ie_1_0, ie_1_2, ie_1_3, ie_1_4, ie_1_5, ie_1_6, ie_1_7, ie_1_8, ie_1_9, ie_2_0, ie_2_1, ie_2_3, ie_2_4, ie_2_5, ie_2_6, ie_2_7, ie_2_8, ie_2_9, ie_3_0, ie_3_1, ie_3_2, ie_3_4, ie_3_5, ie_3_6, ie_3_7, ie_3_8, ie_3_9, ie_4_0, ie_4_1, ie_4_2, ie_4_3, ie_4_5, ie_4_6, ie_4_7, ie_4_8, ie_4_9, ie_5_0, ie_5_1, ie_5_2, ie_5_3, ie_5_4, ie_5_6, ie_5_7, ie_5_8, ie_5_9, ie_6_0, ie_6_1, ie_6_2, ie_6_3, ie_6_4, ie_6_5, ie_6_7, ie_6_8, ie_6_9, ie_7_0, ie_7_1, ie_7_2, ie_7_3, ie_7_4, ie_7_5, ie_7_6, ie_7_8, ie_7_9, ie_8_0, ie_8_1, ie_8_2, ie_8_3, ie_8_4, ie_8_5, ie_8_6, ie_8_7, ie_8_9, ie_9_0, ie_9_1, ie_9_2, ie_9_3, ie_9_4, ie_9_5, ie_9_6, ie_9_7, ie_9_8]
    rw [X1_turnsBy_0_PNN h hf s0 s1 s2] at g
    have hz : go3 (cv w c) = tu3 (cv w c) false true true := by simp only [go3, tu4, (sgnP s0).1, (sgnP s0).2.1, (sgnP s0).2.2.1, (sgnP s0).2.2.2, (sgnN s1).1, (sgnN s1).2.1, (sgnN s1).2.2.1, (sgnN s1).2.2.2, (sgnN s2).1, (sgnN s2).2.1, (sgnN s2).2.2.1, (sgnN s2).2.2.2, decide_true, decide_false, Bool.not_true, Bool.not_false, Bool.and_true, Bool.true_and, Bool.and_false, Bool.false_and, Bool.or_true, Bool.true_or, Bool.or_false, Bool.false_or, Bool.or_self, Bool.and_self]
    rw [hz]
    exact ⟨_, g⟩
  · exfalso
    simp only [ap3, sg3, aboV, (sgnZ s0).1, (sgnZ s0).2.1, (sgnZ s0).2.2.1, (sgnZ s0).2.2.2, (sgnP s1).1, (sgnP s1).2.1, (sgnP s1).2.2.1, (sgnP s1).2.2.2, (sgnP s2).1, (sgnP s2).2.1, (sgnP s2).2.2.1, (sgnP s2).2.2.2, reduceIte, Bool.and_eq_true, Bool.not_eq_true', decide_eq_true_eq, decide_eq_false_iff_not] at ha
    revert ha
    decide
  · exfalso
    simp only [ap3, sg3, aboV, (sgnZ s0).1, (sgnZ s0).2.1, (sgnZ s0).2.2.1, (sgnZ s0).2.2.2, (sgnP s1).1, (sgnP s1).2.1, (sgnP s1).2.2.1, (sgnP s1).2.2.2, (sgnZ s2).1, (sgnZ s2).2.1, (sgnZ s2).2.2.1, (sgnZ s2).2.2.2, reduceIte, Bool.and_eq_true, Bool.not_eq_true', decide_eq_true_eq, decide_eq_false_iff_not] at ha
    revert ha
    decide
  · exfalso
    simp only [ap3, sg3, aboV, (sgnZ s0).1, (sgnZ s0).2.1, (sgnZ s0).2.2.1, (sgnZ s0).2.2.2, (sgnP s1).1, (sgnP s1).2.1, (sgnP s1).2.2.1, (sgnP s1).2.2.2, (sgnN s2).1, (sgnN s2).2.1, (sgnN s2).2.2.1, (sgnN s2).2.2.2, reduceIte, Bool.and_eq_true, Bool.not_eq_true', decide_eq_true_eq, decide_eq_false_iff_not] at ha
    revert ha
    decide
  · exfalso
    simp only [ap3, sg3, aboV, (sgnZ s0).1, (sgnZ s0).2.1, (sgnZ s0).2.2.1, (sgnZ s0).2.2.2, (sgnZ s1).1, (sgnZ s1).2.1, (sgnZ s1).2.2.1, (sgnZ s1).2.2.2, (sgnP s2).1, (sgnP s2).2.1, (sgnP s2).2.2.1, (sgnP s2).2.2.2, reduceIte, Bool.and_eq_true, Bool.not_eq_true', decide_eq_true_eq, decide_eq_false_iff_not] at ha
    revert ha
    decide
  · exfalso
    simp only [ap3, sg3, aboV, (sgnZ s0).1, (sgnZ s0).2.1, (sgnZ s0).2.2.1, (sgnZ s0).2.2.2, (sgnZ s1).1, (sgnZ s1).2.1, (sgnZ s1).2.2.1, (sgnZ s1).2.2.2, (sgnZ s2).1, (sgnZ s2).2.1, (sgnZ s2).2.2.1, (sgnZ s2).2.2.2, reduceIte, Bool.and_eq_true, Bool.not_eq_true', decide_eq_true_eq, decide_eq_false_iff_not] at ha
    revert ha
    decide
  · exfalso
    simp only [ap3, sg3, aboV, (sgnZ s0).1, (sgnZ s0).2.1, (sgnZ s0).2.2.1, (sgnZ s0).2.2.2, (sgnZ s1).1, (sgnZ s1).2.1, (sgnZ s1).2.2.1, (sgnZ s1).2.2.2, (sgnN s2).1, (sgnN s2).2.1, (sgnN s2).2.2.1, (sgnN s2).2.2.2, reduceIte, Bool.and_eq_true, Bool.not_eq_true', decide_eq_true_eq, decide_eq_false_iff_not] at ha
    revert ha
    decide
  · exfalso
    simp only [ap3, sg3, aboV, (sgnZ s0).1, (sgnZ s0).2.1, (sgnZ s0).2.2.1, (sgnZ s0).2.2.2, (sgnN s1).1, (sgnN s1).2.1, (sgnN s1).2.2.1, (sgnN s1).2.2.2, (sgnP s2).1, (sgnP s2).2.1, (sgnP s2).2.2.1, (sgnP s2).2.2.2, reduceIte, Bool.and_eq_true, Bool.not_eq_true', decide_eq_true_eq, decide_eq_false_iff_not] at ha
    revert ha
    decide
  · exfalso
    simp only [ap3, sg3, aboV, (sgnZ s0).1, (sgnZ s0).2.1, (sgnZ s0).2.2.1, (sgnZ s0).2.2.2, (sgnN s1).1, (sgnN s1).2.1, (sgnN s1).2.2.1, (sgnN s1).2.2.2, (sgnZ s2).1, (sgnZ s2).2.1, (sgnZ s2).2.2.1, (sgnZ s2).2.2.2, reduceIte, Bool.and_eq_true, Bool.not_eq_true', decide_eq_true_eq, decide_eq_false_iff_not] at ha
    revert ha
    decide
  · exfalso
    simp only [ap3, sg3, aboV, (sgnZ s0).1, (sgnZ s0).2.1, (sgnZ s0).2.2.1, (sgnZ s0).2.2.2, (sgnN s1).1, (sgnN s1).2.1, (sgnN s1).2.2.1, (sgnN s1).2.2.2, (sgnN s2).1, (sgnN s2).2.1, (sgnN s2).2.2.1, (sgnN s2).2.2.2, reduceIte, Bool.and_eq_true, Bool.not_eq_true', decide_eq_true_eq, decide_eq_false_iff_not] at ha
    revert ha
    decide
  · exfalso
    simp only [ap3, sg3, aboV, (sgnN s0).1, (sgnN s0).2.1, (sgnN s0).2.2.1, (sgnN s0).2.2.2, (sgnP s1).1, (sgnP s1).2.1, (sgnP s1).2.2.1, (sgnP s1).2.2.2, (sgnP s2).1, (sgnP s2).2.1, (sgnP s2).2.2.1, (sgnP s2).2.2.2, reduceIte, Bool.and_eq_true, Bool.not_eq_true', decide_eq_true_eq, decide_eq_false_iff_not] at ha
    revert ha
    decide
  · exfalso
    simp only [ap3, sg3, aboV, (sgnN s0).1, (sgnN s0).2.1, (sgnN s0).2.2.1, (sgnN s0).2.2.2, (sgnP s1).1, (sgnP s1).2.1, (sgnP s1).2.2.1, (sgnP s1).2.2.2, (sgnZ s2).1, (sgnZ s2).2.1, (sgnZ s2).2.2.1, (sgnZ s2).2.2.2, reduceIte, Bool.and_eq_true, Bool.not_eq_true', decide_eq_true_eq, decide_eq_false_iff_not] at ha
    revert ha
    decide
  · have g : f_X1_goes fu ev (mem ev w) (ev.1 + cr c) 3 = bd2 (f_X1_turnsBy fu ev (mem ev w) (ev.1 + cr c) 0) (fun _ s3 => some ((), s3)) := by simp only [f_X1_goes, b_X1_goes_0, b_X1_goes_70, b_X1_goes_78, b_X1_goes_154, cis h, Option.bind_some, reduceIte, ie_0_1, ie_0_2, ie_0_3, ie_0_4, ie_0_5, ie_0_6, ie_0_7, ie_0_8, ie_0_9, ie_1_0, ie_1_2, ie_1_3, ie_1_4, ie_1_5, ie_1_6, ie_1_7, ie_1_8, ie_1_9, ie_2_0, ie_2_1, ie_2_3, ie_2_4, ie_2_5, ie_2_6, ie_2_7, ie_2_8, ie_2_9, ie_3_0, ie_3_1, ie_3_2, ie_3_4, ie_3_5, ie_3_6, ie_3_7, ie_3_8, ie_3_9, ie_4_0, ie_4_1, ie_4_2, ie_4_3, ie_4_5, ie_4_6, ie_4_7, ie_4_8, ie_4_9, ie_5_0, ie_5_1, ie_5_2, ie_5_3, ie_5_4, ie_5_6, ie_5_7, ie_5_8, ie_5_9, ie_6_0, ie_6_1, ie_6_2, ie_6_3, ie_6_4, ie_6_5, ie_6_7, ie_6_8, ie_6_9, ie_7_0, ie_7_1, ie_7_2, ie_7_3, ie_7_4, ie_7_5, ie_7_6, ie_7_8, ie_7_9, ie_8_0, ie_8_1, ie_8_2, ie_8_3, ie_8_4, ie_8_5, ie_8_6, ie_8_7, ie_8_9, ie_9_0, ie_9_1, ie_9_2, ie_9_3, ie_9_4, ie_9_5, ie_9_6, ie_9_7, ie_9_8]
    rw [X1_turnsBy_0_NPN h hf s0 s1 s2] at g
    have hz : go3 (cv w c) = tu3 (cv w c) true false true := by simp only [go3, tu4, (sgnN s0).1, (sgnN s0).2.1, (sgnN s0).2.2.1, (sgnN s0).2.2.2, (sgnP s1).1, (sgnP s1).2.1, (sgnP s1).2.2.1, (sgnP s1).2.2.2, (sgnN s2).1, (sgnN s2).2.1, (sgnN s2).2.2.1, (sgnN s2).2.2.2, decide_true, decide_false, Bool.not_true, Bool.not_false, Bool.and_true, Bool.true_and, Bool.and_false, Bool.false_and, Bool.or_true, Bool.true_or, Bool.or_false, Bool.false_or, Bool.or_self, Bool.and_self]
    rw [hz]
    exact ⟨_, g⟩
  · exfalso
    simp only [ap3, sg3, aboV, (sgnN s0).1, (sgnN s0).2.1, (sgnN s0).2.2.1, (sgnN s0).2.2.2, (sgnZ s1).1, (sgnZ s1).2.1, (sgnZ s1).2.2.1, (sgnZ s1).2.2.2, (sgnP s2).1, (sgnP s2).2.1, (sgnP s2).2.2.1, (sgnP s2).2.2.2, reduceIte, Bool.and_eq_true, Bool.not_eq_true', decide_eq_true_eq, decide_eq_false_iff_not] at ha
    revert ha
    decide
  · exfalso
    simp only [ap3, sg3, aboV, (sgnN s0).1, (sgnN s0).2.1, (sgnN s0).2.2.1, (sgnN s0).2.2.2, (sgnZ s1).1, (sgnZ s1).2.1, (sgnZ s1).2.2.1, (sgnZ s1).2.2.2, (sgnZ s2).1, (sgnZ s2).2.1, (sgnZ s2).2.2.1, (sgnZ s2).2.2.2, reduceIte, Bool.and_eq_true, Bool.not_eq_true', decide_eq_true_eq, decide_eq_false_iff_not] at ha
    revert ha
    decide
  · exfalso
    simp only [ap3, sg3, aboV, (sgnN s0).1, (sgnN s0).2.1, (sgnN s0).2.2.1, (sgnN s0).2.2.2, (sgnZ s1).1, (sgnZ s1).2.1, (sgnZ s1).2.2.1, (sgnZ s1).2.2.2, (sgnN s2).1, (sgnN s2).2.1, (sgnN s2).2.2.1, (sgnN s2).2.2.2, reduceIte, Bool.and_eq_true, Bool.not_eq_true', decide_eq_true_eq, decide_eq_false_iff_not] at ha
    revert ha
    decide
  · have g : f_X1_goes fu ev (mem ev w) (ev.1 + cr c) 3 = bd2 (f_X1_turnsBy fu ev (mem ev w) (ev.1 + cr c) 0) (fun _ s3 => some ((), s3)) := by simp only [f_X1_goes, b_X1_goes_0, b_X1_goes_70, b_X1_goes_78, b_X1_goes_154, cis h, Option.bind_some, reduceIte, ie_0_1, ie_0_2, ie_0_3, ie_0_4, ie_0_5, ie_0_6, ie_0_7, ie_0_8, ie_0_9, ie_1_0, ie_1_2, ie_1_3, ie_1_4, ie_1_5, ie_1_6, ie_1_7, ie_1_8, ie_1_9, ie_2_0, ie_2_1, ie_2_3, ie_2_4, ie_2_5, ie_2_6, ie_2_7, ie_2_8, ie_2_9, ie_3_0, ie_3_1, ie_3_2, ie_3_4, ie_3_5, ie_3_6, ie_3_7, ie_3_8, ie_3_9, ie_4_0, ie_4_1, ie_4_2, ie_4_3, ie_4_5, ie_4_6, ie_4_7, ie_4_8, ie_4_9, ie_5_0, ie_5_1, ie_5_2, ie_5_3, ie_5_4, ie_5_6, ie_5_7, ie_5_8, ie_5_9, ie_6_0, ie_6_1, ie_6_2, ie_6_3, ie_6_4, ie_6_5, ie_6_7, ie_6_8, ie_6_9, ie_7_0, ie_7_1, ie_7_2, ie_7_3, ie_7_4, ie_7_5, ie_7_6, ie_7_8, ie_7_9, ie_8_0, ie_8_1, ie_8_2, ie_8_3, ie_8_4, ie_8_5, ie_8_6, ie_8_7, ie_8_9, ie_9_0, ie_9_1, ie_9_2, ie_9_3, ie_9_4, ie_9_5, ie_9_6, ie_9_7, ie_9_8]
    rw [X1_turnsBy_0_NNP h hf s0 s1 s2] at g
    have hz : go3 (cv w c) = tu3 (cv w c) true true false := by simp only [go3, tu4, (sgnN s0).1, (sgnN s0).2.1, (sgnN s0).2.2.1, (sgnN s0).2.2.2, (sgnN s1).1, (sgnN s1).2.1, (sgnN s1).2.2.1, (sgnN s1).2.2.2, (sgnP s2).1, (sgnP s2).2.1, (sgnP s2).2.2.1, (sgnP s2).2.2.2, decide_true, decide_false, Bool.not_true, Bool.not_false, Bool.and_true, Bool.true_and, Bool.and_false, Bool.false_and, Bool.or_true, Bool.true_or, Bool.or_false, Bool.false_or, Bool.or_self, Bool.and_self]
    rw [hz]
    exact ⟨_, g⟩
  · exfalso
    simp only [ap3, sg3, aboV, (sgnN s0).1, (sgnN s0).2.1, (sgnN s0).2.2.1, (sgnN s0).2.2.2, (sgnN s1).1, (sgnN s1).2.1, (sgnN s1).2.2.1, (sgnN s1).2.2.2, (sgnZ s2).1, (sgnZ s2).2.1, (sgnZ s2).2.2.1, (sgnZ s2).2.2.2, reduceIte, Bool.and_eq_true, Bool.not_eq_true', decide_eq_true_eq, decide_eq_false_iff_not] at ha
    revert ha
    decide
  · exfalso
    simp only [ap3, sg3, aboV, (sgnN s0).1, (sgnN s0).2.1, (sgnN s0).2.2.1, (sgnN s0).2.2.2, (sgnN s1).1, (sgnN s1).2.1, (sgnN s1).2.2.1, (sgnN s1).2.2.2, (sgnN s2).1, (sgnN s2).2.1, (sgnN s2).2.2.1, (sgnN s2).2.2.2, reduceIte, Bool.and_eq_true, Bool.not_eq_true', decide_eq_true_eq, decide_eq_false_iff_not] at ha
    revert ha
    decide
theorem X1_goes_4 (h : c < 118) (hf : 4 ≤ fu) (ha : ap4 (cv w c) = true) : ∃ t : Nat → Int32, f_X1_goes fu ev (mem ev w) (ev.1 + cr c) 4 = some ((), mem ev (setC (setT w c t) c (go4 (cv w c)))) := by
  rcases tri (cv w c 3) with s0 | s0 | s0 <;> rcases tri (cv w c 4) with s1 | s1 | s1 <;> rcases tri (cv w c 5) with s2 | s2 | s2
  · exfalso
    simp only [ap4, sg3, aboV, (sgnP s0).1, (sgnP s0).2.1, (sgnP s0).2.2.1, (sgnP s0).2.2.2, (sgnP s1).1, (sgnP s1).2.1, (sgnP s1).2.2.1, (sgnP s1).2.2.2, (sgnP s2).1, (sgnP s2).2.1, (sgnP s2).2.2.1, (sgnP s2).2.2.2, reduceIte, Bool.and_eq_true, Bool.not_eq_true', decide_eq_true_eq, decide_eq_false_iff_not] at ha
    revert ha
    decide
  · have g : f_X1_goes fu ev (mem ev w) (ev.1 + cr c) 4 = bd2 (f_X1_turnsBy fu ev (mem ev w) (ev.1 + cr c) 1) (fun _ s3 => some ((), s3)) := by simp only [f_X1_goes, b_X1_goes_0, b_X1_goes_70, b_X1_goes_78, b_X1_goes_154, cis h, Option.bind_some, reduceIte, ie_0_1, ie_0_2, ie_0_3, ie_0_4, ie_0_5, ie_0_6, ie_0_7, ie_0_8, ie_0_9, ie_1_0, ie_1_2, ie_1_3, ie_1_4, ie_1_5, ie_1_6, ie_1_7, ie_1_8, ie_1_9, ie_2_0, ie_2_1, ie_2_3, ie_2_4, ie_2_5, ie_2_6, ie_2_7, ie_2_8, ie_2_9, ie_3_0, ie_3_1, ie_3_2, ie_3_4, ie_3_5, ie_3_6, ie_3_7, ie_3_8, ie_3_9, ie_4_0, ie_4_1, ie_4_2, ie_4_3, ie_4_5, ie_4_6, ie_4_7, ie_4_8, ie_4_9, ie_5_0, ie_5_1, ie_5_2, ie_5_3, ie_5_4, ie_5_6, ie_5_7, ie_5_8, ie_5_9, ie_6_0, ie_6_1, ie_6_2, ie_6_3, ie_6_4, ie_6_5, ie_6_7, ie_6_8, ie_6_9, ie_7_0, ie_7_1, ie_7_2, ie_7_3, ie_7_4, ie_7_5, ie_7_6, ie_7_8, ie_7_9, ie_8_0, ie_8_1, ie_8_2, ie_8_3, ie_8_4, ie_8_5, ie_8_6, ie_8_7, ie_8_9, ie_9_0, ie_9_1, ie_9_2, ie_9_3, ie_9_4, ie_9_5, ie_9_6, ie_9_7, ie_9_8]
    rw [X1_turnsBy_1_PPZ h hf s0 s1 s2] at g
    have hz : go4 (cv w c) = tu3 (cv w c) true true false := by simp only [go4, tu4, (sgnP s0).1, (sgnP s0).2.1, (sgnP s0).2.2.1, (sgnP s0).2.2.2, (sgnP s1).1, (sgnP s1).2.1, (sgnP s1).2.2.1, (sgnP s1).2.2.2, (sgnZ s2).1, (sgnZ s2).2.1, (sgnZ s2).2.2.1, (sgnZ s2).2.2.2, decide_true, decide_false, Bool.not_true, Bool.not_false, Bool.and_true, Bool.true_and, Bool.and_false, Bool.false_and, Bool.or_true, Bool.true_or, Bool.or_false, Bool.false_or, Bool.or_self, Bool.and_self]
    rw [hz]
    exact ⟨_, g⟩
  · have g : f_X1_goes fu ev (mem ev w) (ev.1 + cr c) 4 = bd2 (f_X1_turnsBy fu ev (mem ev w) (ev.1 + cr c) 1) (fun _ s3 => some ((), s3)) := by simp only [f_X1_goes, b_X1_goes_0, b_X1_goes_70, b_X1_goes_78, b_X1_goes_154, cis h, Option.bind_some, reduceIte, ie_0_1, ie_0_2, ie_0_3, ie_0_4, ie_0_5, ie_0_6, ie_0_7, ie_0_8, ie_0_9, ie_1_0, ie_1_2, ie_1_3, ie_1_4, ie_1_5, ie_1_6, ie_1_7, ie_1_8, ie_1_9, ie_2_0, ie_2_1, ie_2_3, ie_2_4, ie_2_5, ie_2_6, ie_2_7, ie_2_8, ie_2_9, ie_3_0, ie_3_1, ie_3_2, ie_3_4, ie_3_5, ie_3_6, ie_3_7, ie_3_8, ie_3_9, ie_4_0, ie_4_1, ie_4_2, ie_4_3, ie_4_5, ie_4_6, ie_4_7, ie_4_8, ie_4_9, ie_5_0, ie_5_1, ie_5_2, ie_5_3, ie_5_4, ie_5_6, ie_5_7, ie_5_8, ie_5_9, ie_6_0, ie_6_1, ie_6_2, ie_6_3, ie_6_4, ie_6_5, ie_6_7, ie_6_8, ie_6_9, ie_7_0, ie_7_1, ie_7_2, ie_7_3, ie_7_4, ie_7_5, ie_7_6, ie_7_8, ie_7_9, ie_8_0, ie_8_1, ie_8_2, ie_8_3, ie_8_4, ie_8_5, ie_8_6, ie_8_7, ie_8_9, ie_9_0, ie_9_1, ie_9_2, ie_9_3, ie_9_4, ie_9_5, ie_9_6, ie_9_7, ie_9_8]
    rw [X1_turnsBy_1_PPN h hf s0 s1 s2] at g
    have hz : go4 (cv w c) = tu3 (cv w c) true true false := by simp only [go4, tu4, (sgnP s0).1, (sgnP s0).2.1, (sgnP s0).2.2.1, (sgnP s0).2.2.2, (sgnP s1).1, (sgnP s1).2.1, (sgnP s1).2.2.1, (sgnP s1).2.2.2, (sgnN s2).1, (sgnN s2).2.1, (sgnN s2).2.2.1, (sgnN s2).2.2.2, decide_true, decide_false, Bool.not_true, Bool.not_false, Bool.and_true, Bool.true_and, Bool.and_false, Bool.false_and, Bool.or_true, Bool.true_or, Bool.or_false, Bool.false_or, Bool.or_self, Bool.and_self]
    rw [hz]
    exact ⟨_, g⟩
  · have g : f_X1_goes fu ev (mem ev w) (ev.1 + cr c) 4 = bd2 (f_X1_turnsBy fu ev (mem ev w) (ev.1 + cr c) 1) (fun _ s3 => some ((), s3)) := by simp only [f_X1_goes, b_X1_goes_0, b_X1_goes_70, b_X1_goes_78, b_X1_goes_154, cis h, Option.bind_some, reduceIte, ie_0_1, ie_0_2, ie_0_3, ie_0_4, ie_0_5, ie_0_6, ie_0_7, ie_0_8, ie_0_9, ie_1_0, ie_1_2, ie_1_3, ie_1_4, ie_1_5, ie_1_6, ie_1_7, ie_1_8, ie_1_9, ie_2_0, ie_2_1, ie_2_3, ie_2_4, ie_2_5, ie_2_6, ie_2_7, ie_2_8, ie_2_9, ie_3_0, ie_3_1, ie_3_2, ie_3_4, ie_3_5, ie_3_6, ie_3_7, ie_3_8, ie_3_9, ie_4_0, ie_4_1, ie_4_2, ie_4_3, ie_4_5, ie_4_6, ie_4_7, ie_4_8, ie_4_9, ie_5_0, ie_5_1, ie_5_2, ie_5_3, ie_5_4, ie_5_6, ie_5_7, ie_5_8, ie_5_9, ie_6_0, ie_6_1, ie_6_2, ie_6_3, ie_6_4, ie_6_5, ie_6_7, ie_6_8, ie_6_9, ie_7_0, ie_7_1, ie_7_2, ie_7_3, ie_7_4, ie_7_5, ie_7_6, ie_7_8, ie_7_9, ie_8_0, ie_8_1, ie_8_2, ie_8_3, ie_8_4, ie_8_5, ie_8_6, ie_8_7, ie_8_9, ie_9_0, ie_9_1, ie_9_2, ie_9_3, ie_9_4, ie_9_5, ie_9_6, ie_9_7, ie_9_8]
    rw [X1_turnsBy_1_PZP h hf s0 s1 s2] at g
    have hz : go4 (cv w c) = tu3 (cv w c) true false true := by simp only [go4, tu4, (sgnP s0).1, (sgnP s0).2.1, (sgnP s0).2.2.1, (sgnP s0).2.2.2, (sgnZ s1).1, (sgnZ s1).2.1, (sgnZ s1).2.2.1, (sgnZ s1).2.2.2, (sgnP s2).1, (sgnP s2).2.1, (sgnP s2).2.2.1, (sgnP s2).2.2.2, decide_true, decide_false, Bool.not_true, Bool.not_false, Bool.and_true, Bool.true_and, Bool.and_false, Bool.false_and, Bool.or_true, Bool.true_or, Bool.or_false, Bool.false_or, Bool.or_self, Bool.and_self]
    rw [hz]
    exact ⟨_, g⟩
  · have g : f_X1_goes fu ev (mem ev w) (ev.1 + cr c) 4 = bd2 (f_X1_turnsBy fu ev (mem ev w) (ev.1 + cr c) 1) (fun _ s3 => some ((), s3)) := by simp only [f_X1_goes, b_X1_goes_0, b_X1_goes_70, b_X1_goes_78, b_X1_goes_154, cis h, Option.bind_some, reduceIte, ie_0_1, ie_0_2, ie_0_3, ie_0_4, ie_0_5, ie_0_6, ie_0_7, ie_0_8, ie_0_9, ie_1_0, ie_1_2, ie_1_3, ie_1_4, ie_1_5, ie_1_6, ie_1_7, ie_1_8, ie_1_9, ie_2_0, ie_2_1, ie_2_3, ie_2_4, ie_2_5, ie_2_6, ie_2_7, ie_2_8, ie_2_9, ie_3_0, ie_3_1, ie_3_2, ie_3_4, ie_3_5, ie_3_6, ie_3_7, ie_3_8, ie_3_9, ie_4_0, ie_4_1, ie_4_2, ie_4_3, ie_4_5, ie_4_6, ie_4_7, ie_4_8, ie_4_9, ie_5_0, ie_5_1, ie_5_2, ie_5_3, ie_5_4, ie_5_6, ie_5_7, ie_5_8, ie_5_9, ie_6_0, ie_6_1, ie_6_2, ie_6_3, ie_6_4, ie_6_5, ie_6_7, ie_6_8, ie_6_9, ie_7_0, ie_7_1, ie_7_2, ie_7_3, ie_7_4, ie_7_5, ie_7_6, ie_7_8, ie_7_9, ie_8_0, ie_8_1, ie_8_2, ie_8_3, ie_8_4, ie_8_5, ie_8_6, ie_8_7, ie_8_9, ie_9_0, ie_9_1, ie_9_2, ie_9_3, ie_9_4, ie_9_5, ie_9_6, ie_9_7, ie_9_8]
    rw [X1_turnsBy_1_PZZ h hf s0 s1 s2] at g
    have hz : go4 (cv w c) = tu3 (cv w c) true false true := by simp only [go4, tu4, (sgnP s0).1, (sgnP s0).2.1, (sgnP s0).2.2.1, (sgnP s0).2.2.2, (sgnZ s1).1, (sgnZ s1).2.1, (sgnZ s1).2.2.1, (sgnZ s1).2.2.2, (sgnZ s2).1, (sgnZ s2).2.1, (sgnZ s2).2.2.1, (sgnZ s2).2.2.2, decide_true, decide_false, Bool.not_true, Bool.not_false, Bool.and_true, Bool.true_and, Bool.and_false, Bool.false_and, Bool.or_true, Bool.true_or, Bool.or_false, Bool.false_or, Bool.or_self, Bool.and_self]
    rw [hz]
    exact ⟨_, g⟩
  · have g : f_X1_goes fu ev (mem ev w) (ev.1 + cr c) 4 = bd2 (f_X1_turnsBy fu ev (mem ev w) (ev.1 + cr c) 1) (fun _ s3 => some ((), s3)) := by simp only [f_X1_goes, b_X1_goes_0, b_X1_goes_70, b_X1_goes_78, b_X1_goes_154, cis h, Option.bind_some, reduceIte, ie_0_1, ie_0_2, ie_0_3, ie_0_4, ie_0_5, ie_0_6, ie_0_7, ie_0_8, ie_0_9, ie_1_0, ie_1_2, ie_1_3, ie_1_4, ie_1_5, ie_1_6, ie_1_7, ie_1_8, ie_1_9, ie_2_0, ie_2_1, ie_2_3, ie_2_4, ie_2_5, ie_2_6, ie_2_7, ie_2_8, ie_2_9, ie_3_0, ie_3_1, ie_3_2, ie_3_4, ie_3_5, ie_3_6, ie_3_7, ie_3_8, ie_3_9, ie_4_0, ie_4_1, ie_4_2, ie_4_3, ie_4_5, ie_4_6, ie_4_7, ie_4_8, ie_4_9, ie_5_0, ie_5_1, ie_5_2, ie_5_3, ie_5_4, ie_5_6, ie_5_7, ie_5_8, ie_5_9, ie_6_0, ie_6_1, ie_6_2, ie_6_3, ie_6_4, ie_6_5, ie_6_7, ie_6_8, ie_6_9, ie_7_0, ie_7_1, ie_7_2, ie_7_3, ie_7_4, ie_7_5, ie_7_6, ie_7_8, ie_7_9, ie_8_0, ie_8_1, ie_8_2, ie_8_3, ie_8_4, ie_8_5, ie_8_6, ie_8_7, ie_8_9, ie_9_0, ie_9_1, ie_9_2, ie_9_3, ie_9_4, ie_9_5, ie_9_6, ie_9_7, ie_9_8]
    rw [X1_turnsBy_1_PZN h hf s0 s1 s2] at g
    have hz : go4 (cv w c) = tu3 (cv w c) true true false := by simp only [go4, tu4, (sgnP s0).1, (sgnP s0).2.1, (sgnP s0).2.2.1, (sgnP s0).2.2.2, (sgnZ s1).1, (sgnZ s1).2.1, (sgnZ s1).2.2.1, (sgnZ s1).2.2.2, (sgnN s2).1, (sgnN s2).2.1, (sgnN s2).2.2.1, (sgnN s2).2.2.2, decide_true, decide_false, Bool.not_true, Bool.not_false, Bool.and_true, Bool.true_and, Bool.and_false, Bool.false_and, Bool.or_true, Bool.true_or, Bool.or_false, Bool.false_or, Bool.or_self, Bool.and_self]
    rw [hz]
    exact ⟨_, g⟩
  · have g : f_X1_goes fu ev (mem ev w) (ev.1 + cr c) 4 = bd2 (f_X1_turnsBy fu ev (mem ev w) (ev.1 + cr c) 1) (fun _ s3 => some ((), s3)) := by simp only [f_X1_goes, b_X1_goes_0, b_X1_goes_70, b_X1_goes_78, b_X1_goes_154, cis h, Option.bind_some, reduceIte, ie_0_1, ie_0_2, ie_0_3, ie_0_4, ie_0_5, ie_0_6, ie_0_7, ie_0_8, ie_0_9, ie_1_0, ie_1_2, ie_1_3, ie_1_4, ie_1_5, ie_1_6, ie_1_7, ie_1_8, ie_1_9, ie_2_0, ie_2_1, ie_2_3, ie_2_4, ie_2_5, ie_2_6, ie_2_7, ie_2_8, ie_2_9, ie_3_0, ie_3_1, ie_3_2, ie_3_4, ie_3_5, ie_3_6, ie_3_7, ie_3_8, ie_3_9, ie_4_0, ie_4_1, ie_4_2, ie_4_3, ie_4_5, ie_4_6, ie_4_7, ie_4_8, ie_4_9, ie_5_0, ie_5_1, ie_5_2, ie_5_3, ie_5_4, ie_5_6, ie_5_7, ie_5_8, ie_5_9, ie_6_0, ie_6_1, ie_6_2, ie_6_3, ie_6_4, ie_6_5, ie_6_7, ie_6_8, ie_6_9, ie_7_0, ie_7_1, ie_7_2, ie_7_3, ie_7_4, ie_7_5, ie_7_6, ie_7_8, ie_7_9, ie_8_0, ie_8_1, ie_8_2, ie_8_3, ie_8_4, ie_8_5, ie_8_6, ie_8_7, ie_8_9, ie_9_0, ie_9_1, ie_9_2, ie_9_3, ie_9_4, ie_9_5, ie_9_6, ie_9_7, ie_9_8]
    rw [X1_turnsBy_1_PNP h hf s0 s1 s2] at g
    have hz : go4 (cv w c) = tu3 (cv w c) true false true := by simp only [go4, tu4, (sgnP s0).1, (sgnP s0).2.1, (sgnP s0).2.2.1, (sgnP s0).2.2.2, (sgnN s1).1, (sgnN s1).2.1, (sgnN s1).2.2.1, (sgnN s1).2.2.2, (sgnP s2).1, (sgnP s2).2.1, (sgnP s2).2.2.1, (sgnP s2).2.2.2, decide_true, decide_false, Bool.not_true, Bool.not_false, Bool.and_true, Bool.true_and, Bool.and_false, Bool.false_and, Bool.or_true, Bool.true_or, Bool.or_false, Bool.false_or, Bool.or_self, Bool.and_self]
    rw [hz]
    exact ⟨_, g⟩
  · have g : f_X1_goes fu ev (mem ev w) (ev.1 + cr c) 4 = bd2 (f_X1_turnsBy fu ev (mem ev w) (ev.1 + cr c) 1) (fun _ s3 => some ((), s3)) := by simp only [f_X1_goes, b_X1_goes_0, b_X1_goes_70, b_X1_goes_78, b_X1_goes_154, cis h, Option.bind_some, reduceIte, ie_0_1, ie_0_2, ie_0_3, ie_0_4, ie_0_5, ie_0_6, ie_0_7, ie_0_8, ie_0_9, ie_1_0, ie_1_2, ie_1_3, ie_1_4, ie_1_5, ie_1_6, ie_1_7, ie_1_8, ie_1_9, ie_2_0, ie_2_1, ie_2_3, ie_2_4, ie_2_5, ie_2_6, ie_2_7, ie_2_8, ie_2_9, ie_3_0, ie_3_1, ie_3_2, ie_3_4, ie_3_5, ie_3_6, ie_3_7, ie_3_8, ie_3_9, ie_4_0, ie_4_1, ie_4_2, ie_4_3, ie_4_5, ie_4_6, ie_4_7, ie_4_8, ie_4_9, ie_5_0, ie_5_1, ie_5_2, ie_5_3, ie_5_4, ie_5_6, ie_5_7, ie_5_8, ie_5_9, ie_6_0, ie_6_1, ie_6_2, ie_6_3, ie_6_4, ie_6_5, ie_6_7, ie_6_8, ie_6_9, ie_7_0, ie_7_1, ie_7_2, ie_7_3, ie_7_4, ie_7_5, ie_7_6, ie_7_8, ie_7_9, ie_8_0, ie_8_1, ie_8_2, ie_8_3, ie_8_4, ie_8_5, ie_8_6, ie_8_7, ie_8_9, ie_9_0, ie_9_1, ie_9_2, ie_9_3, ie_9_4, ie_9_5, ie_9_6, ie_9_7, ie_9_8]
    rw [X1_turnsBy_1_PNZ h hf s0 s1 s2] at g
    have hz : go4 (cv w c) = tu3 (cv w c) true false true := by simp only [go4, tu4, (sgnP s0).1, (sgnP s0).2.1, (sgnP s0).2.2.1, (sgnP s0).2.2.2, (sgnN s1).1, (sgnN s1).2.1, (sgnN s1).2.2.1, (sgnN s1).2.2.2, (sgnZ s2).1, (sgnZ s2).2.1, (sgnZ s2).2.2.1, (sgnZ s2).2.2.2, decide_true, decide_false, Bool.not_true, Bool.not_false, Bool.and_true, Bool.true_and, Bool.and_false, Bool.false_and, Bool.or_true, Bool.true_or, Bool.or_false, Bool.false_or, Bool.or_self, Bool.and_self]
    rw [hz]
    exact ⟨_, g⟩
  · exfalso
    simp only [ap4, sg3, aboV, (sgnP s0).1, (sgnP s0).2.1, (sgnP s0).2.2.1, (sgnP s0).2.2.2, (sgnN s1).1, (sgnN s1).2.1, (sgnN s1).2.2.1, (sgnN s1).2.2.2, (sgnN s2).1, (sgnN s2).2.1, (sgnN s2).2.2.1, (sgnN s2).2.2.2, reduceIte, Bool.and_eq_true, Bool.not_eq_true', decide_eq_true_eq, decide_eq_false_iff_not] at ha
    revert ha
    decide
  · have g : f_X1_goes fu ev (mem ev w) (ev.1 + cr c) 4 = bd2 (f_X1_turnsBy fu ev (mem ev w) (ev.1 + cr c) 1) (fun _ s3 => some ((), s3)) := by simp only [f_X1_goes, b_X1_goes_0, b_X1_goes_70, b_X1_goes_78, b_X1_goes_154, cis h, Option.bind_some, reduceIte, ie_0_1, ie_0_2, ie_0_3, ie_0_4, ie_0_5, ie_0_6, ie_0_7, ie_0_8, ie_0_9, ie_1_0, ie_1_2, ie_1_3, ie_1_4, ie_1_5, ie_1_6, ie_1_7, ie_1_8, ie_1_9, ie_2_0, ie_2_1, ie_2_3, ie_2_4, ie_2_5, ie_2_6, ie_2_7, ie_2_8, ie_2_9, ie_3_0, ie_3_1, ie_3_2, ie_3_4, ie_3_5, ie_3_6, ie_3_7, ie_3_8, ie_3_9, ie_4_0, ie_4_1, ie_4_2, ie_4_3, ie_4_5, ie_4_6, ie_4_7, ie_4_8, ie_4_9, ie_5_0, ie_5_1, ie_5_2, ie_5_3, ie_5_4, ie_5_6, ie_5_7, ie_5_8, ie_5_9, ie_6_0, ie_6_1, ie_6_2, ie_6_3, ie_6_4, ie_6_5, ie_6_7, ie_6_8, ie_6_9, ie_7_0, ie_7_1, ie_7_2, ie_7_3, ie_7_4, ie_7_5, ie_7_6, ie_7_8, ie_7_9, ie_8_0, ie_8_1, ie_8_2, ie_8_3, ie_8_4, ie_8_5, ie_8_6, ie_8_7, ie_8_9, ie_9_0, ie_9_1, ie_9_2, ie_9_3, ie_9_4, ie_9_5, ie_9_6, ie_9_7, ie_9_8]
    rw [X1_turnsBy_1_ZPP h hf s0 s1 s2] at g
    have hz : go4 (cv w c) = tu3 (cv w c) false true true := by simp only [go4, tu4, (sgnZ s0).1, (sgnZ s0).2.1, (sgnZ s0).2.2.1, (sgnZ s0).2.2.2, (sgnP s1).1, (sgnP s1).2.1, (sgnP s1).2.2.1, (sgnP s1).2.2.2, (sgnP s2).1, (sgnP s2).2.1, (sgnP s2).2.2.1, (sgnP s2).2.2.2, decide_true, decide_false, Bool.not_true, Bool.not_false, Bool.and_true, Bool.true_and, Bool.and_false, Bool.false_and, Bool.or_true, Bool.true_or, Bool.or_false, Bool.false_or, Bool.or_self, Bool.and_self]
    rw [hz]
    exact ⟨_, g⟩
  · have g : f_X1_goes fu ev (mem ev w) (ev.1 + cr c) 4 = bd2 (f_X1_turnsBy fu ev (mem ev w) (ev.1 + cr c) 1) (fun _ s3 => some ((), s3)) := by simp only [f_X1_goes, b_X1_goes_0, b_X1_goes_70, b_X1_goes_78, b_X1_goes_154, cis h, Option.bind_some, reduceIte, ie_0_1, ie_0_2, ie_0_3, ie_0_4, ie_0_5, ie_0_6, ie_0_7, ie_0_8, ie_0_9, ie_1_0, ie_1_2, ie_1_3, ie_1_4, ie_1_5, ie_1_6, ie_1_7, ie_1_8, ie_1_9, ie_2_0, ie_2_1, ie_2_3, ie_2_4, ie_2_5, ie_2_6, ie_2_7, ie_2_8, ie_2_9, ie_3_0, ie_3_1, ie_3_2, ie_3_4, ie_3_5, ie_3_6, ie_3_7, ie_3_8, ie_3_9, ie_4_0, ie_4_1, ie_4_2, ie_4_3, ie_4_5, ie_4_6, ie_4_7, ie_4_8, ie_4_9, ie_5_0, ie_5_1, ie_5_2, ie_5_3, ie_5_4, ie_5_6, ie_5_7, ie_5_8, ie_5_9, ie_6_0, ie_6_1, ie_6_2, ie_6_3, ie_6_4, ie_6_5, ie_6_7, ie_6_8, ie_6_9, ie_7_0, ie_7_1, ie_7_2, ie_7_3, ie_7_4, ie_7_5, ie_7_6, ie_7_8, ie_7_9, ie_8_0, ie_8_1, ie_8_2, ie_8_3, ie_8_4, ie_8_5, ie_8_6, ie_8_7, ie_8_9, ie_9_0, ie_9_1, ie_9_2, ie_9_3, ie_9_4, ie_9_5, ie_9_6, ie_9_7, ie_9_8]
    rw [X1_turnsBy_1_ZPZ h hf s0 s1 s2] at g
    have hz : go4 (cv w c) = tu3 (cv w c) false true true := by simp only [go4, tu4, (sgnZ s0).1, (sgnZ s0).2.1, (sgnZ s0).2.2.1, (sgnZ s0).2.2.2, (sgnP s1).1, (sgnP s1).2.1, (sgnP s1).2.2.1, (sgnP s1).2.2.2, (sgnZ s2).1, (sgnZ s2).2.1, (sgnZ s2).2.2.1, (sgnZ s2).2.2.2, decide_true, decide_false, Bool.not_true, Bool.not_false, Bool.and_true, Bool.true_and, Bool.and_false, Bool.false_and, Bool.or_true, Bool.true_or, Bool.or_false, Bool.false_or, Bool.or_self, Bool.and_self]
    rw [hz]
    exact ⟨_, g⟩
  · have g : f_X1_goes fu ev (mem ev w) (ev.1 + cr c) 4 = bd2 (f_X1_turnsBy fu ev (mem ev w) (ev.1 + cr c) 1) (fun _ s3 => some ((), s3)) := by simp only [f_X1_goes, b_X1_goes_0, b_X1_goes_70, b_X1_goes_78, b_X1_goes_154, cis h, Option.bind_some, reduceIte, ie_0_1, ie_0_2, ie_0_3, ie_0_4, ie_0_5, ie_0_6, ie_0_7, ie_0_8, ie_0_9, ie_1_0, ie_1_2, ie_1_3, ie_1_4, ie_1_5, ie_1_6, ie_1_7, ie_1_8, ie_1_9, ie_2_0, ie_2_1, ie_2_3, ie_2_4, ie_2_5, ie_2_6, ie_2_7, ie_2_8, ie_2_9, ie_3_0, ie_3_1, ie_3_2, ie_3_4, ie_3_5, ie_3_6, ie_3_7, ie_3_8, ie_3_9, ie_4_0, ie_4_1, ie_4_2, ie_4_3, ie_4_5, ie_4_6, ie_4_7, ie_4_8, ie_4_9, ie_5_0, ie_5_1, ie_5_2, ie_5_3, ie_5_4, ie_5_6, ie_5_7, ie_5_8, ie_5_9, ie_6_0, ie_6_1, ie_6_2, ie_6_3, ie_6_4, ie_6_5, ie_6_7, ie_6_8, ie_6_9, ie_7_0, ie_7_1, ie_7_2, ie_7_3, ie_7_4, ie_7_5, ie_7_6, ie_7_8, ie_7_9, ie_8_0, ie_8_1, ie_8_2, ie_8_3, ie_8_4, ie_8_5, ie_8_6, ie_8_7, ie_8_9, ie_9_0, ie_9_1, ie_9_2, ie_9_3, ie_9_4, ie_9_5, ie_9_6, ie_9_7, ie_9_8]
    rw [X1_turnsBy_1_ZPN h hf s0 s1 s2] at g
    have hz : go4 (cv w c) = tu3 (cv w c) true true false := by simp only [go4, tu4, (sgnZ s0).1, (sgnZ s0).2.1, (sgnZ s0).2.2.1, (sgnZ s0).2.2.2, (sgnP s1).1, (sgnP s1).2.1, (sgnP s1).2.2.1, (sgnP s1).2.2.2, (sgnN s2).1, (sgnN s2).2.1, (sgnN s2).2.2.1, (sgnN s2).2.2.2, decide_true, decide_false, Bool.not_true, Bool.not_false, Bool.and_true, Bool.true_and, Bool.and_false, Bool.false_and, Bool.or_true, Bool.true_or, Bool.or_false, Bool.false_or, Bool.or_self, Bool.and_self]
    rw [hz]
    exact ⟨_, g⟩
  · have g : f_X1_goes fu ev (mem ev w) (ev.1 + cr c) 4 = bd2 (f_X1_turnsBy fu ev (mem ev w) (ev.1 + cr c) 1) (fun _ s3 => some ((), s3)) := by simp only [f_X1_goes, b_X1_goes_0, b_X1_goes_70, b_X1_goes_78, b_X1_goes_154, cis h, Option.bind_some, reduceIte, ie_0_1, ie_0_2, ie_0_3, ie_0_4, ie_0_5, ie_0_6, ie_0_7, ie_0_8, ie_0_9, ie_1_0, ie_1_2, ie_1_3, ie_1_4, ie_1_5, ie_1_6, ie_1_7, ie_1_8, ie_1_9, ie_2_0, ie_2_1, ie_2_3, ie_2_4, ie_2_5, ie_2_6, ie_2_7, ie_2_8, ie_2_9, ie_3_0, ie_3_1, ie_3_2, ie_3_4, ie_3_5, ie_3_6, ie_3_7, ie_3_8, ie_3_9, ie_4_0, ie_4_1, ie_4_2, ie_4_3, ie_4_5, ie_4_6, ie_4_7, ie_4_8, ie_4_9, ie_5_0, ie_5_1, ie_5_2, ie_5_3, ie_5_4, ie_5_6, ie_5_7, ie_5_8, ie_5_9, ie_6_0, ie_6_1, ie_6_2, ie_6_3, ie_6_4, ie_6_5, ie_6_7, ie_6_8, ie_6_9, ie_7_0, ie_7_1, ie_7_2, ie_7_3, ie_7_4, ie_7_5, ie_7_6, ie_7_8, ie_7_9, ie_8_0, ie_8_1, ie_8_2, ie_8_3, ie_8_4, ie_8_5, ie_8_6, ie_8_7, ie_8_9, ie_9_0, ie_9_1, ie_9_2, ie_9_3, ie_9_4, ie_9_5, ie_9_6, ie_9_7, ie_9_8]
    rw [X1_turnsBy_1_ZZP h hf s0 s1 s2] at g
    have hz : go4 (cv w c) = tu3 (cv w c) false true true := by simp only [go4, tu4, (sgnZ s0).1, (sgnZ s0).2.1, (sgnZ s0).2.2.1, (sgnZ s0).2.2.2, (sgnZ s1).1, (sgnZ s1).2.1, (sgnZ s1).2.2.1, (sgnZ s1).2.2.2, (sgnP s2).1, (sgnP s2).2.1, (sgnP s2).2.2.1, (sgnP s2).2.2.2, decide_true, decide_false, Bool.not_true, Bool.not_false, Bool.and_true, Bool.true_and, Bool.and_false, Bool.false_and, Bool.or_true, Bool.true_or, Bool.or_false, Bool.false_or, Bool.or_self, Bool.and_self]
    rw [hz]
    exact ⟨_, g⟩
  · exfalso
    simp only [ap4, sg3, aboV, (sgnZ s0).1, (sgnZ s0).2.1, (sgnZ s0).2.2.1, (sgnZ s0).2.2.2, (sgnZ s1).1, (sgnZ s1).2.1, (sgnZ s1).2.2.1, (sgnZ s1).2.2.2, (sgnZ s2).1, (sgnZ s2).2.1, (sgnZ s2).2.2.1, (sgnZ s2).2.2.2, reduceIte, Bool.and_eq_true, Bool.not_eq_true', decide_eq_true_eq, decide_eq_false_iff_not] at ha
    revert ha
    decide
  · exfalso
    simp only [ap4, sg3, aboV, (sgnZ s0).1, (sgnZ s0).2.1, (sgnZ s0).2.2.1, (sgnZ s0).2.2.2, (sgnZ s1).1, (sgnZ s1).2.1, (sgnZ s1).2.2.1, (sgnZ s1).2.2.2, (sgnN s2).1, (sgnN s2).2.1, (sgnN s2).2.2.1, (sgnN s2).2.2.2, reduceIte, Bool.and_eq_true, Bool.not_eq_true', decide_eq_true_eq, decide_eq_false_iff_not] at ha
    revert ha
    decide
  · have g : f_X1_goes fu ev (mem ev w) (ev.1 + cr c) 4 = bd2 (f_X1_turnsBy fu ev (mem ev w) (ev.1 + cr c) 1) (fun _ s3 => some ((), s3)) := by simp only [f_X1_goes, b_X1_goes_0, b_X1_goes_70, b_X1_goes_78, b_X1_goes_154, cis h, Option.bind_some, reduceIte, ie_0_1, ie_0_2, ie_0_3, ie_0_4, ie_0_5, ie_0_6, ie_0_7, ie_0_8, ie_0_9, ie_1_0, ie_1_2, ie_1_3, ie_1_4, ie_1_5, ie_1_6, ie_1_7, ie_1_8, ie_1_9, ie_2_0, ie_2_1, ie_2_3, ie_2_4, ie_2_5, ie_2_6, ie_2_7, ie_2_8, ie_2_9, ie_3_0, ie_3_1, ie_3_2, ie_3_4, ie_3_5, ie_3_6, ie_3_7, ie_3_8, ie_3_9, ie_4_0, ie_4_1, ie_4_2, ie_4_3, ie_4_5, ie_4_6, ie_4_7, ie_4_8, ie_4_9, ie_5_0, ie_5_1, ie_5_2, ie_5_3, ie_5_4, ie_5_6, ie_5_7, ie_5_8, ie_5_9, ie_6_0, ie_6_1, ie_6_2, ie_6_3, ie_6_4, ie_6_5, ie_6_7, ie_6_8, ie_6_9, ie_7_0, ie_7_1, ie_7_2, ie_7_3, ie_7_4, ie_7_5, ie_7_6, ie_7_8, ie_7_9, ie_8_0, ie_8_1, ie_8_2, ie_8_3, ie_8_4, ie_8_5, ie_8_6, ie_8_7, ie_8_9, ie_9_0, ie_9_1, ie_9_2, ie_9_3, ie_9_4, ie_9_5, ie_9_6, ie_9_7, ie_9_8]
    rw [X1_turnsBy_1_ZNP h hf s0 s1 s2] at g
    have hz : go4 (cv w c) = tu3 (cv w c) true false true := by simp only [go4, tu4, (sgnZ s0).1, (sgnZ s0).2.1, (sgnZ s0).2.2.1, (sgnZ s0).2.2.2, (sgnN s1).1, (sgnN s1).2.1, (sgnN s1).2.2.1, (sgnN s1).2.2.2, (sgnP s2).1, (sgnP s2).2.1, (sgnP s2).2.2.1, (sgnP s2).2.2.2, decide_true, decide_false, Bool.not_true, Bool.not_false, Bool.and_true, Bool.true_and, Bool.and_false, Bool.false_and, Bool.or_true, Bool.true_or, Bool.or_false, Bool.false_or, Bool.or_self, Bool.and_self]
    rw [hz]
    exact ⟨_, g⟩
  · exfalso
    simp only [ap4, sg3, aboV, (sgnZ s0).1, (sgnZ s0).2.1, (sgnZ s0).2.2.1, (sgnZ s0).2.2.2, (sgnN s1).1, (sgnN s1).2.1, (sgnN s1).2.2.1, (sgnN s1).2.2.2, (sgnZ s2).1, (sgnZ s2).2.1, (sgnZ s2).2.2.1, (sgnZ s2).2.2.2, reduceIte, Bool.and_eq_true, Bool.not_eq_true', decide_eq_true_eq, decide_eq_false_iff_not] at ha
    revert ha
    decide
  · exfalso
    simp only [ap4, sg3, aboV, (sgnZ s0).1, (sgnZ s0).2.1, (sgnZ s0).2.2.1, (sgnZ s0).2.2.2, (sgnN s1).1, (sgnN s1).2.1, (sgnN s1).2.2.1, (sgnN s1).2.2.2, (sgnN s2).1, (sgnN s2).2.1, (sgnN s2).2.2.1, (sgnN s2).2.2.2, reduceIte, Bool.and_eq_true, Bool.not_eq_true', decide_eq_true_eq, decide_eq_false_iff_not] at ha
    revert ha
    decide
  · have g : f_X1_goes fu ev (mem ev w) (ev.1 + cr c) 4 = bd2 (f_X1_turnsBy fu ev (mem ev w) (ev.1 + cr c) 1) (fun _ s3 => some ((), s3)) := by simp only [f_X1_goes, b_X1_goes_0, b_X1_goes_70, b_X1_goes_78, b_X1_goes_154, cis h, Option.bind_some, reduceIte, ie_0_1, ie_0_2, ie_0_3, ie_0_4, ie_0_5, ie_0_6, ie_0_7, ie_0_8, ie_0_9, ie_1_0, ie_1_2, ie_1_3, ie_1_4, ie_1_5, ie_1_6, ie_1_7, ie_1_8, ie_1_9, ie_2_0, ie_2_1, ie_2_3, ie_2_4, ie_2_5, ie_2_6, ie_2_7, ie_2_8, ie_2_9, ie_3_0, ie_3_1, ie_3_2, ie_3_4, ie_3_5, ie_3_6, ie_3_7, ie_3_8, ie_3_9, ie_4_0, ie_4_1, ie_4_2, ie_4_3, ie_4_5, ie_4_6, ie_4_7, ie_4_8, ie_4_9, ie_5_0, ie_5_1, ie_5_2, ie_5_3, ie_5_4, ie_5_6, ie_5_7, ie_5_8, ie_5_9, ie_6_0, ie_6_1, ie_6_2, ie_6_3, ie_6_4, ie_6_5, ie_6_7, ie_6_8, ie_6_9, ie_7_0, ie_7_1, ie_7_2, ie_7_3, ie_7_4, ie_7_5, ie_7_6, ie_7_8, ie_7_9, ie_8_0, ie_8_1, ie_8_2, ie_8_3, ie_8_4, ie_8_5, ie_8_6, ie_8_7, ie_8_9, ie_9_0, ie_9_1, ie_9_2, ie_9_3, ie_9_4, ie_9_5, ie_9_6, ie_9_7, ie_9_8]
    rw [X1_turnsBy_1_NPP h hf s0 s1 s2] at g
    have hz : go4 (cv w c) = tu3 (cv w c) false true true := by simp only [go4, tu4, (sgnN s0).1, (sgnN s0).2.1, (sgnN s0).2.2.1, (sgnN s0).2.2.2, (sgnP s1).1, (sgnP s1).2.1, (sgnP s1).2.2.1, (sgnP s1).2.2.2, (sgnP s2).1, (sgnP s2).2.1, (sgnP s2).2.2.1, (sgnP s2).2.2.2, decide_true, decide_false, Bool.not_true, Bool.not_false, Bool.and_true, Bool.true_and, Bool.and_false, Bool.false_and, Bool.or_true, Bool.true_or, Bool.or_false, Bool.false_or, Bool.or_self, Bool.and_self]
    rw [hz]
    exact ⟨_, g⟩
  · have g : f_X1_goes fu ev (mem ev w) (ev.1 + cr c) 4 = bd2 (f_X1_turnsBy fu ev (mem ev w) (ev.1 + cr c) 1) (fun _ s3 => some ((), s3)) := by simp only [f_X1_goes, b_X1_goes_0, b_X1_goes_70, b_X1_goes_78, b_X1_goes_154, cis h, Option.bind_some, reduceIte, ie_0_1, ie_0_2, ie_0_3, ie_0_4, ie_0_5, ie_0_6, ie_0_7, ie_0_8, ie_0_9, ie_1_0, ie_1_2, ie_1_3, ie_1_4, ie_1_5, ie_1_6, ie_1_7, ie_1_8, ie_1_9, ie_2_0, ie_2_1, ie_2_3, ie_2_4, ie_2_5, ie_2_6, ie_2_7, ie_2_8, ie_2_9, ie_3_0, ie_3_1, ie_3_2, ie_3_4, ie_3_5, ie_3_6, ie_3_7, ie_3_8, ie_3_9, ie_4_0, ie_4_1, ie_4_2, ie_4_3, ie_4_5, ie_4_6, ie_4_7, ie_4_8, ie_4_9, ie_5_0, ie_5_1, ie_5_2, ie_5_3, ie_5_4, ie_5_6, ie_5_7, ie_5_8, ie_5_9, ie_6_0, ie_6_1, ie_6_2, ie_6_3, ie_6_4, ie_6_5, ie_6_7, ie_6_8, ie_6_9, ie_7_0, ie_7_1, ie_7_2, ie_7_3, ie_7_4, ie_7_5, ie_7_6, ie_7_8, ie_7_9, ie_8_0, ie_8_1, ie_8_2, ie_8_3, ie_8_4, ie_8_5, ie_8_6, ie_8_7, ie_8_9, ie_9_0, ie_9_1, ie_9_2, ie_9_3, ie_9_4, ie_9_5, ie_9_6, ie_9_7, ie_9_8]
    rw [X1_turnsBy_1_NPZ h hf s0 s1 s2] at g
    have hz : go4 (cv w c) = tu3 (cv w c) false true true := by simp only [go4, tu4, (sgnN s0).1, (sgnN s0).2.1, (sgnN s0).2.2.1, (sgnN s0).2.2.2, (sgnP s1).1, (sgnP s1).2.1, (sgnP s1).2.2.1, (sgnP s1).2.2.2, (sgnZ s2).1, (sgnZ s2).2.1, (sgnZ s2).2.2.1, (sgnZ s2).2.2.2, decide_true, decide_false, Bool.not_true, Bool.not_false, Bool.and_true, Bool.true_and, Bool.and_false, Bool.false_and, Bool.or_true, Bool.true_or, Bool.or_false, Bool.false_or, Bool.or_self, Bool.and_self]
    rw [hz]
    exact ⟨_, g⟩
  · exfalso
    simp only [ap4, sg3, aboV, (sgnN s0).1, (sgnN s0).2.1, (sgnN s0).2.2.1, (sgnN s0).2.2.2, (sgnP s1).1, (sgnP s1).2.1, (sgnP s1).2.2.1, (sgnP s1).2.2.2, (sgnN s2).1, (sgnN s2).2.1, (sgnN s2).2.2.1, (sgnN s2).2.2.2, reduceIte, Bool.and_eq_true, Bool.not_eq_true', decide_eq_true_eq, decide_eq_false_iff_not] at ha
    revert ha
    decide
  · have g : f_X1_goes fu ev (mem ev w) (ev.1 + cr c) 4 = bd2 (f_X1_turnsBy fu ev (mem ev w) (ev.1 + cr c) 1) (fun _ s3 => some ((), s3)) := by simp only [f_X1_goes, b_X1_goes_0, b_X1_goes_70, b_X1_goes_78, b_X1_goes_154, cis h, Option.bind_some, reduceIte, ie_0_1, ie_0_2, ie_0_3, ie_0_4, ie_0_5, ie_0_6, ie_0_7, ie_0_8, ie_0_9, ie_1_0, ie_1_2, ie_1_3, ie_1_4, ie_1_5, ie_1_6, ie_1_7, ie_1_8, ie_1_9, ie_2_0, ie_2_1, ie_2_3, ie_2_4, ie_2_5, ie_2_6, ie_2_7, ie_2_8, ie_2_9, ie_3_0, ie_3_1, ie_3_2, ie_3_4, ie_3_5, ie_3_6, ie_3_7, ie_3_8, ie_3_9, ie_4_0, ie_4_1, ie_4_2, ie_4_3, ie_4_5, ie_4_6, ie_4_7, ie_4_8, ie_4_9, ie_5_0, ie_5_1, ie_5_2, ie_5_3, ie_5_4, ie_5_6, ie_5_7, ie_5_8, ie_5_9, ie_6_0, ie_6_1, ie_6_2, ie_6_3, ie_6_4, ie_6_5, ie_6_7, ie_6_8, ie_6_9, ie_7_0, ie_7_1, ie_7_2, ie_7_3, ie_7_4, ie_7_5, ie_7_6, ie_7_8, ie_7_9, ie_8_0, ie_8_1, ie_8_2, ie_8_3, ie_8_4, ie_8_5, ie_8_6, ie_8_7, ie_8_9, ie_9_0, ie_9_1, ie_9_2, ie_9_3, ie_9_4, ie_9_5, ie_9_6, ie_9_7, ie_9_8]
    rw [X1_turnsBy_1_NZP h hf s0 s1 s2] at g
    have hz : go4 (cv w c) = tu3 (cv w c) false true true := by simp only [go4, tu4, (sgnN s0).1, (sgnN s0).2.1, (sgnN s0).2.2.1, (sgnN s0).2.2.2, (sgnZ s1).1, (sgnZ s1).2.1, (sgnZ s1).2.2.1, (sgnZ s1).2.2.2, (sgnP s2).1, (sgnP s2).2.1, (sgnP s2).2.2.1, (sgnP s2).2.2.2, decide_true, decide_false, Bool.not_true, Bool.not_false, Bool.and_true, Bool.true_and, Bool.and_false, Bool.false_and, Bool.or_true, Bool.true_or, Bool.or_false, Bool.false_or, Bool.or_self, Bool.and_self]
    rw [hz]
    exact ⟨_, g⟩
  · exfalso
    simp only [ap4, sg3, aboV, (sgnN s0).1, (sgnN s0).2.1, (sgnN s0).2.2.1, (sgnN s0).2.2.2, (sgnZ s1).1, (sgnZ s1).2.1, (sgnZ s1).2.2.1, (sgnZ s1).2.2.2, (sgnZ s2).1, (sgnZ s2).2.1, (sgnZ s2).2.2.1, (sgnZ s2).2.2.2, reduceIte, Bool.and_eq_true, Bool.not_eq_true', decide_eq_true_eq, decide_eq_false_iff_not] at ha
    revert ha
    decide
  · exfalso
    simp only [ap4, sg3, aboV, (sgnN s0).1, (sgnN s0).2.1, (sgnN s0).2.2.1, (sgnN s0).2.2.2, (sgnZ s1).1, (sgnZ s1).2.1, (sgnZ s1).2.2.1, (sgnZ s1).2.2.2, (sgnN s2).1, (sgnN s2).2.1, (sgnN s2).2.2.1, (sgnN s2).2.2.2, reduceIte, Bool.and_eq_true, Bool.not_eq_true', decide_eq_true_eq, decide_eq_false_iff_not] at ha
    revert ha
    decide
  · exfalso
    simp only [ap4, sg3, aboV, (sgnN s0).1, (sgnN s0).2.1, (sgnN s0).2.2.1, (sgnN s0).2.2.2, (sgnN s1).1, (sgnN s1).2.1, (sgnN s1).2.2.1, (sgnN s1).2.2.2, (sgnP s2).1, (sgnP s2).2.1, (sgnP s2).2.2.1, (sgnP s2).2.2.2, reduceIte, Bool.and_eq_true, Bool.not_eq_true', decide_eq_true_eq, decide_eq_false_iff_not] at ha
    revert ha
    decide
  · exfalso
    simp only [ap4, sg3, aboV, (sgnN s0).1, (sgnN s0).2.1, (sgnN s0).2.2.1, (sgnN s0).2.2.2, (sgnN s1).1, (sgnN s1).2.1, (sgnN s1).2.2.1, (sgnN s1).2.2.2, (sgnZ s2).1, (sgnZ s2).2.1, (sgnZ s2).2.2.1, (sgnZ s2).2.2.2, reduceIte, Bool.and_eq_true, Bool.not_eq_true', decide_eq_true_eq, decide_eq_false_iff_not] at ha
    revert ha
    decide
  · exfalso
    simp only [ap4, sg3, aboV, (sgnN s0).1, (sgnN s0).2.1, (sgnN s0).2.2.1, (sgnN s0).2.2.2, (sgnN s1).1, (sgnN s1).2.1, (sgnN s1).2.2.1, (sgnN s1).2.2.2, (sgnN s2).1, (sgnN s2).2.1, (sgnN s2).2.2.1, (sgnN s2).2.2.2, reduceIte, Bool.and_eq_true, Bool.not_eq_true', decide_eq_true_eq, decide_eq_false_iff_not] at ha
    revert ha
    decide
end XCM4
