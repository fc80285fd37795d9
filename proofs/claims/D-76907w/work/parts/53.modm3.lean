/-! THE MODEL'S METHODS UPON A SLOT (3): does, firstOf, goesOn, normals -/
section XMO
variable {ev : Ev} {w : Wd} {K K2 fu : Nat} {k : Int64}
theorem setS_turn3 {w0 : Wd} {v : Nat → Int64} {i k l : Nat} : setS w K (sTurn (sTurn (sTurn (sl (setS w0 K v) K) i) k) l) = setS w K (sTurn (sTurn (sTurn v i) k) l) := setS_ext fun j hj => by simp only [sTurn, sl_self hj]
theorem setS_adds {w0 : Wd} {v : Nat → Int64} {i j t : Nat} {k : Int64} (hi : i < 3) (hj : j < 3) (ht : t < 3) : setS w K (sAdds (sl (setS w0 K v) K) i j t k) = setS w K (sAdds v i j t k) := setS_ext fun q hq => by
  simp only [sAdds, upV_at]
  rw [sl_self (show i < 15 by omega), sl_self (show 3 + t < 15 by omega), sl_self (show j < 15 by omega), sl_self (show 3 + j < 15 by omega), sl_self (show 3 + i < 15 by omega), sl_self (show 6 + 3 * i < 15 by omega), sl_self (show 6 + 3 * j < 15 by omega), sl_self (show 7 + 3 * i < 15 by omega), sl_self (show 7 + 3 * j < 15 by omega), sl_self (show 8 + 3 * i < 15 by omega), sl_self (show 8 + 3 * j < 15 by omega), sl_self hq]
theorem X2_does_1 (h : K < 26) (hf : 4 ≤ fu) : f_X2_does fu ev (mem ev w) (ev.1 + 966) (nI K) 1 = some ((), mem ev (setS w K (go1 (sl w K)))) := by
  simp only [b_X2_does_192, b_X2_does_44, b_X2_does_59, b_X2_does_74, b_X2_does_83, b_X2_does_114, b_X2_does_113, b_X2_does_107, b_X2_does_92, b_X2_does_142, b_X2_does_141, b_X2_does_135, b_X2_does_120, b_X2_does_170, b_X2_does_169, b_X2_does_163, b_X2_does_148, b_X2_does_176, b_X2_does_0, f_X2_does, bd2, Option.bind_some, setS_set, setS_up, upV_at, mf0, mf1, mis, Int32.add_assoc, i_as, sl0, sl1, sl2, sl3, sl4, sl5, sl6, sl7, sl8, sl9, sl10, sl11, sl12, sl13, sl14, ld6_0 h, ld6_1 h, ld6_2 h, ld6_3 h, ld6_4 h, ld6_5 h, ld9_0 h, ld9_1 h, ld9_2 h, ld9_3 h, ld9_4 h, ld9_5 h, ld9_6 h, ld9_7 h, ld9_8 h, ld6_b h, st6_0 h, st6_1 h, st6_2 h, st6_3 h, st6_4 h, st6_5 h, st9_0 h, st9_1 h, st9_2 h, st9_3 h, st9_4 h, st9_5 h, st9_6 h, st9_7 h, st9_8 h, st6_b h, Int32.reduceAdd, Int32.reduceSub, Int32.reduceMul, Int32.reduceDiv, Int32.reduceLE, Int32.reduceLT, Nat.reduceEqDiff, reduceIte, X2_exchanges_01 h hf, X2_turnsAll h hf, setS_turn3, ie_0_1, ie_0_2, ie_0_3, ie_0_4, ie_0_5, ie_0_6, ie_0_7, ie_0_8, ie_0_9, ie_1_0, ie_1_2, ie_1_3, ie_1_4, ie_1_5, ie_1_6, ie_1_7, ie_1_8, ie_1_9, ie_2_0, ie_2_1, ie_2_3, ie_2_4, ie_2_5, ie_2_6, ie_2_7, ie_2_8, ie_2_9, ie_3_0, ie_3_1, ie_3_2, ie_3_4, ie_3_5, ie_3_6, ie_3_7, ie_3_8, ie_3_9, ie_4_0, ie_4_1, ie_4_2, ie_4_3, ie_4_5, ie_4_6, ie_4_7, ie_4_8, ie_4_9, ie_5_0, ie_5_1, ie_5_2, ie_5_3, ie_5_4, ie_5_6, ie_5_7, ie_5_8, ie_5_9, ie_6_0, ie_6_1, ie_6_2, ie_6_3, ie_6_4, ie_6_5, ie_6_7, ie_6_8, ie_6_9, ie_7_0, ie_7_1, ie_7_2, ie_7_3, ie_7_4, ie_7_5, ie_7_6, ie_7_8, ie_7_9, ie_8_0, ie_8_1, ie_8_2, ie_8_3, ie_8_4, ie_8_5, ie_8_6, ie_8_7, ie_8_9, ie_9_0, ie_9_1, ie_9_2, ie_9_3, ie_9_4, ie_9_5, ie_9_6, ie_9_7, ie_9_8]
  try rfl
theorem X2_does_2 (h : K < 26) (hf : 4 ≤ fu) : f_X2_does fu ev (mem ev w) (ev.1 + 966) (nI K) 2 = some ((), mem ev (setS w K (go2 (sl w K)))) := by
  simp only [b_X2_does_192, b_X2_does_44, b_X2_does_59, b_X2_does_74, b_X2_does_83, b_X2_does_114, b_X2_does_113, b_X2_does_107, b_X2_does_92, b_X2_does_142, b_X2_does_141, b_X2_does_135, b_X2_does_120, b_X2_does_170, b_X2_does_169, b_X2_does_163, b_X2_does_148, b_X2_does_176, b_X2_does_0, f_X2_does, bd2, Option.bind_some, setS_set, setS_up, upV_at, mf0, mf1, mis, Int32.add_assoc, i_as, sl0, sl1, sl2, sl3, sl4, sl5, sl6, sl7, sl8, sl9, sl10, sl11, sl12, sl13, sl14, ld6_0 h, ld6_1 h, ld6_2 h, ld6_3 h, ld6_4 h, ld6_5 h, ld9_0 h, ld9_1 h, ld9_2 h, ld9_3 h, ld9_4 h, ld9_5 h, ld9_6 h, ld9_7 h, ld9_8 h, ld6_b h, st6_0 h, st6_1 h, st6_2 h, st6_3 h, st6_4 h, st6_5 h, st9_0 h, st9_1 h, st9_2 h, st9_3 h, st9_4 h, st9_5 h, st9_6 h, st9_7 h, st9_8 h, st6_b h, Int32.reduceAdd, Int32.reduceSub, Int32.reduceMul, Int32.reduceDiv, Int32.reduceLE, Int32.reduceLT, Nat.reduceEqDiff, reduceIte, X2_exchanges_12 h hf, X2_turnsAll h hf, setS_turn3, ie_0_1, ie_0_2, ie_0_3, ie_0_4, ie_0_5, ie_0_6, ie_0_7, ie_0_8, ie_0_9, ie_1_0, ie_1_2, ie_1_3, ie_1_4, ie_1_5, ie_1_6, ie_1_7, ie_1_8, ie_1_9, ie_2_0, ie_2_1, ie_2_3, ie_2_4, ie_2_5, ie_2_6, ie_2_7, ie_2_8, ie_2_9, ie_3_0, ie_3_1, ie_3_2, ie_3_4, ie_3_5, ie_3_6, ie_3_7, ie_3_8, ie_3_9, ie_4_0, ie_4_1, ie_4_2, ie_4_3, ie_4_5, ie_4_6, ie_4_7, ie_4_8, ie_4_9, ie_5_0, ie_5_1, ie_5_2, ie_5_3, ie_5_4, ie_5_6, ie_5_7, ie_5_8, ie_5_9, ie_6_0, ie_6_1, ie_6_2, ie_6_3, ie_6_4, ie_6_5, ie_6_7, ie_6_8, ie_6_9, ie_7_0, ie_7_1, ie_7_2, ie_7_3, ie_7_4, ie_7_5, ie_7_6, ie_7_8, ie_7_9, ie_8_0, ie_8_1, ie_8_2, ie_8_3, ie_8_4, ie_8_5, ie_8_6, ie_8_7, ie_8_9, ie_9_0, ie_9_1, ie_9_2, ie_9_3, ie_9_4, ie_9_5, ie_9_6, ie_9_7, ie_9_8]
  try rfl
theorem X2_does_8 (h : K < 26) (hf : 4 ≤ fu) : f_X2_does fu ev (mem ev w) (ev.1 + 966) (nI K) 8 = some ((), mem ev (setS w K (go8 (sl w K)))) := by
  simp only [b_X2_does_192, b_X2_does_44, b_X2_does_59, b_X2_does_74, b_X2_does_83, b_X2_does_114, b_X2_does_113, b_X2_does_107, b_X2_does_92, b_X2_does_142, b_X2_does_141, b_X2_does_135, b_X2_does_120, b_X2_does_170, b_X2_does_169, b_X2_does_163, b_X2_does_148, b_X2_does_176, b_X2_does_0, f_X2_does, bd2, Option.bind_some, setS_set, setS_up, upV_at, mf0, mf1, mis, Int32.add_assoc, i_as, sl0, sl1, sl2, sl3, sl4, sl5, sl6, sl7, sl8, sl9, sl10, sl11, sl12, sl13, sl14, ld6_0 h, ld6_1 h, ld6_2 h, ld6_3 h, ld6_4 h, ld6_5 h, ld9_0 h, ld9_1 h, ld9_2 h, ld9_3 h, ld9_4 h, ld9_5 h, ld9_6 h, ld9_7 h, ld9_8 h, ld6_b h, st6_0 h, st6_1 h, st6_2 h, st6_3 h, st6_4 h, st6_5 h, st9_0 h, st9_1 h, st9_2 h, st9_3 h, st9_4 h, st9_5 h, st9_6 h, st9_7 h, st9_8 h, st6_b h, Int32.reduceAdd, Int32.reduceSub, Int32.reduceMul, Int32.reduceDiv, Int32.reduceLE, Int32.reduceLT, Nat.reduceEqDiff, reduceIte, X2_adds_20 h hf, X2_adds_21 h hf, setS_adds (show 2 < 3 by decide) (show 1 < 3 by decide) (show 0 < 3 by decide), ie_0_1, ie_0_2, ie_0_3, ie_0_4, ie_0_5, ie_0_6, ie_0_7, ie_0_8, ie_0_9, ie_1_0, ie_1_2, ie_1_3, ie_1_4, ie_1_5, ie_1_6, ie_1_7, ie_1_8, ie_1_9, ie_2_0, ie_2_1, ie_2_3, ie_2_4, ie_2_5, ie_2_6, ie_2_7, ie_2_8, ie_2_9, ie_3_0, ie_3_1, ie_3_2, ie_3_4, ie_3_5, ie_3_6, ie_3_7, ie_3_8, ie_3_9, ie_4_0, ie_4_1, ie_4_2, ie_4_3, ie_4_5, ie_4_6, ie_4_7, ie_4_8, ie_4_9, ie_5_0, ie_5_1, ie_5_2, ie_5_3, ie_5_4, ie_5_6, ie_5_7, ie_5_8, ie_5_9, ie_6_0, ie_6_1, ie_6_2, ie_6_3, ie_6_4, ie_6_5, ie_6_7, ie_6_8, ie_6_9, ie_7_0, ie_7_1, ie_7_2, ie_7_3, ie_7_4, ie_7_5, ie_7_6, ie_7_8, ie_7_9, ie_8_0, ie_8_1, ie_8_2, ie_8_3, ie_8_4, ie_8_5, ie_8_6, ie_8_7, ie_8_9, ie_9_0, ie_9_1, ie_9_2, ie_9_3, ie_9_4, ie_9_5, ie_9_6, ie_9_7, ie_9_8]
  try rfl
theorem X2_does_5 (h : K < 26) (hf : 4 ≤ fu) : f_X2_does fu ev (mem ev w) (ev.1 + 966) (nI K) 5 = some ((), mem ev (setS w K (go5 (sl w K)))) := by
  by_cases q : 0 < sl w K 3 <;> simp only [b_X2_does_192, b_X2_does_44, b_X2_does_59, b_X2_does_74, b_X2_does_83, b_X2_does_114, b_X2_does_113, b_X2_does_107, b_X2_does_92, b_X2_does_142, b_X2_does_141, b_X2_does_135, b_X2_does_120, b_X2_does_170, b_X2_does_169, b_X2_does_163, b_X2_does_148, b_X2_does_176, b_X2_does_0, f_X2_does, bd2, Option.bind_some, setS_set, setS_up, upV_at, mf0, mf1, mis, Int32.add_assoc, i_as, sl0, sl1, sl2, sl3, sl4, sl5, sl6, sl7, sl8, sl9, sl10, sl11, sl12, sl13, sl14, ld6_0 h, ld6_1 h, ld6_2 h, ld6_3 h, ld6_4 h, ld6_5 h, ld9_0 h, ld9_1 h, ld9_2 h, ld9_3 h, ld9_4 h, ld9_5 h, ld9_6 h, ld9_7 h, ld9_8 h, ld6_b h, st6_0 h, st6_1 h, st6_2 h, st6_3 h, st6_4 h, st6_5 h, st9_0 h, st9_1 h, st9_2 h, st9_3 h, st9_4 h, st9_5 h, st9_6 h, st9_7 h, st9_8 h, st6_b h, Int32.reduceAdd, Int32.reduceSub, Int32.reduceMul, Int32.reduceDiv, Int32.reduceLE, Int32.reduceLT, Nat.reduceEqDiff, reduceIte, X2_adds_21 h hf, q, j_le, not_true_eq_false, not_false_eq_true, if_true, if_false, X2_n_0 h, X2_n_1 h, X2_n_2 h, X2_n_3 h, X2_n_4 h, X2_n_5 h, ie_0_1, ie_0_2, ie_0_3, ie_0_4, ie_0_5, ie_0_6, ie_0_7, ie_0_8, ie_0_9, ie_1_0, ie_1_2, ie_1_3, ie_1_4, ie_1_5, ie_1_6, ie_1_7, ie_1_8, ie_1_9, ie_2_0, ie_2_1, ie_2_3, ie_2_4, ie_2_5, ie_2_6, ie_2_7, ie_2_8, ie_2_9, ie_3_0, ie_3_1, ie_3_2, ie_3_4, ie_3_5, ie_3_6, ie_3_7, ie_3_8, ie_3_9, ie_4_0, ie_4_1, ie_4_2, ie_4_3, ie_4_5, ie_4_6, ie_4_7, ie_4_8, ie_4_9, ie_5_0, ie_5_1, ie_5_2, ie_5_3, ie_5_4, ie_5_6, ie_5_7, ie_5_8, ie_5_9, ie_6_0, ie_6_1, ie_6_2, ie_6_3, ie_6_4, ie_6_5, ie_6_7, ie_6_8, ie_6_9, ie_7_0, ie_7_1, ie_7_2, ie_7_3, ie_7_4, ie_7_5, ie_7_6, ie_7_8, ie_7_9, ie_8_0, ie_8_1, ie_8_2, ie_8_3, ie_8_4, ie_8_5, ie_8_6, ie_8_7, ie_8_9, ie_9_0, ie_9_1, ie_9_2, ie_9_3, ie_9_4, ie_9_5, ie_9_6, ie_9_7, ie_9_8] <;> simp only [go5, lessV, q, if_true, if_false]
theorem X2_does_6 (h : K < 26) (hf : 4 ≤ fu) : f_X2_does fu ev (mem ev w) (ev.1 + 966) (nI K) 6 = some ((), mem ev (setS w K (go6 (sl w K)))) := by
  by_cases q : 0 < sl w K 4 <;> simp only [b_X2_does_192, b_X2_does_44, b_X2_does_59, b_X2_does_74, b_X2_does_83, b_X2_does_114, b_X2_does_113, b_X2_does_107, b_X2_does_92, b_X2_does_142, b_X2_does_141, b_X2_does_135, b_X2_does_120, b_X2_does_170, b_X2_does_169, b_X2_does_163, b_X2_does_148, b_X2_does_176, b_X2_does_0, f_X2_does, bd2, Option.bind_some, setS_set, setS_up, upV_at, mf0, mf1, mis, Int32.add_assoc, i_as, sl0, sl1, sl2, sl3, sl4, sl5, sl6, sl7, sl8, sl9, sl10, sl11, sl12, sl13, sl14, ld6_0 h, ld6_1 h, ld6_2 h, ld6_3 h, ld6_4 h, ld6_5 h, ld9_0 h, ld9_1 h, ld9_2 h, ld9_3 h, ld9_4 h, ld9_5 h, ld9_6 h, ld9_7 h, ld9_8 h, ld6_b h, st6_0 h, st6_1 h, st6_2 h, st6_3 h, st6_4 h, st6_5 h, st9_0 h, st9_1 h, st9_2 h, st9_3 h, st9_4 h, st9_5 h, st9_6 h, st9_7 h, st9_8 h, st6_b h, Int32.reduceAdd, Int32.reduceSub, Int32.reduceMul, Int32.reduceDiv, Int32.reduceLE, Int32.reduceLT, Nat.reduceEqDiff, reduceIte, X2_adds_20 h hf, q, j_le, not_true_eq_false, not_false_eq_true, if_true, if_false, X2_n_0 h, X2_n_1 h, X2_n_2 h, X2_n_3 h, X2_n_4 h, X2_n_5 h, ie_0_1, ie_0_2, ie_0_3, ie_0_4, ie_0_5, ie_0_6, ie_0_7, ie_0_8, ie_0_9, ie_1_0, ie_1_2, ie_1_3, ie_1_4, ie_1_5, ie_1_6, ie_1_7, ie_1_8, ie_1_9, ie_2_0, ie_2_1, ie_2_3, ie_2_4, ie_2_5, ie_2_6, ie_2_7, ie_2_8, ie_2_9, ie_3_0, ie_3_1, ie_3_2, ie_3_4, ie_3_5, ie_3_6, ie_3_7, ie_3_8, ie_3_9, ie_4_0, ie_4_1, ie_4_2, ie_4_3, ie_4_5, ie_4_6, ie_4_7, ie_4_8, ie_4_9, ie_5_0, ie_5_1, ie_5_2, ie_5_3, ie_5_4, ie_5_6, ie_5_7, ie_5_8, ie_5_9, ie_6_0, ie_6_1, ie_6_2, ie_6_3, ie_6_4, ie_6_5, ie_6_7, ie_6_8, ie_6_9, ie_7_0, ie_7_1, ie_7_2, ie_7_3, ie_7_4, ie_7_5, ie_7_6, ie_7_8, ie_7_9, ie_8_0, ie_8_1, ie_8_2, ie_8_3, ie_8_4, ie_8_5, ie_8_6, ie_8_7, ie_8_9, ie_9_0, ie_9_1, ie_9_2, ie_9_3, ie_9_4, ie_9_5, ie_9_6, ie_9_7, ie_9_8] <;> simp only [go6, lessV, q, if_true, if_false]
theorem X2_does_7 (h : K < 26) (hf : 4 ≤ fu) : f_X2_does fu ev (mem ev w) (ev.1 + 966) (nI K) 7 = some ((), mem ev (setS w K (go7 (sl w K)))) := by
  by_cases q : 0 < sl w K 5 <;> simp only [b_X2_does_192, b_X2_does_44, b_X2_does_59, b_X2_does_74, b_X2_does_83, b_X2_does_114, b_X2_does_113, b_X2_does_107, b_X2_does_92, b_X2_does_142, b_X2_does_141, b_X2_does_135, b_X2_does_120, b_X2_does_170, b_X2_does_169, b_X2_does_163, b_X2_does_148, b_X2_does_176, b_X2_does_0, f_X2_does, bd2, Option.bind_some, setS_set, setS_up, upV_at, mf0, mf1, mis, Int32.add_assoc, i_as, sl0, sl1, sl2, sl3, sl4, sl5, sl6, sl7, sl8, sl9, sl10, sl11, sl12, sl13, sl14, ld6_0 h, ld6_1 h, ld6_2 h, ld6_3 h, ld6_4 h, ld6_5 h, ld9_0 h, ld9_1 h, ld9_2 h, ld9_3 h, ld9_4 h, ld9_5 h, ld9_6 h, ld9_7 h, ld9_8 h, ld6_b h, st6_0 h, st6_1 h, st6_2 h, st6_3 h, st6_4 h, st6_5 h, st9_0 h, st9_1 h, st9_2 h, st9_3 h, st9_4 h, st9_5 h, st9_6 h, st9_7 h, st9_8 h, st6_b h, Int32.reduceAdd, Int32.reduceSub, Int32.reduceMul, Int32.reduceDiv, Int32.reduceLE, Int32.reduceLT, Nat.reduceEqDiff, reduceIte, X2_adds_10 h hf, q, j_le, not_true_eq_false, not_false_eq_true, if_true, if_false, X2_n_0 h, X2_n_1 h, X2_n_2 h, X2_n_3 h, X2_n_4 h, X2_n_5 h, ie_0_1, ie_0_2, ie_0_3, ie_0_4, ie_0_5, ie_0_6, ie_0_7, ie_0_8, ie_0_9, ie_1_0, ie_1_2, ie_1_3, ie_1_4, ie_1_5, ie_1_6, ie_1_7, ie_1_8, ie_1_9, ie_2_0, ie_2_1, ie_2_3, ie_2_4, ie_2_5, ie_2_6, ie_2_7, ie_2_8, ie_2_9, ie_3_0, ie_3_1, ie_3_2, ie_3_4, ie_3_5, ie_3_6, ie_3_7, ie_3_8, ie_3_9, ie_4_0, ie_4_1, ie_4_2, ie_4_3, ie_4_5, ie_4_6, ie_4_7, ie_4_8, ie_4_9, ie_5_0, ie_5_1, ie_5_2, ie_5_3, ie_5_4, ie_5_6, ie_5_7, ie_5_8, ie_5_9, ie_6_0, ie_6_1, ie_6_2, ie_6_3, ie_6_4, ie_6_5, ie_6_7, ie_6_8, ie_6_9, ie_7_0, ie_7_1, ie_7_2, ie_7_3, ie_7_4, ie_7_5, ie_7_6, ie_7_8, ie_7_9, ie_8_0, ie_8_1, ie_8_2, ie_8_3, ie_8_4, ie_8_5, ie_8_6, ie_8_7, ie_8_9, ie_9_0, ie_9_1, ie_9_2, ie_9_3, ie_9_4, ie_9_5, ie_9_6, ie_9_7, ie_9_8] <;> simp only [go7, lessV, q, if_true, if_false]
theorem X2_does_3 (h : K < 26) (hf : 4 ≤ fu) (ha : ap3 (sl w K) = true) : f_X2_does fu ev (mem ev w) (ev.1 + 966) (nI K) 3 = some ((), mem ev (setS w K (go3 (sl w K)))) := by
  rcases tri (sl w K 3) with s0 | s0 | s0 <;> rcases tri (sl w K 4) with s1 | s1 | s1 <;> rcases tri (sl w K 5) with s2 | s2 | s2
  · exfalso
    simp only [ap3, sg3, aboV, (sgnP s0).1, (sgnP s0).2.1, (sgnP s0).2.2.1, (sgnP s0).2.2.2, (sgnP s1).1, (sgnP s1).2.1, (sgnP s1).2.2.1, (sgnP s1).2.2.2, (sgnP s2).1, (sgnP s2).2.1, (sgnP s2).2.2.1, (sgnP s2).2.2.2, reduceIte, Bool.and_eq_true, Bool.not_eq_true', decide_eq_true_eq, decide_eq_false_iff_not] at ha
    revert ha
    decide
  · exfalso
    simp only [ap3, sg3, aboV, (sgnP s0).1, (sgnP s0).2.1, (sgnP s0).2.2.1, (sgnP s0).2.2.2, (sgnP s1).1, (sgnP s1).2.1, (sgnP s1).2.2.1, (sgnP s1).2.2.2, (sgnZ s2).1, (sgnZ s2).2.1, (sgnZ s2).2.2.1, (sgnZ s2).2.2.2, reduceIte, Bool.and_eq_true, Bool.not_eq_true', decide_eq_true_eq, decide_eq_false_iff_not] at ha
    revert ha
    decide
  · exfalso
    simp only [ap3, sg3, aboV, (sgnP s0).1, (sgnP s0).2.1, (sgnP s0).2.2.1, (sgnP s0).2.2.2, (sgnP s1).1, (sgnP s1).2.1, (sgnP s1).2.2.1, (sgnP s1).2.2.2, (sgnN s2).1, (sgnN s2).2.1, (sgnN s2).2.2.1, (sgnN s2).2.2.2, reduceIte, Bool.and_eq_true, Bool.not_eq_true', decide_eq_true_eq, decide_eq_false_iff_not] at ha
    revert ha
    decide
  · exfalso
    simp only [ap3, sg3, aboV, (sgnP s0).1, (sgnP s0).2.1, (sgnP s0).2.2.1, (sgnP s0).2.2.2, (sgnZ s1).1, (sgnZ s1).2.1, (sgnZ s1).2.2.1, (sgnZ s1).2.2.2, (sgnP s2).1, (sgnP s2).2.1, (sgnP s2).2.2.1, (sgnP s2).2.2.2, reduceIte, Bool.and_eq_true, Bool.not_eq_true', decide_eq_true_eq, decide_eq_false_iff_not] at ha
    revert ha
    decide
  · exfalso
    simp only [ap3, sg3, aboV, (sgnP s0).1, (sgnP s0).2.1, (sgnP s0).2.2.1, (sgnP s0).2.2.2, (sgnZ s1).1, (sgnZ s1).2.1, (sgnZ s1).2.2.1, (sgnZ s1).2.2.2, (sgnZ s2).1, (sgnZ s2).2.1, (sgnZ s2).2.2.1, (sgnZ s2).2.2.2, reduceIte, Bool.and_eq_true, Bool.not_eq_true', decide_eq_true_eq, decide_eq_false_iff_not] at ha
    revert ha
    decide
  · exfalso
    simp only [ap3, sg3, aboV, (sgnP s0).1, (sgnP s0).2.1, (sgnP s0).2.2.1, (sgnP s0).2.2.2, (sgnZ s1).1, (sgnZ s1).2.1, (sgnZ s1).2.2.1, (sgnZ s1).2.2.2, (sgnN s2).1, (sgnN s2).2.1, (sgnN s2).2.2.1, (sgnN s2).2.2.2, reduceIte, Bool.and_eq_true, Bool.not_eq_true', decide_eq_true_eq, decide_eq_false_iff_not] at ha
    revert ha
    decide
  · exfalso
    simp only [ap3, sg3, aboV, (sgnP s0).1, (sgnP s0).2.1, (sgnP s0).2.2.1, (sgnP s0).2.2.2, (sgnN s1).1, (sgnN s1).2.1, (sgnN s1).2.2.1, (sgnN s1).2.2.2, (sgnP s2).1, (sgnP s2).2.1, (sgnP s2).2.2.1, (sgnP s2).2.2.2, reduceIte, Bool.and_eq_true, Bool.not_eq_true', decide_eq_true_eq, decide_eq_false_iff_not] at ha
    revert ha
    decide
  · exfalso
    simp only [ap3, sg3, aboV, (sgnP s0).1, (sgnP s0).2.1, (sgnP s0).2.2.1, (sgnP s0).2.2.2, (sgnN s1).1, (sgnN s1).2.1, (sgnN s1).2.2.1, (sgnN s1).2.2.2, (sgnZ s2).1, (sgnZ s2).2.1, (sgnZ s2).2.2.1, (sgnZ s2).2.2.2, reduceIte, Bool.and_eq_true, Bool.not_eq_true', decide_eq_true_eq, decide_eq_false_iff_not] at ha
    revert ha
    decide
  · have g : f_X2_does fu ev (mem ev w) (ev.1 + 966) (nI K) 3 = bd2 (f_X2_turnsSome fu ev (mem ev w) (ev.1 + 966) (nI K) 0) (fun _ s3 => some ((), s3)) := by simp only [b_X2_does_192, b_X2_does_44, b_X2_does_59, b_X2_does_74, b_X2_does_83, b_X2_does_114, b_X2_does_113, b_X2_does_107, b_X2_does_92, b_X2_does_142, b_X2_does_141, b_X2_does_135, b_X2_does_120, b_X2_does_170, b_X2_does_169, b_X2_does_163, b_X2_does_148, b_X2_does_176, b_X2_does_0, f_X2_does, mis, Option.bind_some, reduceIte, ie_0_1, ie_0_2, ie_0_3, ie_0_4, ie_0_5, ie_0_6, ie_0_7, ie_0_8, ie_0_9, ie_1_0, ie_1_2, ie_1_3, ie_1_4, ie_1_5, ie_1_6, ie_1_7, ie_1_8, ie_1_9, ie_2_0, ie_2_1, ie_2_3, ie_2_4, ie_2_5, ie_2_6, ie_2_7, ie_2_8, ie_2_9, ie_3_0, ie_3_1, ie_3_2, ie_3_4, ie_3_5, ie_3_6, ie_3_7, ie_3_8, ie_3_9, ie_4_0, ie_4_1, ie_4_2, ie_4_3, ie_4_5, ie_4_6, ie_4_7, ie_4_8, ie_4_9, ie_5_0, ie_5_1, ie_5_2, ie_5_3, ie_5_4, ie_5_6, ie_5_7, ie_5_8, ie_5_9, ie_6_0, ie_6_1, ie_6_2, ie_6_3, ie_6_4, ie_6_5, ie_6_7, ie_6_8, ie_6_9, ie_7_0, ie_7_1, ie_7_2, ie_7_3, ie_7_4, ie_7_5, ie_7_6, ie_7_8, ie_7_9, ie_8_0, ie_8_1, ie_8_2, ie_8_3, ie_8_4, ie_8_5, ie_8_6, ie_8_7, ie_8_9, ie_9_0, ie_9_1, ie_9_2, ie_9_3, ie_9_4, ie_9_5, ie_9_6, ie_9_7, ie_9_8]
    rw [X2_turnsSome_0_PNN h hf s0 s1 s2] at g
    have hz : go3 (sl w K) = tu3 (sl w K) false true true := by simp only [go3, tu4, (sgnP s0).1, (sgnP s0).2.1, (sgnP s0).2.2.1, (sgnP s0).2.2.2, (sgnN s1).1, (sgnN s1).2.1, (sgnN s1).2.2.1, (sgnN s1).2.2.2, (sgnN s2).1, (sgnN s2).2.1, (sgnN s2).2.2.1, (sgnN s2).2.2.2, decide_true, decide_false, Bool.not_true, Bool.not_false, Bool.and_true, Bool.true_and, Bool.and_false, Bool.false_and, Bool.or_true, Bool.true_or, Bool.or_false, Bool.false_or, Bool.or_self, Bool.and_self]
    rw [hz]
    exact g
  · exfalso
    simp only [ap3, sg3, aboV, (sgnZ s0).1, (sgnZ s0).2.1, (sgnZ s0).2.2.1, (sgnZ s0).2.2.2, (sgnP s1).1, (sgnP s1).2.1, (sgnP s1).2.2.1, (sgnP s1).2.2.2, (sgnP s2).1, (sgnP s2).2.1, (sgnP s2).2.2.1, (sgnP s2).2.2.2, reduceIte, Bool.and_eq_true, Bool.not_eq_true', decide_eq_true_eq, decide_eq_false_iff_not] at ha
    revert ha
    decide
  · exfalso
    simp only [ap3, sg3, aboV, (sgnZ s0).1, (sgnZ s0).2.1, (sgnZ s0).2.2.1, (sgnZ s0).2.2.2, (sgnP s1).1, (sgnP s1).2.1, (sgnP s1).2.2.1, (sgnP s1).2.2.2, (sgnZ s2).1, (sgnZ s2).2.1, (sgnZ s2).2.2.1, (sgnZ s2).2.2.2, reduceIte, Bool.and_eq_true, Bool.not_eq_true', decide_eq_true_eq, decide_eq_false_iff_not] at ha
    revert ha
    decide
  · exfalso
    simp only [ap3, sg3, aboV, (sgnZ s0).1, (sgnZ s0).2.1, (sgnZ s0).2.2.1, (sgnZ s0).2.2.2, (sgnP s1).1, (sgnP s1).2.1, (sgnP s1).2.2.1, (sgnP s1).2.2.2, (sgnN s2).1, (sgnN s2).2.1, (sgnN s2).2.2.1, (sgnN s2).2.2.2, reduceIte, Bool.and_eq_true, Bool.not_eq_true', decide_eq_true_eq, decide_eq_false_iff_not] at ha
    revert ha
    decide
  · exfalso
    simp only [ap3, sg3, aboV, (sgnZ s0).1, (sgnZ s0).2.1, (sgnZ s0).2.2.1, (sgnZ s0).2.2.2, (sgnZ s1).1, (sgnZ s1).2.1, (sgnZ s1).2.2.1, (sgnZ s1).2.2.2, (sgnP s2).1, (sgnP s2).2.1, (sgnP s2).2.2.1, (sgnP s2).2.2.2, reduceIte, Bool.and_eq_true, Bool.not_eq_true', decide_eq_true_eq, decide_eq_false_iff_not] at ha
    revert ha
    decide
  · exfalso
    simp only [ap3, sg3, aboV, (sgnZ s0).1, (sgnZ s0).2.1, (sgnZ s0).2.2.1, (sgnZ s0).2.2.2, (sgnZ s1).1, (sgnZ s1).2.1, (sgnZ s1).2.2.1, (sgnZ s1).2.2.2, (sgnZ s2).1, (sgnZ s2).2.1, (sgnZ s2).2.2.1, (sgnZ s2).2.2.2, reduceIte, Bool.and_eq_true, Bool.not_eq_true', decide_eq_true_eq, decide_eq_false_iff_not] at ha
    revert ha
    decide
  · exfalso
    simp only [ap3, sg3, aboV, (sgnZ s0).1, (sgnZ s0).2.1, (sgnZ s0).2.2.1, (sgnZ s0).2.2.2, (sgnZ s1).1, (sgnZ s1).2.1, (sgnZ s1).2.2.1, (sgnZ s1).2.2.2, (sgnN s2).1, (sgnN s2).2.1, (sgnN s2).2.2.1, (sgnN s2).2.2.2, reduceIte, Bool.and_eq_true, Bool.not_eq_true', decide_eq_true_eq, decide_eq_false_iff_not] at ha
    revert ha
    decide
  · exfalso
    simp only [ap3, sg3, aboV, (sgnZ s0).1, (sgnZ s0).2.1, (sgnZ s0).2.2.1, (sgnZ s0).2.2.2, (sgnN s1).1, (sgnN s1).2.1, (sgnN s1).2.2.1, (sgnN s1).2.2.2, (sgnP s2).1, (sgnP s2).2.1, (sgnP s2).2.2.1, (sgnP s2).2.2.2, reduceIte, Bool.and_eq_true, Bool.not_eq_true', decide_eq_true_eq, decide_eq_false_iff_not] at ha
    revert ha
    decide
  · exfalso
    simp only [ap3, sg3, aboV, (sgnZ s0).1, (sgnZ s0).2.1, (sgnZ s0).2.2.1, (sgnZ s0).2.2.2, (sgnN s1).1, (sgnN s1).2.1, (sgnN s1).2.2.1, (sgnN s1).2.2.2, (sgnZ s2).1, (sgnZ s2).2.1, (sgnZ s2).2.2.1, (sgnZ s2).2.2.2, reduceIte, Bool.and_eq_true, Bool.not_eq_true', decide_eq_true_eq, decide_eq_false_iff_not] at ha
    revert ha
    decide
  · exfalso
    simp only [ap3, sg3, aboV, (sgnZ s0).1, (sgnZ s0).2.1, (sgnZ s0).2.2.1, (sgnZ s0).2.2.2, (sgnN s1).1, (sgnN s1).2.1, (sgnN s1).2.2.1, (sgnN s1).2.2.2, (sgnN s2).1, (sgnN s2).2.1, (sgnN s2).2.2.1, (sgnN s2).2.2.2, reduceIte, Bool.and_eq_true, Bool.not_eq_true', decide_eq_true_eq, decide_eq_false_iff_not] at ha
    revert ha
    decide
  · exfalso
    simp only [ap3, sg3, aboV, (sgnN s0).1, (sgnN s0).2.1, (sgnN s0).2.2.1, (sgnN s0).2.2.2, (sgnP s1).1, (sgnP s1).2.1, (sgnP s1).2.2.1, (sgnP s1).2.2.2, (sgnP s2).1, (sgnP s2).2.1, (sgnP s2).2.2.1, (sgnP s2).2.2.2, reduceIte, Bool.and_eq_true, Bool.not_eq_true', decide_eq_true_eq, decide_eq_false_iff_not] at ha
    revert ha
    decide
  · exfalso
    simp only [ap3, sg3, aboV, (sgnN s0).1, (sgnN s0).2.1, (sgnN s0).2.2.1, (sgnN s0).2.2.2, (sgnP s1).1, (sgnP s1).2.1, (sgnP s1).2.2.1, (sgnP s1).2.2.2, (sgnZ s2).1, (sgnZ s2).2.1, (sgnZ s2).2.2.1, (sgnZ s2).2.2.2, reduceIte, Bool.and_eq_true, Bool.not_eq_true', decide_eq_true_eq, decide_eq_false_iff_not] at ha
    revert ha
    decide
  · have g : f_X2_does fu ev (mem ev w) (ev.1 + 966) (nI K) 3 = bd2 (f_X2_turnsSome fu ev (mem ev w) (ev.1 + 966) (nI K) 0) (fun _ s3 => some ((), s3)) := by simp only [b_X2_does_192, b_X2_does_44, b_X2_does_59, b_X2_does_74, b_X2_does_83, b_X2_does_114, b_X2_does_113, b_X2_does_107, b_X2_does_92, b_X2_does_142, b_X2_does_141, b_X2_does_135, b_X2_does_120, b_X2_does_170, b_X2_does_169, b_X2_does_163, b_X2_does_148, b_X2_does_176, b_X2_does_0, f_X2_does, mis, Option.bind_some, reduceIte, ie_0_1, ie_0_2, ie_0_3, ie_0_4, ie_0_5, ie_0_6, ie_0_7, ie_0_8, ie_0_9, ie_1_0, ie_1_2, ie_1_3, ie_1_4, ie_1_5, ie_1_6, ie_1_7, ie_1_8, ie_1_9, ie_2_0, ie_2_1, ie_2_3, ie_2_4, ie_2_5, ie_2_6, ie_2_7, ie_2_8, ie_2_9, ie_3_0, ie_3_1, ie_3_2, ie_3_4, ie_3_5, ie_3_6, ie_3_7, ie_3_8, ie_3_9, ie_4_0, ie_4_1, ie_4_2, ie_4_3, ie_4_5, ie_4_6, ie_4_7, ie_4_8, ie_4_9, ie_5_0, ie_5_1, ie_5_2, ie_5_3, ie_5_4, ie_5_6, ie_5_7, ie_5_8, ie_5_9, ie_6_0, ie_6_1, ie_6_2, ie_6_3, ie_6_4, ie_6_5, ie_6_7, ie_6_8, ie_6_9, ie_7_0, ie_7_1, ie_7_2, ie_7_3, ie_7_4, ie_7_5, ie_7_6, ie_7_8, ie_7_9, ie_8_0, ie_8_1, ie_8_2, ie_8_3, ie_8_4, ie_8_5, ie_8_6, ie_8_7, ie_8_9, ie_9_0, ie_9_1, ie_9_2, ie_9_3, ie_9_4, ie_9_5, ie_9_6, ie_9_7, ie_9_8]
    rw [X2_turnsSome_0_NPN h hf s0 s1 s2] at g
    have hz : go3 (sl w K) = tu3 (sl w K) true false true := by simp only [go3, tu4, (sgnN s0).1, (sgnN s0).2.1, (sgnN s0).2.2.1, (sgnN s0).2.2.2, (sgnP s1).1, (sgnP s1).2.1, (sgnP s1).2.2.1, (sgnP s1).2.2.2, (sgnN s2).1, (sgnN s2).2.1, (sgnN s2).2.2.1, (sgnN s2).2.2.2, decide_true, decide_false, Bool.not_true, Bool.not_false, Bool.and_true, Bool.true_and, Bool.and_false, Bool.false_and, Bool.or_true, Bool.true_or, Bool.or_false, Bool.false_or, Bool.or_self, Bool.and_self]
    rw [hz]
    exact g
  · exfalso
    simp only [ap3, sg3, aboV, (sgnN s0).1, (sgnN s0).2.1, (sgnN s0).2.2.1, (sgnN s0).2.2.2, (sgnZ s1).1, (sgnZ s1).2.1, (sgnZ s1).2.2.1, (sgnZ s1).2.2.2, (sgnP s2).1, (sgnP s2).2.1, (sgnP s2).2.2.1, (sgnP s2).2.2.2, reduceIte, Bool.and_eq_true, Bool.not_eq_true', decide_eq_true_eq, decide_eq_false_iff_not] at ha
    revert ha
    decide
  · exfalso
    simp only [ap3, sg3, aboV, (sgnN s0).1, (sgnN s0).2.1, (sgnN s0).2.2.1, (sgnN s0).2.2.2, (sgnZ s1).1, (sgnZ s1).2.1, (sgnZ s1).2.2.1, (sgnZ s1).2.2.2, (sgnZ s2).1, (sgnZ s2).2.1, (sgnZ s2).2.2.1, (sgnZ s2).2.2.2, reduceIte, Bool.and_eq_true, Bool.not_eq_true', decide_eq_true_eq, decide_eq_false_iff_not] at ha
    revert ha
    decide
  · exfalso
    simp only [ap3, sg3, aboV, (sgnN s0).1, (sgnN s0).2.1, (sgnN s0).2.2.1, (sgnN s0).2.2.2, (sgnZ s1).1, (sgnZ s1).2.1, (sgnZ s1).2.2.1, (sgnZ s1).2.2.2, (sgnN s2).1, (sgnN s2).2.1, (sgnN s2).2.2.1, (sgnN s2).2.2.2, reduceIte, Bool.and_eq_true, Bool.not_eq_true', decide_eq_true_eq, decide_eq_false_iff_not] at ha
    revert ha
    decide
  · have g : f_X2_does fu ev (mem ev w) (ev.1 + 966) (nI K) 3 = bd2 (f_X2_turnsSome fu ev (mem ev w) (ev.1 + 966) (nI K) 0) (fun _ s3 => some ((), s3)) := by simp only [b_X2_does_192, b_X2_does_44, b_X2_does_59, b_X2_does_74, b_X2_does_83, b_X2_does_114, b_X2_does_113, b_X2_does_107, b_X2_does_92, b_X2_does_142, b_X2_does_141, b_X2_does_135, b_X2_does_120, b_X2_does_170, b_X2_does_169, b_X2_does_163, b_X2_does_148, b_X2_does_176, b_X2_does_0, f_X2_does, mis, Option.bind_some, reduceIte, ie_0_1, ie_0_2, ie_0_3, ie_0_4, ie_0_5, ie_0_6, ie_0_7, ie_0_8, ie_0_9, ie_1_0, ie_1_2, ie_1_3, ie_1_4, ie_1_5, ie_1_6, ie_1_7, ie_1_8, ie_1_9, ie_2_0, ie_2_1, ie_2_3, ie_2_4, ie_2_5, ie_2_6, ie_2_7, ie_2_8, ie_2_9, ie_3_0, ie_3_1, ie_3_2, ie_3_4, ie_3_5, ie_3_6, ie_3_7, ie_3_8, ie_3_9, ie_4_0, ie_4_1, ie_4_2, ie_4_3, ie_4_5, ie_4_6, ie_4_7, ie_4_8, ie_4_9, ie_5_0, ie_5_1, ie_5_2, ie_5_3, ie_5_4, ie_5_6, ie_5_7, ie_5_8, ie_5_9, ie_6_0, ie_6_1, ie_6_2, ie_6_3, ie_6_4, ie_6_5, ie_6_7, ie_6_8, ie_6_9, ie_7_0, ie_7_1, ie_7_2, ie_7_3, ie_7_4, ie_7_5, ie_7_6, ie_7_8, ie_7_9, ie_8_0, ie_8_1, ie_8_2, ie_8_3, ie_8_4, ie_8_5, ie_8_6, ie_8_7, ie_8_9, ie_9_0, ie_9_1, ie_9_2, ie_9_3, ie_9_4, ie_9_5, ie_9_6, ie_9_7, ie_9_8]
    rw [X2_turnsSome_0_NNP h hf s0 s1 s2] at g
    have hz : go3 (sl w K) = tu3 (sl w K) true true false := by simp only [go3, tu4, (sgnN s0).1, (sgnN s0).2.1, (sgnN s0).2.2.1, (sgnN s0).2.2.2, (sgnN s1).1, (sgnN s1).2.1, (sgnN s1).2.2.1, (sgnN s1).2.2.2, (sgnP s2).1, (sgnP s2).2.1, (sgnP s2).2.2.1, (sgnP s2).2.2.2, decide_true, decide_false, Bool.not_true, Bool.not_false, Bool.and_true, Bool.true_and, Bool.and_false, Bool.false_and, Bool.or_true, Bool.true_or, Bool.or_false, Bool.false_or, Bool.or_self, Bool.and_self]
    rw [hz]
    exact g
  · exfalso
    simp only [ap3, sg3, aboV, (sgnN s0).1, (sgnN s0).2.1, (sgnN s0).2.2.1, (sgnN s0).2.2.2, (sgnN s1).1, (sgnN s1).2.1, (sgnN s1).2.2.1, (sgnN s1).2.2.2, (sgnZ s2).1, (sgnZ s2).2.1, (sgnZ s2).2.2.1, (sgnZ s2).2.2.2, reduceIte, Bool.and_eq_true, Bool.not_eq_true', decide_eq_true_eq, decide_eq_false_iff_not] at ha
    revert ha
    decide
  · exfalso
    simp only [ap3, sg3, aboV, (sgnN s0).1, (sgnN s0).2.1, (sgnN s0).2.2.1, (sgnN s0).2.2.2, (sgnN s1).1, (sgnN s1).2.1, (sgnN s1).2.2.1, (sgnN s1).2.2.2, (sgnN s2).1, (sgnN s2).2.1, (sgnN s2).2.2.1, (sgnN s2).2.2.2, reduceIte, Bool.and_eq_true, Bool.not_eq_true', decide_eq_true_eq, decide_eq_false_iff_not] at ha
    revert ha
    decide
theorem X2_does_4 (h : K < 26) (hf : 4 ≤ fu) (ha : ap4 (sl w K) = true) : f_X2_does fu ev (mem ev w) (ev.1 + 966) (nI K) 4 = some ((), mem ev (setS w K (go4 (sl w K)))) := by
  rcases tri (sl w K 3) with s0 | s0 | s0 <;> rcases tri (sl w K 4) with s1 | s1 | s1 <;> rcases tri (sl w K 5) with s2 | s2 | s2
  · exfalso
    simp only [ap4, sg3, aboV, (sgnP s0).1, (sgnP s0).2.1, (sgnP s0).2.2.1, (sgnP s0).2.2.2, (sgnP s1).1, (sgnP s1).2.1, (sgnP s1).2.2.1, (sgnP s1).2.2.2, (sgnP s2).1, (sgnP s2).2.1, (sgnP s2).2.2.1, (sgnP s2).2.2.2, reduceIte, Bool.and_eq_true, Bool.not_eq_true', decide_eq_true_eq, decide_eq_false_iff_not] at ha
    revert ha
    decide
  · have g : f_X2_does fu ev (mem ev w) (ev.1 + 966) (nI K) 4 = bd2 (f_X2_turnsSome fu ev (mem ev w) (ev.1 + 966) (nI K) 1) (fun _ s3 => some ((), s3)) := by simp only [b_X2_does_192, b_X2_does_44, b_X2_does_59, b_X2_does_74, b_X2_does_83, b_X2_does_114, b_X2_does_113, b_X2_does_107, b_X2_does_92, b_X2_does_142, b_X2_does_141, b_X2_does_135, b_X2_does_120, b_X2_does_170, b_X2_does_169, b_X2_does_163, b_X2_does_148, b_X2_does_176, b_X2_does_0, f_X2_does, mis, Option.bind_some, reduceIte, ie_0_1, ie_0_2, ie_0_3, ie_0_4, ie_0_5, ie_0_6, ie_0_7, ie_0_8, ie_0_9, ie_1_0, ie_1_2, ie_1_3, ie_1_4, ie_1_5, ie_1_6, ie_1_7, ie_1_8, ie_1_9, ie_2_0, ie_2_1, ie_2_3, ie_2_4, ie_2_5, ie_2_6, ie_2_7, ie_2_8, ie_2_9, ie_3_0, ie_3_1, ie_3_2, ie_3_4, ie_3_5, ie_3_6, ie_3_7, ie_3_8, ie_3_9, ie_4_0, ie_4_1, ie_4_2, ie_4_3, ie_4_5, ie_4_6, ie_4_7, ie_4_8, ie_4_9, ie_5_0, ie_5_1, ie_5_2, ie_5_3, ie_5_4, ie_5_6, ie_5_7, ie_5_8, ie_5_9, ie_6_0, ie_6_1, ie_6_2, ie_6_3, ie_6_4, ie_6_5, ie_6_7, ie_6_8, ie_6_9, ie_7_0, ie_7_1, ie_7_2, ie_7_3, ie_7_4, ie_7_5, ie_7_6, ie_7_8, ie_7_9, ie_8_0, ie_8_1, ie_8_2, ie_8_3, ie_8_4, ie_8_5, ie_8_6, ie_8_7, ie_8_9, ie_9_0, ie_9_1, ie_9_2, ie_9_3, ie_9_4, ie_9_5, ie_9_6, ie_9_7, ie_9_8]
    rw [X2_turnsSome_1_PPZ h hf s0 s1 s2] at g
    have hz : go4 (sl w K) = tu3 (sl w K) true true false := by simp only [go4, tu4, (sgnP s0).1, (sgnP s0).2.1, (sgnP s0).2.2.1, (sgnP s0).2.2.2, (sgnP s1).1, (sgnP s1).2.1, (sgnP s1).2.2.1, (sgnP s1).2.2.2, (sgnZ s2).1, (sgnZ s2).2.1, (sgnZ s2).2.2.1, (sgnZ s2).2.2.2, decide_true, decide_false, Bool.not_true, Bool.not_false, Bool.and_true, Bool.true_and, Bool.and_false, Bool.false_and, Bool.or_true, Bool.true_or, Bool.or_false, Bool.false_or, Bool.or_self, Bool.and_self]
    rw [hz]
    exact g
  · have g : f_X2_does fu ev (mem ev w) (ev.1 + 966) (nI K) 4 = bd2 (f_X2_turnsSome fu ev (mem ev w) (ev.1 + 966) (nI K) 1) (fun _ s3 => some ((), s3)) := by simp only [b_X2_does_192, b_X2_does_44, b_X2_does_59, b_X2_does_74, b_X2_does_83, b_X2_does_114, b_X2_does_113, b_X2_does_107, b_X2_does_92, b_X2_does_142, b_X2_does_141, b_X2_does_135, b_X2_does_120, b_X2_does_170, b_X2_does_169, b_X2_does_163, b_X2_does_148, b_X2_does_176, b_X2_does_0, f_X2_does, mis, Option.bind_some, reduceIte, ie_0_1, ie_0_2, ie_0_3, ie_0_4, ie_0_5, ie_0_6, ie_0_7, ie_0_8, ie_0_9, ie_1_0, ie_1_2, ie_1_3, ie_1_4, ie_1_5, ie_1_6, ie_1_7, ie_1_8, ie_1_9, ie_2_0, ie_2_1, ie_2_3, ie_2_4, ie_2_5, ie_2_6, ie_2_7, ie_2_8, ie_2_9, ie_3_0, ie_3_1, ie_3_2, ie_3_4, ie_3_5, ie_3_6, ie_3_7, ie_3_8, ie_3_9, ie_4_0, ie_4_1, ie_4_2, ie_4_3, ie_4_5, ie_4_6, ie_4_7, ie_4_8, ie_4_9, ie_5_0, ie_5_1, ie_5_2, ie_5_3, ie_5_4, ie_5_6, ie_5_7, ie_5_8, ie_5_9, ie_6_0, ie_6_1, ie_6_2, ie_6_3, ie_6_4, ie_6_5, ie_6_7, ie_6_8, ie_6_9, ie_7_0, ie_7_1, ie_7_2, ie_7_3, ie_7_4, ie_7_5, ie_7_6, ie_7_8, ie_7_9, ie_8_0, ie_8_1, ie_8_2, ie_8_3, ie_8_4, ie_8_5, ie_8_6, ie_8_7, ie_8_9, ie_9_0, ie_9_1, ie_9_2, ie_9_3, ie_9_4, ie_9_5, ie_9_6, ie_9_7, ie_9_8]
    rw [X2_turnsSome_1_PPN h hf s0 s1 s2] at g
    have hz : go4 (sl w K) = tu3 (sl w K) true true false := by simp only [go4, tu4, (sgnP s0).1, (sgnP s0).2.1, (sgnP s0).2.2.1, (sgnP s0).2.2.2, (sgnP s1).1, (sgnP s1).2.1, (sgnP s1).2.2.1, (sgnP s1).2.2.2, (sgnN s2).1, (sgnN s2).2.1, (sgnN s2).2.2.1, (sgnN s2).2.2.2, decide_true, decide_false, Bool.not_true, Bool.not_false, Bool.and_true, Bool.true_and, Bool.and_false, Bool.false_and, Bool.or_true, Bool.true_or, Bool.or_false, Bool.false_or, Bool.or_self, Bool.and_self]
    rw [hz]
    exact g
  · have g : f_X2_does fu ev (mem ev w) (ev.1 + 966) (nI K) 4 = bd2 (f_X2_turnsSome fu ev (mem ev w) (ev.1 + 966) (nI K) 1) (fun _ s3 => some ((), s3)) := by simp only [b_X2_does_192, b_X2_does_44, b_X2_does_59, b_X2_does_74, b_X2_does_83, b_X2_does_114, b_X2_does_113, b_X2_does_107, b_X2_does_92, b_X2_does_142, b_X2_does_141, b_X2_does_135, b_X2_does_120, b_X2_does_170, b_X2_does_169, b_X2_does_163, b_X2_does_148, b_X2_does_176, b_X2_does_0, f_X2_does, mis, Option.bind_some, reduceIte, ie_0_1, ie_0_2, ie_0_3, ie_0_4, ie_0_5, ie_0_6, ie_0_7, ie_0_8, ie_0_9, ie_1_0, ie_1_2, ie_1_3, ie_1_4, ie_1_5, ie_1_6, ie_1_7, ie_1_8, ie_1_9, ie_2_0, ie_2_1, ie_2_3, ie_2_4, ie_2_5, ie_2_6, ie_2_7, ie_2_8, ie_2_9, ie_3_0, ie_3_1, ie_3_2, ie_3_4, ie_3_5, ie_3_6, ie_3_7, ie_3_8, ie_3_9, ie_4_0, ie_4_1, ie_4_2, ie_4_3, ie_4_5, ie_4_6, ie_4_7, ie_4_8, ie_4_9, ie_5_0, ie_5_1, ie_5_2, ie_5_3, ie_5_4, ie_5_6, ie_5_7, ie_5_8, ie_5_9, ie_6_0, ie_6_1, ie_6_2, ie_6_3, ie_6_4, ie_6_5, ie_6_7, ie_6_8, ie_6_9, ie_7_0, ie_7_1, ie_7_2, ie_7_3, ie_7_4, ie_7_5, ie_7_6, ie_7_8, ie_7_9, ie_8_0, ie_8_1, ie_8_2, ie_8_3, ie_8_4, ie_8_5, ie_8_6, ie_8_7, ie_8_9, ie_9_0, ie_9_1, ie_9_2, ie_9_3, ie_9_4, ie_9_5, ie_9_6, ie_9_7, ie_9_8]
    rw [X2_turnsSome_1_PZP h hf s0 s1 s2] at g
    have hz : go4 (sl w K) = tu3 (sl w K) true false true := by simp only [go4, tu4, (sgnP s0).1, (sgnP s0).2.1, (sgnP s0).2.2.1, (sgnP s0).2.2.2, (sgnZ s1).1, (sgnZ s1).2.1, (sgnZ s1).2.2.1, (sgnZ s1).2.2.2, (sgnP s2).1, (sgnP s2).2.1, (sgnP s2).2.2.1, (sgnP s2).2.2.2, decide_true, decide_false, Bool.not_true, Bool.not_false, Bool.and_true, Bool.true_and, Bool.and_false, Bool.false_and, Bool.or_true, Bool.true_or, Bool.or_false, Bool.false_or, Bool.or_self, Bool.and_self]
    rw [hz]
    exact g
  · have g : f_X2_does fu ev (mem ev w) (ev.1 + 966) (nI K) 4 = bd2 (f_X2_turnsSome fu ev (mem ev w) (ev.1 + 966) (nI K) 1) (fun _ s3 => some ((), s3)) := by simp only [b_X2_does_192, b_X2_does_44, b_X2_does_59, b_X2_does_74, b_X2_does_83, b_X2_does_114, b_X2_does_113, b_X2_does_107, b_X2_does_92, b_X2_does_142, b_X2_does_141, b_X2_does_135, b_X2_does_120, b_X2_does_170, b_X2_does_169, b_X2_does_163, b_X2_does_148, b_X2_does_176, b_X2_does_0, f_X2_does, mis, Option.bind_some, reduceIte, ie_0_1, ie_0_2, ie_0_3, ie_0_4, ie_0_5, ie_0_6, ie_0_7, ie_0_8, ie_0_9, ie_1_0, ie_1_2, ie_1_3, ie_1_4, ie_1_5, ie_1_6, ie_1_7, ie_1_8, ie_1_9, ie_2_0, ie_2_1, ie_2_3, ie_2_4, ie_2_5, ie_2_6, ie_2_7, ie_2_8, ie_2_9, ie_3_0, ie_3_1, ie_3_2, ie_3_4, ie_3_5, ie_3_6, ie_3_7, ie_3_8, ie_3_9, ie_4_0, ie_4_1, ie_4_2, ie_4_3, ie_4_5, ie_4_6, ie_4_7, ie_4_8, ie_4_9, ie_5_0, ie_5_1, ie_5_2, ie_5_3, ie_5_4, ie_5_6, ie_5_7, ie_5_8, ie_5_9, ie_6_0, ie_6_1, ie_6_2, ie_6_3, ie_6_4, ie_6_5, ie_6_7, ie_6_8, ie_6_9, ie_7_0, ie_7_1, ie_7_2, ie_7_3, ie_7_4, ie_7_5, ie_7_6, ie_7_8, ie_7_9, ie_8_0, ie_8_1, ie_8_2, ie_8_3, ie_8_4, ie_8_5, ie_8_6, ie_8_7, ie_8_9, ie_9_0, ie_9_1, ie_9_2, ie_9_3, ie_9_4, ie_9_5, ie_9_6, ie_9_7, ie_9_8]
    rw [X2_turnsSome_1_PZZ h hf s0 s1 s2] at g
    have hz : go4 (sl w K) = tu3 (sl w K) true false true := by simp only [go4, tu4, (sgnP s0).1, (sgnP s0).2.1, (sgnP s0).2.2.1, (sgnP s0).2.2.2, (sgnZ s1).1, (sgnZ s1).2.1, (sgnZ s1).2.2.1, (sgnZ s1).2.2.2, (sgnZ s2).1, (sgnZ s2).2.1, (sgnZ s2).2.2.1, (sgnZ s2).2.2.2, decide_true, decide_false, Bool.not_true, Bool.not_false, Bool.and_true, Bool.true_and, Bool.and_false, Bool.false_and, Bool.or_true, Bool.true_or, Bool.or_false, Bool.false_or, Bool.or_self, Bool.and_self]
    rw [hz]
    exact g
  · have g : f_X2_does fu ev (mem ev w) (ev.1 + 966) (nI K) 4 = bd2 (f_X2_turnsSome fu ev (mem ev w) (ev.1 + 966) (nI K) 1) (fun _ s3 => some ((), s3)) := by simp only [b_X2_does_192, b_X2_does_44, b_X2_does_59, b_X2_does_74, b_X2_does_83, b_X2_does_114, b_X2_does_113, b_X2_does_107, b_X2_does_92, b_X2_does_142, b_X2_does_141, b_X2_does_135, b_X2_does_120, b_X2_does_170, b_X2_does_169, b_X2_does_163, b_X2_does_148, b_X2_does_176, b_X2_does_0, f_X2_does, mis, Option.bind_some, reduceIte, ie_0_1, ie_0_2, ie_0_3, ie_0_4, ie_0_5, ie_0_6, ie_0_7, ie_0_8, ie_0_9, ie_1_0, ie_1_2, ie_1_3, ie_1_4, ie_1_5, ie_1_6, ie_1_7, ie_1_8, ie_1_9, ie_2_0, ie_2_1, ie_2_3, ie_2_4, ie_2_5, ie_2_6, ie_2_7, ie_2_8, ie_2_9, ie_3_0, ie_3_1, ie_3_2, ie_3_4, ie_3_5, ie_3_6, ie_3_7, ie_3_8, ie_3_9, ie_4_0, ie_4_1, ie_4_2, ie_4_3, ie_4_5, ie_4_6, ie_4_7, ie_4_8, ie_4_9, ie_5_0, ie_5_1, ie_5_2, ie_5_3, ie_5_4, ie_5_6, ie_5_7, ie_5_8, ie_5_9, ie_6_0, ie_6_1, ie_6_2, ie_6_3, ie_6_4, ie_6_5, ie_6_7, ie_6_8, ie_6_9, ie_7_0, ie_7_1, ie_7_2, ie_7_3, ie_7_4, ie_7_5, ie_7_6, ie_7_8, ie_7_9, ie_8_0, ie_8_1, ie_8_2, ie_8_3, ie_8_4, ie_8_5, ie_8_6, ie_8_7, ie_8_9, ie_9_0, ie_9_1, ie_9_2, ie_9_3, ie_9_4, ie_9_5, ie_9_6, ie_9_7, ie_9_8]
    rw [X2_turnsSome_1_PZN h hf s0 s1 s2] at g
    have hz : go4 (sl w K) = tu3 (sl w K) true true false := by simp only [go4, tu4, (sgnP s0).1, (sgnP s0).2.1, (sgnP s0).2.2.1, (sgnP s0).2.2.2, (sgnZ s1).1, (sgnZ s1).2.1, (sgnZ s1).2.2.1, (sgnZ s1).2.2.2, (sgnN s2).1, (sgnN s2).2.1, (sgnN s2).2.2.1, (sgnN s2).2.2.2, decide_true, decide_false, Bool.not_true, Bool.not_false, Bool.and_true, Bool.true_and, Bool.and_false, Bool.false_and, Bool.or_true, Bool.true_or, Bool.or_false, Bool.false_or, Bool.or_self, Bool.and_self]
    rw [hz]
    exact g
  · have g : f_X2_does fu ev (mem ev w) (ev.1 + 966) (nI K) 4 = bd2 (f_X2_turnsSome fu ev (mem ev w) (ev.1 + 966) (nI K) 1) (fun _ s3 => some ((), s3)) := by simp only [b_X2_does_192, b_X2_does_44, b_X2_does_59, b_X2_does_74, b_X2_does_83, b_X2_does_114, b_X2_does_113, b_X2_does_107, b_X2_does_92, b_X2_does_142, b_X2_does_141, b_X2_does_135, b_X2_does_120, b_X2_does_170, b_X2_does_169, b_X2_does_163, b_X2_does_148, b_X2_does_176, b_X2_does_0, f_X2_does, mis, Option.bind_some, reduceIte, ie_0_1, ie_0_2, ie_0_3, ie_0_4, ie_0_5, ie_0_6, ie_0_7, ie_0_8, ie_0_9, ie_1_0, ie_1_2, ie_1_3, ie_1_4, ie_1_5, ie_1_6, ie_1_7, ie_1_8, ie_1_9, ie_2_0, ie_2_1, ie_2_3, ie_2_4, ie_2_5, ie_2_6, ie_2_7, ie_2_8, ie_2_9, ie_3_0, ie_3_1, ie_3_2, ie_3_4, ie_3_5, ie_3_6, ie_3_7, ie_3_8, ie_3_9, ie_4_0, ie_4_1, ie_4_2, ie_4_3, ie_4_5, ie_4_6, ie_4_7, ie_4_8, ie_4_9, ie_5_0, ie_5_1, ie_5_2, ie_5_3, ie_5_4, ie_5_6, ie_5_7, ie_5_8, ie_5_9, ie_6_0, ie_6_1, ie_6_2, ie_6_3, ie_6_4, ie_6_5, ie_6_7, ie_6_8, ie_6_9, ie_7_0, ie_7_1, ie_7_2, ie_7_3, ie_7_4, ie_7_5, ie_7_6, ie_7_8, ie_7_9, ie_8_0, ie_8_1, ie_8_2, ie_8_3, ie_8_4, ie_8_5, ie_8_6, ie_8_7, ie_8_9, ie_9_0, ie_9_1, ie_9_2, ie_9_3, ie_9_4, ie_9_5, ie_9_6, ie_9_7, ie_9_8]
    rw [X2_turnsSome_1_PNP h hf s0 s1 s2] at g
    have hz : go4 (sl w K) = tu3 (sl w K) true false true := by simp only [go4, tu4, (sgnP s0).1, (sgnP s0).2.1, (sgnP s0).2.2.1, (sgnP s0).2.2.2, (sgnN s1).1, (sgnN s1).2.1, (sgnN s1).2.2.1, (sgnN s1).2.2.2, (sgnP s2).1, (sgnP s2).2.1, (sgnP s2).2.2.1, (sgnP s2).2.2.2, decide_true, decide_false, Bool.not_true, Bool.not_false, Bool.and_true, Bool.true_and, Bool.and_false, Bool.false_and, Bool.or_true, Bool.true_or, Bool.or_false, Bool.false_or, Bool.or_self, Bool.and_self]
    rw [hz]
    exact g
  · have g : f_X2_does fu ev (mem ev w) (ev.1 + 966) (nI K) 4 = bd2 (f_X2_turnsSome fu ev (mem ev w) (ev.1 + 966) (nI K) 1) (fun _ s3 => some ((), s3)) := by simp only [b_X2_does_192, b_X2_does_44, b_X2_does_59, b_X2_does_74, b_X2_does_83, b_X2_does_114, b_X2_does_113, b_X2_does_107, b_X2_does_92, b_X2_does_142, b_X2_does_141, b_X2_does_135, b_X2_does_120, b_X2_does_170, b_X2_does_169, b_X2_does_163, b_X2_does_148, b_X2_does_176, b_X2_does_0, f_X2_does, mis, Option.bind_some, reduceIte, ie_0_1, ie_0_2, ie_0_3, ie_0_4, ie_0_5, ie_0_6, ie_0_7, ie_0_8, ie_0_9, ie_1_0, ie_1_2, ie_1_3, ie_1_4, ie_1_5, ie_1_6, ie_1_7, ie_1_8, ie_1_9, ie_2_0, ie_2_1, ie_2_3, ie_2_4, ie_2_5, ie_2_6, ie_2_7, ie_2_8, ie_2_9, ie_3_0, ie_3_1, ie_3_2, ie_3_4, ie_3_5, ie_3_6, ie_3_7, ie_3_8, ie_3_9, ie_4_0, ie_4_1, ie_4_2, ie_4_3, ie_4_5, ie_4_6, ie_4_7, ie_4_8, ie_4_9, ie_5_0, ie_5_1, ie_5_2, ie_5_3, ie_5_4, ie_5_6, ie_5_7, ie_5_8, ie_5_9, ie_6_0, ie_6_1, ie_6_2, ie_6_3, ie_6_4, ie_6_5, ie_6_7, ie_6_8, ie_6_9, ie_7_0, ie_7_1, ie_7_2, ie_7_3, ie_7_4, ie_7_5, ie_7_6, ie_7_8, ie_7_9, ie_8_0, ie_8_1, ie_8_2, ie_8_3, ie_8_4, ie_8_5, ie_8_6, ie_8_7, ie_8_9, ie_9_0, ie_9_1, ie_9_2, ie_9_3, ie_9_4, ie_9_5, ie_9_6, ie_9_7, ie_9_8]
    rw [X2_turnsSome_1_PNZ h hf s0 s1 s2] at g
    have hz : go4 (sl w K) = tu3 (sl w K) true false true := by simp only [go4, tu4, (sgnP s0).1, (sgnP s0).2.1, (sgnP s0).2.2.1, (sgnP s0).2.2.2, (sgnN s1).1, (sgnN s1).2.1, (sgnN s1).2.2.1, (sgnN s1).2.2.2, (sgnZ s2).1, (sgnZ s2).2.1, (sgnZ s2).2.2.1, (sgnZ s2).2.2.2, decide_true, decide_false, Bool.not_true, Bool.not_false, Bool.and_true, Bool.true_and, Bool.and_false, Bool.false_and, Bool.or_true, Bool.true_or, Bool.or_false, Bool.false_or, Bool.or_self, Bool.and_self]
    rw [hz]
    exact g
  · exfalso
    simp only [ap4, sg3, aboV, (sgnP s0).1, (sgnP s0).2.1, (sgnP s0).2.2.1, (sgnP s0).2.2.2, (sgnN s1).1, (sgnN s1).2.1, (sgnN s1).2.2.1, (sgnN s1).2.2.2, (sgnN s2).1, (sgnN s2).2.1, (sgnN s2).2.2.1, (sgnN s2).2.2.2, reduceIte, Bool.and_eq_true, Bool.not_eq_true', decide_eq_true_eq, decide_eq_false_iff_not] at ha
    revert ha
    decide
  · have g : f_X2_does fu ev (mem ev w) (ev.1 + 966) (nI K) 4 = bd2 (f_X2_turnsSome fu ev (mem ev w) (ev.1 + 966) (nI K) 1) (fun _ s3 => some ((), s3)) := by simp only [b_X2_does_192, b_X2_does_44, b_X2_does_59, b_X2_does_74, b_X2_does_83, b_X2_does_114, b_X2_does_113, b_X2_does_107, b_X2_does_92, b_X2_does_142, b_X2_does_141, b_X2_does_135, b_X2_does_120, b_X2_does_170, b_X2_does_169, b_X2_does_163, b_X2_does_148, b_X2_does_176, b_X2_does_0, f_X2_does, mis, Option.bind_some, reduceIte, ie_0_1, ie_0_2, ie_0_3, ie_0_4, ie_0_5, ie_0_6, ie_0_7, ie_0_8, ie_0_9, ie_1_0, ie_1_2, ie_1_3, ie_1_4, ie_1_5, ie_1_6, ie_1_7, ie_1_8, ie_1_9, ie_2_0, ie_2_1, ie_2_3, ie_2_4, ie_2_5, ie_2_6, ie_2_7, ie_2_8, ie_2_9, ie_3_0, ie_3_1, ie_3_2, ie_3_4, ie_3_5, ie_3_6, ie_3_7, ie_3_8, ie_3_9, ie_4_0, ie_4_1, ie_4_2, ie_4_3, ie_4_5, ie_4_6, ie_4_7, ie_4_8, ie_4_9, ie_5_0, ie_5_1, ie_5_2, ie_5_3, ie_5_4, ie_5_6, ie_5_7, ie_5_8, ie_5_9, ie_6_0, ie_6_1, ie_6_2, ie_6_3, ie_6_4, ie_6_5, ie_6_7, ie_6_8, ie_6_9, ie_7_0, ie_7_1, ie_7_2, ie_7_3, ie_7_4, ie_7_5, ie_7_6, ie_7_8, ie_7_9, ie_8_0, ie_8_1, ie_8_2, ie_8_3, ie_8_4, ie_8_5, ie_8_6, ie_8_7, ie_8_9, ie_9_0, ie_9_1, ie_9_2, ie_9_3, ie_9_4, ie_9_5, ie_9_6, ie_9_7, ie_9_8]
    rw [X2_turnsSome_1_ZPP h hf s0 s1 s2] at g
    have hz : go4 (sl w K) = tu3 (sl w K) false true true := by simp only [go4, tu4, (sgnZ s0).1, (sgnZ s0).2.1, (sgnZ s0).2.2.1, (sgnZ s0).2.2.2, (sgnP s1).1, (sgnP s1).2.1, (sgnP s1).2.2.1, (sgnP s1).2.2.2, (sgnP s2).1, (sgnP s2).2.1, (sgnP s2).2.2.1, (sgnP s2).2.2.2, decide_true, decide_false, Bool.not_true, Bool.not_false, Bool.and_true, Bool.true_and, Bool.and_false, Bool.false_and, Bool.or_true, Bool.true_or, Bool.or_false, Bool.false_or, Bool.or_self, Bool.and_self]
    rw [hz]
    exact g
  · have g : f_X2_does fu ev (mem ev w) (ev.1 + 966) (nI K) 4 = bd2 (f_X2_turnsSome fu ev (mem ev w) (ev.1 + 966) (nI K) 1) (fun _ s3 => some ((), s3)) := by simp only [b_X2_does_192, b_X2_does_44, b_X2_does_59, b_X2_does_74, b_X2_does_83, b_X2_does_114, b_X2_does_113, b_X2_does_107, b_X2_does_92, b_X2_does_142, b_X2_does_141, b_X2_does_135, b_X2_does_120, b_X2_does_170, b_X2_does_169, b_X2_does_163, b_X2_does_148, b_X2_does_176, b_X2_does_0, f_X2_does, mis, Option.bind_some, reduceIte, ie_0_1, ie_0_2, ie_0_3, ie_0_4, ie_0_5, ie_0_6, ie_0_7, ie_0_8, ie_0_9, ie_1_0, ie_1_2, ie_1_3, ie_1_4, ie_1_5, ie_1_6, ie_1_7, ie_1_8, ie_1_9, ie_2_0, ie_2_1, ie_2_3, ie_2_4, ie_2_5, ie_2_6, ie_2_7, ie_2_8, ie_2_9, ie_3_0, ie_3_1, ie_3_2, ie_3_4, ie_3_5, ie_3_6, ie_3_7, ie_3_8, ie_3_9, ie_4_0, ie_4_1, ie_4_2, ie_4_3, ie_4_5, ie_4_6, ie_4_7, ie_4_8, ie_4_9, ie_5_0, ie_5_1, ie_5_2, ie_5_3, ie_5_4, ie_5_6, ie_5_7, ie_5_8, ie_5_9, ie_6_0, ie_6_1, ie_6_2, ie_6_3, ie_6_4, ie_6_5, ie_6_7, ie_6_8, ie_6_9, ie_7_0, ie_7_1, ie_7_2, ie_7_3, ie_7_4, ie_7_5, ie_7_6, ie_7_8, ie_7_9, ie_8_0, ie_8_1, ie_8_2, ie_8_3, ie_8_4, ie_8_5, ie_8_6, ie_8_7, ie_8_9, ie_9_0, ie_9_1, ie_9_2, ie_9_3, ie_9_4, ie_9_5, ie_9_6, ie_9_7, ie_9_8]
    rw [X2_turnsSome_1_ZPZ h hf s0 s1 s2] at g
    have hz : go4 (sl w K) = tu3 (sl w K) false true true := by simp only [go4, tu4, (sgnZ s0).1, (sgnZ s0).2.1, (sgnZ s0).2.2.1, (sgnZ s0).2.2.2, (sgnP s1).1, (sgnP s1).2.1, (sgnP s1).2.2.1, (sgnP s1).2.2.2, (sgnZ s2).1, (sgnZ s2).2.1, (sgnZ s2).2.2.1, (sgnZ s2).2.2.2, decide_true, decide_false, Bool.not_true, Bool.not_false, Bool.and_true, Bool.true_and, Bool.and_false, Bool.false_and, Bool.or_true, Bool.true_or, Bool.or_false, Bool.false_or, Bool.or_self, Bool.and_self]
    rw [hz]
    exact g
  · have g : f_X2_does fu ev (mem ev w) (ev.1 + 966) (nI K) 4 = bd2 (f_X2_turnsSome fu ev (mem ev w) (ev.1 + 966) (nI K) 1) (fun _ s3 => some ((), s3)) := by simp only [b_X2_does_192, b_X2_does_44, b_X2_does_59, b_X2_does_74, b_X2_does_83, b_X2_does_114, b_X2_does_113, b_X2_does_107, b_X2_does_92, b_X2_does_142, b_X2_does_141, b_X2_does_135, b_X2_does_120, b_X2_does_170, b_X2_does_169, b_X2_does_163, b_X2_does_148, b_X2_does_176, b_X2_does_0, f_X2_does, mis, Option.bind_some, reduceIte, ie_0_1, ie_0_2, ie_0_3, ie_0_4, ie_0_5, ie_0_6, ie_0_7, ie_0_8, ie_0_9, ie_1_0, ie_1_2, ie_1_3, ie_1_4, ie_1_5, ie_1_6, ie_1_7, ie_1_8, ie_1_9, ie_2_0, ie_2_1, ie_2_3, ie_2_4, ie_2_5, ie_2_6, ie_2_7, ie_2_8, ie_2_9, ie_3_0, ie_3_1, ie_3_2, ie_3_4, ie_3_5, ie_3_6, ie_3_7, ie_3_8, ie_3_9, ie_4_0, ie_4_1, ie_4_2, ie_4_3, ie_4_5, ie_4_6, ie_4_7, ie_4_8, ie_4_9, ie_5_0, ie_5_1, ie_5_2, ie_5_3, ie_5_4, ie_5_6, ie_5_7, ie_5_8, ie_5_9, ie_6_0, ie_6_1, ie_6_2, ie_6_3, ie_6_4, ie_6_5, ie_6_7, ie_6_8, ie_6_9, ie_7_0, ie_7_1, ie_7_2, ie_7_3, ie_7_4, ie_7_5, ie_7_6, ie_7_8, ie_7_9, ie_8_0, ie_8_1, ie_8_2, ie_8_3, ie_8_4, ie_8_5, ie_8_6, ie_8_7, ie_8_9, ie_9_0, ie_9_1, ie_9_2, ie_9_3, ie_9_4, ie_9_5, ie_9_6, ie_9_7, ie_9_8]
    rw [X2_turnsSome_1_ZPN h hf s0 s1 s2] at g
    have hz : go4 (sl w K) = tu3 (sl w K) true true false := by simp only [go4, tu4, (sgnZ s0).1, (sgnZ s0).2.1, (sgnZ s0).2.2.1, (sgnZ s0).2.2.2, (sgnP s1).1, (sgnP s1).2.1, (sgnP s1).2.2.1, (sgnP s1).2.2.2, (sgnN s2).1, (sgnN s2).2.1, (sgnN s2).2.2.1, (sgnN s2).2.2.2, decide_true, decide_false, Bool.not_true, Bool.not_false, Bool.and_true, Bool.true_and, Bool.and_false, Bool.false_and, Bool.or_true, Bool.true_or, Bool.or_false, Bool.false_or, Bool.or_self, Bool.and_self]
    rw [hz]
    exact g
  · have g : f_X2_does fu ev (mem ev w) (ev.1 + 966) (nI K) 4 = bd2 (f_X2_turnsSome fu ev (mem ev w) (ev.1 + 966) (nI K) 1) (fun _ s3 => some ((), s3)) := by simp only [b_X2_does_192, b_X2_does_44, b_X2_does_59, b_X2_does_74, b_X2_does_83, b_X2_does_114, b_X2_does_113, b_X2_does_107, b_X2_does_92, b_X2_does_142, b_X2_does_141, b_X2_does_135, b_X2_does_120, b_X2_does_170, b_X2_does_169, b_X2_does_163, b_X2_does_148, b_X2_does_176, b_X2_does_0, f_X2_does, mis, Option.bind_some, reduceIte, ie_0_1, ie_0_2, ie_0_3, ie_0_4, ie_0_5, ie_0_6, ie_0_7, ie_0_8, ie_0_9, ie_1_0, ie_1_2, ie_1_3, ie_1_4, ie_1_5, ie_1_6, ie_1_7, ie_1_8, ie_1_9, ie_2_0, ie_2_1, ie_2_3, ie_2_4, ie_2_5, ie_2_6, ie_2_7, ie_2_8, ie_2_9, ie_3_0, ie_3_1, ie_3_2, ie_3_4, ie_3_5, ie_3_6, ie_3_7, ie_3_8, ie_3_9, ie_4_0, ie_4_1, ie_4_2, ie_4_3, ie_4_5, ie_4_6, ie_4_7, ie_4_8, ie_4_9, ie_5_0, ie_5_1, ie_5_2, ie_5_3, ie_5_4, ie_5_6, ie_5_7, ie_5_8, ie_5_9, ie_6_0, ie_6_1, ie_6_2, ie_6_3, ie_6_4, ie_6_5, ie_6_7, ie_6_8, ie_6_9, ie_7_0, ie_7_1, ie_7_2, ie_7_3, ie_7_4, ie_7_5, ie_7_6, ie_7_8, ie_7_9, ie_8_0, ie_8_1, ie_8_2, ie_8_3, ie_8_4, ie_8_5, ie_8_6, ie_8_7, ie_8_9, ie_9_0, ie_9_1, ie_9_2, ie_9_3, ie_9_4, ie_9_5, ie_9_6, ie_9_7, ie_9_8]
    rw [X2_turnsSome_1_ZZP h hf s0 s1 s2] at g
    have hz : go4 (sl w K) = tu3 (sl w K) false true true := by simp only [go4, tu4, (sgnZ s0).1, (sgnZ s0).2.1, (sgnZ s0).2.2.1, (sgnZ s0).2.2.2, (sgnZ s1).1, (sgnZ s1).2.1, (sgnZ s1).2.2.1, (sgnZ s1).2.2.2, (sgnP s2).1, (sgnP s2).2.1, (sgnP s2).2.2.1, (sgnP s2).2.2.2, decide_true, decide_false, Bool.not_true, Bool.not_false, Bool.and_true, Bool.true_and, Bool.and_false, Bool.false_and, Bool.or_true, Bool.true_or, Bool.or_false, Bool.false_or, Bool.or_self, Bool.and_self]
    rw [hz]
    exact g
  · exfalso
    simp only [ap4, sg3, aboV, (sgnZ s0).1, (sgnZ s0).2.1, (sgnZ s0).2.2.1, (sgnZ s0).2.2.2, (sgnZ s1).1, (sgnZ s1).2.1, (sgnZ s1).2.2.1, (sgnZ s1).2.2.2, (sgnZ s2).1, (sgnZ s2).2.1, (sgnZ s2).2.2.1, (sgnZ s2).2.2.2, reduceIte, Bool.and_eq_true, Bool.not_eq_true', decide_eq_true_eq, decide_eq_false_iff_not] at ha
    revert ha
    decide
  · exfalso
    simp only [ap4, sg3, aboV, (sgnZ s0).1, (sgnZ s0).2.1, (sgnZ s0).2.2.1, (sgnZ s0).2.2.2, (sgnZ s1).1, (sgnZ s1).2.1, (sgnZ s1).2.2.1, (sgnZ s1).2.2.2, (sgnN s2).1, (sgnN s2).2.1, (sgnN s2).2.2.1, (sgnN s2).2.2.2, reduceIte, Bool.and_eq_true, Bool.not_eq_true', decide_eq_true_eq, decide_eq_false_iff_not] at ha
    revert ha
    decide
  · have g : f_X2_does fu ev (mem ev w) (ev.1 + 966) (nI K) 4 = bd2 (f_X2_turnsSome fu ev (mem ev w) (ev.1 + 966) (nI K) 1) (fun _ s3 => some ((), s3)) := by simp only [b_X2_does_192, b_X2_does_44, b_X2_does_59, b_X2_does_74, b_X2_does_83, b_X2_does_114, b_X2_does_113, b_X2_does_107, b_X2_does_92, b_X2_does_142, b_X2_does_141, b_X2_does_135, b_X2_does_120, b_X2_does_170, b_X2_does_169, b_X2_does_163, b_X2_does_148, b_X2_does_176, b_X2_does_0, f_X2_does, mis, Option.bind_some, reduceIte, ie_0_1, ie_0_2, ie_0_3, ie_0_4, ie_0_5, ie_0_6, ie_0_7, ie_0_8, ie_0_9, ie_1_0, ie_1_2, ie_1_3, ie_1_4, ie_1_5, ie_1_6, ie_1_7, ie_1_8, ie_1_9, ie_2_0, ie_2_1, ie_2_3, ie_2_4, ie_2_5, ie_2_6, ie_2_7, ie_2_8, ie_2_9, ie_3_0, ie_3_1, ie_3_2, ie_3_4, ie_3_5, ie_3_6, ie_3_7, ie_3_8, ie_3_9, ie_4_0, ie_4_1, ie_4_2, ie_4_3, ie_4_5, ie_4_6, ie_4_7, ie_4_8, ie_4_9, ie_5_0, ie_5_1, ie_5_2, ie_5_3, ie_5_4, ie_5_6, ie_5_7, ie_5_8, ie_5_9, ie_6_0, ie_6_1, ie_6_2, ie_6_3, ie_6_4, ie_6_5, ie_6_7, ie_6_8, ie_6_9, ie_7_0, ie_7_1, ie_7_2, ie_7_3, ie_7_4, ie_7_5, ie_7_6, ie_7_8, ie_7_9, ie_8_0, ie_8_1, ie_8_2, ie_8_3, ie_8_4, ie_8_5, ie_8_6, ie_8_7, ie_8_9, ie_9_0, ie_9_1, ie_9_2, ie_9_3, ie_9_4, ie_9_5, ie_9_6, ie_9_7, ie_9_8]
    rw [X2_turnsSome_1_ZNP h hf s0 s1 s2] at g
    have hz : go4 (sl w K) = tu3 (sl w K) true false true := by simp only [go4, tu4, (sgnZ s0).1, (sgnZ s0).2.1, (sgnZ s0).2.2.1, (sgnZ s0).2.2.2, (sgnN s1).1, (sgnN s1).2.1, (sgnN s1).2.2.1, (sgnN s1).2.2.2, (sgnP s2).1, (sgnP s2).2.1, (sgnP s2).2.2.1, (sgnP s2).2.2.2, decide_true, decide_false, Bool.not_true, Bool.not_false, Bool.and_true, Bool.true_and, Bool.and_false, Bool.false_and, Bool.or_true, Bool.true_or, Bool.or_false, Bool.false_or, Bool.or_self, Bool.and_self]
    rw [hz]
    exact g
  · exfalso
    simp only [ap4, sg3, aboV, (sgnZ s0).1, (sgnZ s0).2.1, (sgnZ s0).2.2.1, (sgnZ s0).2.2.2, (sgnN s1).1, (sgnN s1).2.1, (sgnN s1).2.2.1, (sgnN s1).2.2.2, (sgnZ s2).1, (sgnZ s2).2.1, (sgnZ s2).2.2.1, (sgnZ s2).2.2.2, reduceIte, Bool.and_eq_true, Bool.not_eq_true', decide_eq_true_eq, decide_eq_false_iff_not] at ha
    revert ha
    decide
  · exfalso
    simp only [ap4, sg3, aboV, (sgnZ s0).1, (sgnZ s0).2.1, (sgnZ s0).2.2.1, (sgnZ s0).2.2.2, (sgnN s1).1, (sgnN s1).2.1, (sgnN s1).2.2.1, (sgnN s1).2.2.2, (sgnN s2).1, (sgnN s2).2.1, (sgnN s2).2.2.1, (sgnN s2).2.2.2, reduceIte, Bool.and_eq_true, Bool.not_eq_true', decide_eq_true_eq, decide_eq_false_iff_not] at ha
    revert ha
    decide
  · have g : f_X2_does fu ev (mem ev w) (ev.1 + 966) (nI K) 4 = bd2 (f_X2_turnsSome fu ev (mem ev w) (ev.1 + 966) (nI K) 1) (fun _ s3 => some ((), s3)) := by simp only [b_X2_does_192, b_X2_does_44, b_X2_does_59, b_X2_does_74, b_X2_does_83, b_X2_does_114, b_X2_does_113, b_X2_does_107, b_X2_does_92, b_X2_does_142, b_X2_does_141, b_X2_does_135, b_X2_does_120, b_X2_does_170, b_X2_does_169, b_X2_does_163, b_X2_does_148, b_X2_does_176, b_X2_does_0, f_X2_does, mis, Option.bind_some, reduceIte, ie_0_1, ie_0_2, ie_0_3, ie_0_4, ie_0_5, ie_0_6, ie_0_7, ie_0_8, ie_0_9, ie_1_0, ie_1_2, ie_1_3, ie_1_4, ie_1_5, ie_1_6, ie_1_7, ie_1_8, ie_1_9, ie_2_0, ie_2_1, ie_2_3, ie_2_4, ie_2_5, ie_2_6, ie_2_7, ie_2_8, ie_2_9, ie_3_0, ie_3_1, ie_3_2, ie_3_4, ie_3_5, ie_3_6, ie_3_7, ie_3_8, ie_3_9, ie_4_0, ie_4_1, ie_4_2, ie_4_3, ie_4_5, ie_4_6, ie_4_7, ie_4_8, ie_4_9, ie_5_0, ie_5_1, ie_5_2, ie_5_3, ie_5_4, ie_5_6, ie_5_7, ie_5_8, ie_5_9, ie_6_0, ie_6_1, ie_6_2, ie_6_3, ie_6_4, ie_6_5, ie_6_7, ie_6_8, ie_6_9, ie_7_0, ie_7_1, ie_7_2, ie_7_3, ie_7_4, ie_7_5, ie_7_6, ie_7_8, ie_7_9, ie_8_0, ie_8_1, ie_8_2, ie_8_3, ie_8_4, ie_8_5, ie_8_6, ie_8_7, ie_8_9, ie_9_0, ie_9_1, ie_9_2, ie_9_3, ie_9_4, ie_9_5, ie_9_6, ie_9_7, ie_9_8]
    rw [X2_turnsSome_1_NPP h hf s0 s1 s2] at g
    have hz : go4 (sl w K) = tu3 (sl w K) false true true := by simp only [go4, tu4, (sgnN s0).1, (sgnN s0).2.1, (sgnN s0).2.2.1, (sgnN s0).2.2.2, (sgnP s1).1, (sgnP s1).2.1, (sgnP s1).2.2.1, (sgnP s1).2.2.2, (sgnP s2).1, (sgnP s2).2.1, (sgnP s2).2.2.1, (sgnP s2).2.2.2, decide_true, decide_false, Bool.not_true, Bool.not_false, Bool.and_true, Bool.true_and, Bool.and_false, Bool.false_and, Bool.or_true, Bool.true_or, Bool.or_false, Bool.false_or, Bool.or_self, Bool.and_self]
    rw [hz]
    exact g
  · have g : f_X2_does fu ev (mem ev w) (ev.1 + 966) (nI K) 4 = bd2 (f_X2_turnsSome fu ev (mem ev w) (ev.1 + 966) (nI K) 1) (fun _ s3 => some ((), s3)) := by simp only [b_X2_does_192, b_X2_does_44, b_X2_does_59, b_X2_does_74, b_X2_does_83, b_X2_does_114, b_X2_does_113, b_X2_does_107, b_X2_does_92, b_X2_does_142, b_X2_does_141, b_X2_does_135, b_X2_does_120, b_X2_does_170, b_X2_does_169, b_X2_does_163, b_X2_does_148, b_X2_does_176, b_X2_does_0, f_X2_does, mis, Option.bind_some, reduceIte, ie_0_1, ie_0_2, ie_0_3, ie_0_4, ie_0_5, ie_0_6, ie_0_7, ie_0_8, ie_0_9, ie_1_0, ie_1_2, ie_1_3, ie_1_4, ie_1_5, ie_1_6, ie_1_7, ie_1_8, ie_1_9, ie_2_0, ie_2_1, ie_2_3, ie_2_4, ie_2_5, ie_2_6, ie_2_7, ie_2_8, ie_2_9, ie_3_0, ie_3_1, ie_3_2, ie_3_4, ie_3_5, ie_3_6, ie_3_7, ie_3_8, ie_3_9, ie_4_0, ie_4_1, ie_4_2, ie_4_3, ie_4_5, ie_4_6, ie_4_7, ie_4_8, ie_4_9, ie_5_0, ie_5_1, ie_5_2, ie_5_3, ie_5_4, ie_5_6, ie_5_7, ie_5_8, ie_5_9, ie_6_0, ie_6_1, ie_6_2, ie_6_3, ie_6_4, ie_6_5, ie_6_7, ie_6_8, ie_6_9, ie_7_0, ie_7_1, ie_7_2, ie_7_3, ie_7_4, ie_7_5, ie_7_6, ie_7_8, ie_7_9, ie_8_0, ie_8_1, ie_8_2, ie_8_3, ie_8_4, ie_8_5, ie_8_6, ie_8_7, ie_8_9, ie_9_0, ie_9_1, ie_9_2, ie_9_3, ie_9_4, ie_9_5, ie_9_6, ie_9_7, ie_9_8]
    rw [X2_turnsSome_1_NPZ h hf s0 s1 s2] at g
    have hz : go4 (sl w K) = tu3 (sl w K) false true true := by simp only [go4, tu4, (sgnN s0).1, (sgnN s0).2.1, (sgnN s0).2.2.1, (sgnN s0).2.2.2, (sgnP s1).1, (sgnP s1).2.1, (sgnP s1).2.2.1, (sgnP s1).2.2.2, (sgnZ s2).1, (sgnZ s2).2.1, (sgnZ s2).2.2.1, (sgnZ s2).2.2.2, decide_true, decide_false, Bool.not_true, Bool.not_false, Bool.and_true, Bool.true_and, Bool.and_false, Bool.false_and, Bool.or_true, Bool.true_or, Bool.or_false, Bool.false_or, Bool.or_self, Bool.and_self]
    rw [hz]
    exact g
  · exfalso
    simp only [ap4, sg3, aboV, (sgnN s0).1, (sgnN s0).2.1, (sgnN s0).2.2.1, (sgnN s0).2.2.2, (sgnP s1).1, (sgnP s1).2.1, (sgnP s1).2.2.1, (sgnP s1).2.2.2, (sgnN s2).1, (sgnN s2).2.1, (sgnN s2).2.2.1, (sgnN s2).2.2.2, reduceIte, Bool.and_eq_true, Bool.not_eq_true', decide_eq_true_eq, decide_eq_false_iff_not] at ha
    revert ha
    decide
  · have g : f_X2_does fu ev (mem ev w) (ev.1 + 966) (nI K) 4 = bd2 (f_X2_turnsSome fu ev (mem ev w) (ev.1 + 966) (nI K) 1) (fun _ s3 => some ((), s3)) := by simp only [b_X2_does_192, b_X2_does_44, b_X2_does_59, b_X2_does_74, b_X2_does_83, b_X2_does_114, b_X2_does_113, b_X2_does_107, b_X2_does_92, b_X2_does_142, b_X2_does_141, b_X2_does_135, b_X2_does_120, b_X2_does_170, b_X2_does_169, b_X2_does_163, b_X2_does_148, b_X2_does_176, b_X2_does_0, f_X2_does, mis, Option.bind_some, reduceIte, ie_0_1, ie_0_2, ie_0_3, ie_0_4, ie_0_5, ie_0_6, ie_0_7, ie_0_8, ie_0_9, ie_1_0, ie_1_2, ie_1_3, ie_1_4, ie_1_5, ie_1_6, ie_1_7, ie_1_8, ie_1_9, ie_2_0, ie_2_1, ie_2_3, ie_2_4, ie_2_5, ie_2_6, ie_2_7, ie_2_8, ie_2_9, ie_3_0, ie_3_1, ie_3_2, ie_3_4, ie_3_5, ie_3_6, ie_3_7, ie_3_8, ie_3_9, ie_4_0, ie_4_1, ie_4_2, ie_4_3, ie_4_5, ie_4_6, ie_4_7, ie_4_8, ie_4_9, ie_5_0, ie_5_1, ie_5_2, ie_5_3, ie_5_4, ie_5_6, ie_5_7, ie_5_8, ie_5_9, ie_6_0, ie_6_1, ie_6_2, ie_6_3, ie_6_4, ie_6_5, ie_6_7, ie_6_8, ie_6_9, ie_7_0, ie_7_1, ie_7_2, ie_7_3, ie_7_4, ie_7_5, ie_7_6, ie_7_8, ie_7_9, ie_8_0, ie_8_1, ie_8_2, ie_8_3, ie_8_4, ie_8_5, ie_8_6, ie_8_7, ie_8_9, ie_9_0, ie_9_1, ie_9_2, ie_9_3, ie_9_4, ie_9_5, ie_9_6, ie_9_7, ie_9_8]
    rw [X2_turnsSome_1_NZP h hf s0 s1 s2] at g
    have hz : go4 (sl w K) = tu3 (sl w K) false true true := by simp only [go4, tu4, (sgnN s0).1, (sgnN s0).2.1, (sgnN s0).2.2.1, (sgnN s0).2.2.2, (sgnZ s1).1, (sgnZ s1).2.1, (sgnZ s1).2.2.1, (sgnZ s1).2.2.2, (sgnP s2).1, (sgnP s2).2.1, (sgnP s2).2.2.1, (sgnP s2).2.2.2, decide_true, decide_false, Bool.not_true, Bool.not_false, Bool.and_true, Bool.true_and, Bool.and_false, Bool.false_and, Bool.or_true, Bool.true_or, Bool.or_false, Bool.false_or, Bool.or_self, Bool.and_self]
    rw [hz]
    exact g
  · exfalso
    simp only [ap4, sg3, aboV, (sgnN s0).1, (sgnN s0).2.1, (sgnN s0).2.2.1, (sgnN s0).2.2.2, (sgnZ s1).1, (sgnZ s1).2.1, (sgnZ s1).2.2.1, (sgnZ s1).2.2.2, (sgnZ s2).1, (sgnZ s2).2.1, (sgnZ s2).2.2.1, (sgnZ s2).2.2.2, reduceIte, Bool.and_eq_true, Bool.not_eq_true', decide_eq_true_eq, decide_eq_false_iff_not] at ha
    revert ha
    decide
  · exfalso
    simp only [ap4, sg3, aboV, (sgnN s0).1, (sgnN s0).2.1, (sgnN s0).2.2.1, (sgnN s0).2.2.2, (sgnZ s1).1, (sgnZ s1).2.1, (sgnZ s1).2.2.1, (sgnZ s1).2.2.2, (sgnN s2).1, (sgnN s2).2.1, (sgnN s2).2.2.1, (sgnN s2).2.2.2, reduceIte, Bool.and_eq_true, Bool.not_eq_true', decide_eq_true_eq, decide_eq_false_iff_not] at ha
    revert ha
    decide
  · exfalso
    simp only [ap4, sg3, aboV, (sgnN s0).1, (sgnN s0).2.1, (sgnN s0).2.2.1, (sgnN s0).2.2.2, (sgnN s1).1, (sgnN s1).2.1, (sgnN s1).2.2.1, (sgnN s1).2.2.2, (sgnP s2).1, (sgnP s2).2.1, (sgnP s2).2.2.1, (sgnP s2).2.2.2, reduceIte, Bool.and_eq_true, Bool.not_eq_true', decide_eq_true_eq, decide_eq_false_iff_not] at ha
    revert ha
    decide
  · exfalso
    simp only [ap4, sg3, aboV, (sgnN s0).1, (sgnN s0).2.1, (sgnN s0).2.2.1, (sgnN s0).2.2.2, (sgnN s1).1, (sgnN s1).2.1, (sgnN s1).2.2.1, (sgnN s1).2.2.2, (sgnZ s2).1, (sgnZ s2).2.1, (sgnZ s2).2.2.1, (sgnZ s2).2.2.2, reduceIte, Bool.and_eq_true, Bool.not_eq_true', decide_eq_true_eq, decide_eq_false_iff_not] at ha
    revert ha
    decide
  · exfalso
    simp only [ap4, sg3, aboV, (sgnN s0).1, (sgnN s0).2.1, (sgnN s0).2.2.1, (sgnN s0).2.2.2, (sgnN s1).1, (sgnN s1).2.1, (sgnN s1).2.2.1, (sgnN s1).2.2.2, (sgnN s2).1, (sgnN s2).2.1, (sgnN s2).2.2.1, (sgnN s2).2.2.2, reduceIte, Bool.and_eq_true, Bool.not_eq_true', decide_eq_true_eq, decide_eq_false_iff_not] at ha
    revert ha
    decide
theorem X2_doesV (h : K < 26) (hf : 4 ≤ fu) (hn : stV (sl w K) ≠ 0) : f_X2_does fu ev (mem ev w) (ev.1 + 966) (nI K) (nI (stV (sl w K))) = some ((), mem ev (setS w K (goV (sl w K)))) := by
  by_cases a1 : ap1 (sl w K) = true
  · have e1 : stV (sl w K) = 1 := by simp only [stV, goV, a1, if_true, if_false, Bool.false_eq_true]
    have e2 : goV (sl w K) = go1 (sl w K) := by simp only [stV, goV, a1, if_true, if_false, Bool.false_eq_true]
    rw [e1, e2]
    exact X2_does_1 h hf
  by_cases a2 : ap2 (sl w K) = true
  · have e1 : stV (sl w K) = 2 := by simp only [stV, goV, a1, a2, if_true, if_false, Bool.false_eq_true]
    have e2 : goV (sl w K) = go2 (sl w K) := by simp only [stV, goV, a1, a2, if_true, if_false, Bool.false_eq_true]
    rw [e1, e2]
    exact X2_does_2 h hf
  by_cases a3 : ap3 (sl w K) = true
  · have e1 : stV (sl w K) = 3 := by simp only [stV, goV, a1, a2, a3, if_true, if_false, Bool.false_eq_true]
    have e2 : goV (sl w K) = go3 (sl w K) := by simp only [stV, goV, a1, a2, a3, if_true, if_false, Bool.false_eq_true]
    rw [e1, e2]
    exact X2_does_3 h hf a3
  by_cases a4 : ap4 (sl w K) = true
  · have e1 : stV (sl w K) = 4 := by simp only [stV, goV, a1, a2, a3, a4, if_true, if_false, Bool.false_eq_true]
    have e2 : goV (sl w K) = go4 (sl w K) := by simp only [stV, goV, a1, a2, a3, a4, if_true, if_false, Bool.false_eq_true]
    rw [e1, e2]
    exact X2_does_4 h hf a4
  by_cases a5 : ap5 (sl w K) = true
  · have e1 : stV (sl w K) = 5 := by simp only [stV, goV, a1, a2, a3, a4, a5, if_true, if_false, Bool.false_eq_true]
    have e2 : goV (sl w K) = go5 (sl w K) := by simp only [stV, goV, a1, a2, a3, a4, a5, if_true, if_false, Bool.false_eq_true]
    rw [e1, e2]
    exact X2_does_5 h hf
  by_cases a6 : ap6 (sl w K) = true
  · have e1 : stV (sl w K) = 6 := by simp only [stV, goV, a1, a2, a3, a4, a5, a6, if_true, if_false, Bool.false_eq_true]
    have e2 : goV (sl w K) = go6 (sl w K) := by simp only [stV, goV, a1, a2, a3, a4, a5, a6, if_true, if_false, Bool.false_eq_true]
    rw [e1, e2]
    exact X2_does_6 h hf
  by_cases a7 : ap7 (sl w K) = true
  · have e1 : stV (sl w K) = 7 := by simp only [stV, goV, a1, a2, a3, a4, a5, a6, a7, if_true, if_false, Bool.false_eq_true]
    have e2 : goV (sl w K) = go7 (sl w K) := by simp only [stV, goV, a1, a2, a3, a4, a5, a6, a7, if_true, if_false, Bool.false_eq_true]
    rw [e1, e2]
    exact X2_does_7 h hf
  by_cases a8 : ap8 (sl w K) = true
  · have e1 : stV (sl w K) = 8 := by simp only [stV, goV, a1, a2, a3, a4, a5, a6, a7, a8, if_true, if_false, Bool.false_eq_true]
    have e2 : goV (sl w K) = go8 (sl w K) := by simp only [stV, goV, a1, a2, a3, a4, a5, a6, a7, a8, if_true, if_false, Bool.false_eq_true]
    rw [e1, e2]
    exact X2_does_8 h hf
  exact absurd (by simp only [stV, a1, a2, a3, a4, a5, a6, a7, a8, if_false, Bool.false_eq_true]) hn
/-- the model's conditions are the class's -/
def eqM (v : Nat → Int64) : Prop := am1 v = ap1 v ∧ am2 v = ap2 v ∧ am3 v = ap3 v ∧ am4 v = ap4 v ∧ am5 v = ap5 v ∧ am6 v = ap6 v ∧ am7 v = ap7 v ∧ am8 v = ap8 v
theorem X2_firstOf (h : K < 26) (hf : 10 ≤ fu) (hm : eqM (sl w K)) : f_X2_firstOf fu ev (mem ev w) (ev.1 + 966) (nI K) = some (nI (stV (sl w K)), mem ev w) := by
  obtain ⟨m, hm0⟩ : ∃ m, fu = m + 10 := ⟨fu - 10, by omega⟩
  have hL : ∀ σ x0 x1 x2, L_X2_firstOf_2 fu ev fu σ x0 x1 x2 = L_X2_firstOf_2 fu ev (m + 10) σ x0 x1 x2 := fun _ _ _ _ => by rw [← hm0]
  have hf : 4 ≤ fu := by omega
  obtain ⟨m1, m2, m3, m4, m5, m6, m7, m8⟩ := hm
  by_cases a1 : ap1 (sl w K) = true
  · have e : f_X2_firstOf fu ev (mem ev w) (ev.1 + 966) (nI K) = some (1, mem ev w) := by
      simp only [f_X2_firstOf, b_X2_firstOf_0, hL, L_X2_firstOf_2, b_X2_firstOf_2, b_X2_firstOf_8, b_X2_firstOf_17, b_X2_firstOf_19, b_X2_firstOf_25, mis, Option.bind_some, bd2, b01, not_true_eq_false, not_false_eq_true, if_true, if_false, ie_1_0, Bool.false_eq_true, eq_self, Int32.reduceAdd, Int32.reduceLT, reduceIte, X2_applies_1 h hf, m1, a1]
    rw [e]
    simp only [stV, a1, if_true, if_false, Bool.false_eq_true]
    rfl
  by_cases a2 : ap2 (sl w K) = true
  · have e : f_X2_firstOf fu ev (mem ev w) (ev.1 + 966) (nI K) = some (2, mem ev w) := by
      simp only [f_X2_firstOf, b_X2_firstOf_0, hL, L_X2_firstOf_2, b_X2_firstOf_2, b_X2_firstOf_8, b_X2_firstOf_17, b_X2_firstOf_19, b_X2_firstOf_25, mis, Option.bind_some, bd2, b01, not_true_eq_false, not_false_eq_true, if_true, if_false, ie_1_0, Bool.false_eq_true, eq_self, Int32.reduceAdd, Int32.reduceLT, reduceIte, X2_applies_1 h hf, m1, a1, X2_applies_2 h hf, m2, a2]
    rw [e]
    simp only [stV, a1, a2, if_true, if_false, Bool.false_eq_true]
    rfl
  by_cases a3 : ap3 (sl w K) = true
  · have e : f_X2_firstOf fu ev (mem ev w) (ev.1 + 966) (nI K) = some (3, mem ev w) := by
      simp only [f_X2_firstOf, b_X2_firstOf_0, hL, L_X2_firstOf_2, b_X2_firstOf_2, b_X2_firstOf_8, b_X2_firstOf_17, b_X2_firstOf_19, b_X2_firstOf_25, mis, Option.bind_some, bd2, b01, not_true_eq_false, not_false_eq_true, if_true, if_false, ie_1_0, Bool.false_eq_true, eq_self, Int32.reduceAdd, Int32.reduceLT, reduceIte, X2_applies_1 h hf, m1, a1, X2_applies_2 h hf, m2, a2, X2_applies_3 h hf, m3, a3]
    rw [e]
    simp only [stV, a1, a2, a3, if_true, if_false, Bool.false_eq_true]
    rfl
  by_cases a4 : ap4 (sl w K) = true
  · have e : f_X2_firstOf fu ev (mem ev w) (ev.1 + 966) (nI K) = some (4, mem ev w) := by
      simp only [f_X2_firstOf, b_X2_firstOf_0, hL, L_X2_firstOf_2, b_X2_firstOf_2, b_X2_firstOf_8, b_X2_firstOf_17, b_X2_firstOf_19, b_X2_firstOf_25, mis, Option.bind_some, bd2, b01, not_true_eq_false, not_false_eq_true, if_true, if_false, ie_1_0, Bool.false_eq_true, eq_self, Int32.reduceAdd, Int32.reduceLT, reduceIte, X2_applies_1 h hf, m1, a1, X2_applies_2 h hf, m2, a2, X2_applies_3 h hf, m3, a3, X2_applies_4 h hf, m4, a4]
    rw [e]
    simp only [stV, a1, a2, a3, a4, if_true, if_false, Bool.false_eq_true]
    rfl
  by_cases a5 : ap5 (sl w K) = true
  · have e : f_X2_firstOf fu ev (mem ev w) (ev.1 + 966) (nI K) = some (5, mem ev w) := by
      simp only [f_X2_firstOf, b_X2_firstOf_0, hL, L_X2_firstOf_2, b_X2_firstOf_2, b_X2_firstOf_8, b_X2_firstOf_17, b_X2_firstOf_19, b_X2_firstOf_25, mis, Option.bind_some, bd2, b01, not_true_eq_false, not_false_eq_true, if_true, if_false, ie_1_0, Bool.false_eq_true, eq_self, Int32.reduceAdd, Int32.reduceLT, reduceIte, X2_applies_1 h hf, m1, a1, X2_applies_2 h hf, m2, a2, X2_applies_3 h hf, m3, a3, X2_applies_4 h hf, m4, a4, X2_applies_5 h hf, m5, a5]
    rw [e]
    simp only [stV, a1, a2, a3, a4, a5, if_true, if_false, Bool.false_eq_true]
    rfl
  by_cases a6 : ap6 (sl w K) = true
  · have e : f_X2_firstOf fu ev (mem ev w) (ev.1 + 966) (nI K) = some (6, mem ev w) := by
      simp only [f_X2_firstOf, b_X2_firstOf_0, hL, L_X2_firstOf_2, b_X2_firstOf_2, b_X2_firstOf_8, b_X2_firstOf_17, b_X2_firstOf_19, b_X2_firstOf_25, mis, Option.bind_some, bd2, b01, not_true_eq_false, not_false_eq_true, if_true, if_false, ie_1_0, Bool.false_eq_true, eq_self, Int32.reduceAdd, Int32.reduceLT, reduceIte, X2_applies_1 h hf, m1, a1, X2_applies_2 h hf, m2, a2, X2_applies_3 h hf, m3, a3, X2_applies_4 h hf, m4, a4, X2_applies_5 h hf, m5, a5, X2_applies_6 h hf, m6, a6]
    rw [e]
    simp only [stV, a1, a2, a3, a4, a5, a6, if_true, if_false, Bool.false_eq_true]
    rfl
  by_cases a7 : ap7 (sl w K) = true
  · have e : f_X2_firstOf fu ev (mem ev w) (ev.1 + 966) (nI K) = some (7, mem ev w) := by
      simp only [f_X2_firstOf, b_X2_firstOf_0, hL, L_X2_firstOf_2, b_X2_firstOf_2, b_X2_firstOf_8, b_X2_firstOf_17, b_X2_firstOf_19, b_X2_firstOf_25, mis, Option.bind_some, bd2, b01, not_true_eq_false, not_false_eq_true, if_true, if_false, ie_1_0, Bool.false_eq_true, eq_self, Int32.reduceAdd, Int32.reduceLT, reduceIte, X2_applies_1 h hf, m1, a1, X2_applies_2 h hf, m2, a2, X2_applies_3 h hf, m3, a3, X2_applies_4 h hf, m4, a4, X2_applies_5 h hf, m5, a5, X2_applies_6 h hf, m6, a6, X2_applies_7 h hf, m7, a7]
    rw [e]
    simp only [stV, a1, a2, a3, a4, a5, a6, a7, if_true, if_false, Bool.false_eq_true]
    rfl
  by_cases a8 : ap8 (sl w K) = true
  · have e : f_X2_firstOf fu ev (mem ev w) (ev.1 + 966) (nI K) = some (8, mem ev w) := by
      simp only [f_X2_firstOf, b_X2_firstOf_0, hL, L_X2_firstOf_2, b_X2_firstOf_2, b_X2_firstOf_8, b_X2_firstOf_17, b_X2_firstOf_19, b_X2_firstOf_25, mis, Option.bind_some, bd2, b01, not_true_eq_false, not_false_eq_true, if_true, if_false, ie_1_0, Bool.false_eq_true, eq_self, Int32.reduceAdd, Int32.reduceLT, reduceIte, X2_applies_1 h hf, m1, a1, X2_applies_2 h hf, m2, a2, X2_applies_3 h hf, m3, a3, X2_applies_4 h hf, m4, a4, X2_applies_5 h hf, m5, a5, X2_applies_6 h hf, m6, a6, X2_applies_7 h hf, m7, a7, X2_applies_8 h hf, m8, a8]
    rw [e]
    simp only [stV, a1, a2, a3, a4, a5, a6, a7, a8, if_true, if_false, Bool.false_eq_true]
    rfl
  have e : f_X2_firstOf fu ev (mem ev w) (ev.1 + 966) (nI K) = some (0, mem ev w) := by
    simp only [f_X2_firstOf, b_X2_firstOf_0, hL, L_X2_firstOf_2, b_X2_firstOf_2, b_X2_firstOf_8, b_X2_firstOf_17, b_X2_firstOf_19, b_X2_firstOf_25, mis, Option.bind_some, bd2, b01, not_true_eq_false, not_false_eq_true, if_true, if_false, ie_1_0, Bool.false_eq_true, eq_self, Int32.reduceAdd, Int32.reduceLT, reduceIte, X2_applies_1 h hf, m1, a1, X2_applies_2 h hf, m2, a2, X2_applies_3 h hf, m3, a3, X2_applies_4 h hf, m4, a4, X2_applies_5 h hf, m5, a5, X2_applies_6 h hf, m6, a6, X2_applies_7 h hf, m7, a7, X2_applies_8 h hf, m8, a8]
  rw [e]
  simp only [stV, a1, a2, a3, a4, a5, a6, a7, a8, if_true, if_false, Bool.false_eq_true]
  rfl
theorem L_goesOn (h : K < 26) (hf : 10 ≤ fu) : ∀ (N n : Nat) (w : Wd) (v : Nat → Int64) (x : Int32), Mk v → Ends v N → (∀ i : Nat, i ≤ N → eqM (itV i v)) → N + 1 ≤ n → L_X2_goesOn_8 fu ev n (mem ev (setS w K v)) (ev.1 + 966) (nI K) x (nI (stV v)) = some (x + nI N, mem ev (setS w K (itV N v))) := by
  intro N
  induction N with
  | zero =>
    intro n w v x hv hE hM hn
    obtain ⟨m, rfl⟩ : ∃ m, n = m + 1 := ⟨n - 1, by omega⟩
    have h0 : stV v = 0 := hE.2
    rw [h0]
    show some (x, _) = _
    rw [show nI 0 = (0 : Int32) from rfl, Int32.add_zero]
    rfl
  | succ N ih =>
    intro n w v x hv hE hM hn
    obtain ⟨m, rfl⟩ : ∃ m, n = m + 1 := ⟨n - 1, by omega⟩
    have h0 : stV v ≠ 0 := hE.1 0 (by omega)
    have hle := stV_le v
    have e1 := X2_doesV (w := setS w K v) (ev := ev) h (show 4 ≤ fu by omega) (by rw [sl_mk hv]; exact h0)
    rw [sl_mk hv, setS_set] at e1
    have hv1 := Mk_go hv
    have e2 := X2_firstOf (w := setS w K (goV v)) (ev := ev) h hf (by rw [sl_mk hv1]; exact hM 1 (by omega))
    rw [sl_mk hv1] at e2
    have hE' : Ends (goV v) N := ⟨fun i hi => hE.1 (i + 1) (by omega), hE.2⟩
    have e3 := ih m w (goV v) (x + 1) hv1 hE' (fun i hi => hM (i + 1) (by omega)) (by omega)
    show (if nI (stV v) ≤ 0 then _ else _) = _
    rw [if_neg (nI_nle (by omega) (by omega))]
    show (isC _ _ _).bind _ = _
    rw [mis]
    simp only [Option.bind_some, bd2, e1, mis, e2]
    rw [e3]
    refine congrArg (fun z => some (z, _)) ?_
    rw [Int32.add_assoc, show (1 : Int32) = nI 1 from rfl, nI_add, Nat.add_comm]
theorem X2_goesOn (h : K < 26) {v : Nat → Int64} (hv : Mk v) {N : Nat} (hE : Ends v N) (hM : ∀ i : Nat, i ≤ N → eqM (itV i v)) (hf : N + 11 ≤ fu) : f_X2_goesOn fu ev (mem ev (setS w K v)) (ev.1 + 966) (nI K) = some (nI N, mem ev (setS w K (itV N v))) := by
  have e2 := X2_firstOf (w := setS w K v) (ev := ev) h (show 10 ≤ fu by omega) (by rw [sl_mk hv]; exact hM 0 (by omega))
  rw [sl_mk hv] at e2
  have e3 := L_goesOn (ev := ev) h (show 10 ≤ fu by omega) N fu w v 0 hv hE hM (by omega)
  rw [Int32.zero_add] at e3
  show (isC _ _ _).bind _ = _
  rw [mis]
  simp only [Option.bind_some, bd2, e2]
  exact e3
theorem X2_normals (h : K < 26) (h2 : K2 < 26) (hne : K ≠ K2) {N : Nat} (hE : Ends (sFresh (sl w K)) N) (hM : ∀ i : Nat, i ≤ N → eqM (itV i (sFresh (sl w K)))) (hf : N + 11 ≤ fu) : f_X2_normals fu ev (mem ev w) (ev.1 + 966) (nI K) (nI K2) = some (nI N, mem ev (setS w K2 (itV N (sFresh (sl w K))))) := by
  have e := X2_goesOn (ev := ev) (w := w) h2 (Mk_fresh (Mk_sl (w := w) (K := K))) hE hM hf
  have hs : setS w K2 (sFresh (sl (setS w K2 (sl w K)) K2)) = setS w K2 (sFresh (sl w K)) := by rw [sl_mk Mk_sl]
  simp only [f_X2_normals, b_X2_normals_0, mis, Option.bind_some, bd2, X2_moves h h2 hne (show 10 ≤ fu by omega), X2_fresh h2 (show 10 ≤ fu by omega), setS_set, hs, e]
end XMO
