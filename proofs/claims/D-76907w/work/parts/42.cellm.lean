/-! THE METHODS OF A CELL, upon the world -/
theorem upV_at {v : Nat → Int64} {i j : Nat} {x : Int64} : upV v i x j = if j = i then x else v j := rfl
theorem cv0 {w : Wd} {c : Nat} {v : Nat → Int64} : cv (setC w c v) c 0 = v 0 := cv_self (by decide)
theorem cv1 {w : Wd} {c : Nat} {v : Nat → Int64} : cv (setC w c v) c 1 = v 1 := cv_self (by decide)
theorem cv2 {w : Wd} {c : Nat} {v : Nat → Int64} : cv (setC w c v) c 2 = v 2 := cv_self (by decide)
theorem cv3 {w : Wd} {c : Nat} {v : Nat → Int64} : cv (setC w c v) c 3 = v 3 := cv_self (by decide)
theorem cv4 {w : Wd} {c : Nat} {v : Nat → Int64} : cv (setC w c v) c 4 = v 4 := cv_self (by decide)
theorem cv5 {w : Wd} {c : Nat} {v : Nat → Int64} : cv (setC w c v) c 5 = v 5 := cv_self (by decide)
theorem cv6 {w : Wd} {c : Nat} {v : Nat → Int64} : cv (setC w c v) c 6 = v 6 := cv_self (by decide)
theorem cv7 {w : Wd} {c : Nat} {v : Nat → Int64} : cv (setC w c v) c 7 = v 7 := cv_self (by decide)
theorem cv8 {w : Wd} {c : Nat} {v : Nat → Int64} : cv (setC w c v) c 8 = v 8 := cv_self (by decide)
theorem cv9 {w : Wd} {c : Nat} {v : Nat → Int64} : cv (setC w c v) c 9 = v 9 := cv_self (by decide)
theorem cv10 {w : Wd} {c : Nat} {v : Nat → Int64} : cv (setC w c v) c 10 = v 10 := cv_self (by decide)
theorem cv11 {w : Wd} {c : Nat} {v : Nat → Int64} : cv (setC w c v) c 11 = v 11 := cv_self (by decide)
theorem cv12 {w : Wd} {c : Nat} {v : Nat → Int64} : cv (setC w c v) c 12 = v 12 := cv_self (by decide)
theorem cv13 {w : Wd} {c : Nat} {v : Nat → Int64} : cv (setC w c v) c 13 = v 13 := cv_self (by decide)
theorem cv14 {w : Wd} {c : Nat} {v : Nat → Int64} : cv (setC w c v) c 14 = v 14 := cv_self (by decide)
section XCM
variable {ev : Ev} {w : Wd} {c c2 fu : Nat} {k : Int64}
theorem X1_squareBy_01 (h : c < 118) : f_X1_squareBy fu ev (mem ev w) (ev.1 + cr c) 0 1 k = some (cv w c 0 + k * cv w c 5 + k * k * cv w c 1, mem ev w) := by
  simp only [b_X1_squareBy_0, f_X1_squareBy, bd2, Option.bind_some, setC_set, setC_up, upV_at, cv0, cv1, cv2, cv3, cv4, cv5, cv6, cv7, cv8, cv9, cv10, cv11, cv12, cv13, cv14, cf0 h, cf1 h, cf2 h, cf3 h, cis h, cr0 h, cr1 h, cr2 h, cl10 h, cl11 h, cl12 h, cl20 h, cl21 h, cl22 h, cl40 h, cl41 h, cl42 h, cl50 h, cl51 h, cl52 h, cl60 h, cl61 h, cl62 h, cs10 h, cs11 h, cs12 h, cs20 h, cs21 h, cs22 h, cs40 h, cs41 h, cs42 h, cs50 h, cs51 h, cs52 h, cs60 h, cs61 h, cs62 h, Int32.reduceAdd, Int32.reduceSub, Int32.reduceLE, Int32.reduceLT, Nat.reduceEqDiff, reduceIte]
theorem X1_squareBy_02 (h : c < 118) : f_X1_squareBy fu ev (mem ev w) (ev.1 + cr c) 0 2 k = some (cv w c 0 + k * cv w c 4 + k * k * cv w c 2, mem ev w) := by
  simp only [b_X1_squareBy_0, f_X1_squareBy, bd2, Option.bind_some, setC_set, setC_up, upV_at, cv0, cv1, cv2, cv3, cv4, cv5, cv6, cv7, cv8, cv9, cv10, cv11, cv12, cv13, cv14, cf0 h, cf1 h, cf2 h, cf3 h, cis h, cr0 h, cr1 h, cr2 h, cl10 h, cl11 h, cl12 h, cl20 h, cl21 h, cl22 h, cl40 h, cl41 h, cl42 h, cl50 h, cl51 h, cl52 h, cl60 h, cl61 h, cl62 h, cs10 h, cs11 h, cs12 h, cs20 h, cs21 h, cs22 h, cs40 h, cs41 h, cs42 h, cs50 h, cs51 h, cs52 h, cs60 h, cs61 h, cs62 h, Int32.reduceAdd, Int32.reduceSub, Int32.reduceLE, Int32.reduceLT, Nat.reduceEqDiff, reduceIte]
theorem X1_squareBy_10 (h : c < 118) : f_X1_squareBy fu ev (mem ev w) (ev.1 + cr c) 1 0 k = some (cv w c 1 + k * cv w c 5 + k * k * cv w c 0, mem ev w) := by
  simp only [b_X1_squareBy_0, f_X1_squareBy, bd2, Option.bind_some, setC_set, setC_up, upV_at, cv0, cv1, cv2, cv3, cv4, cv5, cv6, cv7, cv8, cv9, cv10, cv11, cv12, cv13, cv14, cf0 h, cf1 h, cf2 h, cf3 h, cis h, cr0 h, cr1 h, cr2 h, cl10 h, cl11 h, cl12 h, cl20 h, cl21 h, cl22 h, cl40 h, cl41 h, cl42 h, cl50 h, cl51 h, cl52 h, cl60 h, cl61 h, cl62 h, cs10 h, cs11 h, cs12 h, cs20 h, cs21 h, cs22 h, cs40 h, cs41 h, cs42 h, cs50 h, cs51 h, cs52 h, cs60 h, cs61 h, cs62 h, Int32.reduceAdd, Int32.reduceSub, Int32.reduceLE, Int32.reduceLT, Nat.reduceEqDiff, reduceIte]
theorem X1_squareBy_12 (h : c < 118) : f_X1_squareBy fu ev (mem ev w) (ev.1 + cr c) 1 2 k = some (cv w c 1 + k * cv w c 3 + k * k * cv w c 2, mem ev w) := by
  simp only [b_X1_squareBy_0, f_X1_squareBy, bd2, Option.bind_some, setC_set, setC_up, upV_at, cv0, cv1, cv2, cv3, cv4, cv5, cv6, cv7, cv8, cv9, cv10, cv11, cv12, cv13, cv14, cf0 h, cf1 h, cf2 h, cf3 h, cis h, cr0 h, cr1 h, cr2 h, cl10 h, cl11 h, cl12 h, cl20 h, cl21 h, cl22 h, cl40 h, cl41 h, cl42 h, cl50 h, cl51 h, cl52 h, cl60 h, cl61 h, cl62 h, cs10 h, cs11 h, cs12 h, cs20 h, cs21 h, cs22 h, cs40 h, cs41 h, cs42 h, cs50 h, cs51 h, cs52 h, cs60 h, cs61 h, cs62 h, Int32.reduceAdd, Int32.reduceSub, Int32.reduceLE, Int32.reduceLT, Nat.reduceEqDiff, reduceIte]
theorem X1_squareBy_20 (h : c < 118) : f_X1_squareBy fu ev (mem ev w) (ev.1 + cr c) 2 0 k = some (cv w c 2 + k * cv w c 4 + k * k * cv w c 0, mem ev w) := by
  simp only [b_X1_squareBy_0, f_X1_squareBy, bd2, Option.bind_some, setC_set, setC_up, upV_at, cv0, cv1, cv2, cv3, cv4, cv5, cv6, cv7, cv8, cv9, cv10, cv11, cv12, cv13, cv14, cf0 h, cf1 h, cf2 h, cf3 h, cis h, cr0 h, cr1 h, cr2 h, cl10 h, cl11 h, cl12 h, cl20 h, cl21 h, cl22 h, cl40 h, cl41 h, cl42 h, cl50 h, cl51 h, cl52 h, cl60 h, cl61 h, cl62 h, cs10 h, cs11 h, cs12 h, cs20 h, cs21 h, cs22 h, cs40 h, cs41 h, cs42 h, cs50 h, cs51 h, cs52 h, cs60 h, cs61 h, cs62 h, Int32.reduceAdd, Int32.reduceSub, Int32.reduceLE, Int32.reduceLT, Nat.reduceEqDiff, reduceIte]
theorem X1_squareBy_21 (h : c < 118) : f_X1_squareBy fu ev (mem ev w) (ev.1 + cr c) 2 1 k = some (cv w c 2 + k * cv w c 3 + k * k * cv w c 1, mem ev w) := by
  simp only [b_X1_squareBy_0, f_X1_squareBy, bd2, Option.bind_some, setC_set, setC_up, upV_at, cv0, cv1, cv2, cv3, cv4, cv5, cv6, cv7, cv8, cv9, cv10, cv11, cv12, cv13, cv14, cf0 h, cf1 h, cf2 h, cf3 h, cis h, cr0 h, cr1 h, cr2 h, cl10 h, cl11 h, cl12 h, cl20 h, cl21 h, cl22 h, cl40 h, cl41 h, cl42 h, cl50 h, cl51 h, cl52 h, cl60 h, cl61 h, cl62 h, cs10 h, cs11 h, cs12 h, cs20 h, cs21 h, cs22 h, cs40 h, cs41 h, cs42 h, cs50 h, cs51 h, cs52 h, cs60 h, cs61 h, cs62 h, Int32.reduceAdd, Int32.reduceSub, Int32.reduceLE, Int32.reduceLT, Nat.reduceEqDiff, reduceIte]
def sAdds (v : Nat → Int64) (i j t : Nat) (k : Int64) : Nat → Int64 := upV (upV (upV (upV (upV (upV v i (v i + k * v (3 + t) + k * k * v j)) (3 + j) (v (3 + j) + k * v (3 + i))) (3 + t) (v (3 + t) + 2 * k * v j)) (6 + 3 * i) (v (6 + 3 * i) + k * v (6 + 3 * j))) (7 + 3 * i) (v (7 + 3 * i) + k * v (7 + 3 * j))) (8 + 3 * i) (v (8 + 3 * i) + k * v (8 + 3 * j))
theorem X1_adds_01 (h : c < 118) (hf : 4 ≤ fu) : f_X1_adds fu ev (mem ev w) (ev.1 + cr c) 0 1 k = some ((), mem ev (setC w c (sAdds (cv w c) 0 1 2 k))) := by
  obtain ⟨m, rfl⟩ : ∃ m, fu = m + 4 := ⟨fu - 4, by omega⟩
  simp only [b_X1_adds_97, b_X1_adds_68, b_X1_adds_62, L_X1_adds_62, b_X1_adds_0, f_X1_adds, bd2, Option.bind_some, setC_set, setC_up, upV_at, cv0, cv1, cv2, cv3, cv4, cv5, cv6, cv7, cv8, cv9, cv10, cv11, cv12, cv13, cv14, cf0 h, cf1 h, cf2 h, cf3 h, cis h, cr0 h, cr1 h, cr2 h, cl10 h, cl11 h, cl12 h, cl20 h, cl21 h, cl22 h, cl40 h, cl41 h, cl42 h, cl50 h, cl51 h, cl52 h, cl60 h, cl61 h, cl62 h, cs10 h, cs11 h, cs12 h, cs20 h, cs21 h, cs22 h, cs40 h, cs41 h, cs42 h, cs50 h, cs51 h, cs52 h, cs60 h, cs61 h, cs62 h, Int32.reduceAdd, Int32.reduceSub, Int32.reduceLE, Int32.reduceLT, Nat.reduceEqDiff, reduceIte, X1_squareBy_01 h, sAdds, Nat.reduceAdd, Nat.reduceMul]
theorem X1_adds_02 (h : c < 118) (hf : 4 ≤ fu) : f_X1_adds fu ev (mem ev w) (ev.1 + cr c) 0 2 k = some ((), mem ev (setC w c (sAdds (cv w c) 0 2 1 k))) := by
  obtain ⟨m, rfl⟩ : ∃ m, fu = m + 4 := ⟨fu - 4, by omega⟩
  simp only [b_X1_adds_97, b_X1_adds_68, b_X1_adds_62, L_X1_adds_62, b_X1_adds_0, f_X1_adds, bd2, Option.bind_some, setC_set, setC_up, upV_at, cv0, cv1, cv2, cv3, cv4, cv5, cv6, cv7, cv8, cv9, cv10, cv11, cv12, cv13, cv14, cf0 h, cf1 h, cf2 h, cf3 h, cis h, cr0 h, cr1 h, cr2 h, cl10 h, cl11 h, cl12 h, cl20 h, cl21 h, cl22 h, cl40 h, cl41 h, cl42 h, cl50 h, cl51 h, cl52 h, cl60 h, cl61 h, cl62 h, cs10 h, cs11 h, cs12 h, cs20 h, cs21 h, cs22 h, cs40 h, cs41 h, cs42 h, cs50 h, cs51 h, cs52 h, cs60 h, cs61 h, cs62 h, Int32.reduceAdd, Int32.reduceSub, Int32.reduceLE, Int32.reduceLT, Nat.reduceEqDiff, reduceIte, X1_squareBy_02 h, sAdds, Nat.reduceAdd, Nat.reduceMul]
theorem X1_adds_10 (h : c < 118) (hf : 4 ≤ fu) : f_X1_adds fu ev (mem ev w) (ev.1 + cr c) 1 0 k = some ((), mem ev (setC w c (sAdds (cv w c) 1 0 2 k))) := by
  obtain ⟨m, rfl⟩ : ∃ m, fu = m + 4 := ⟨fu - 4, by omega⟩
  simp only [b_X1_adds_97, b_X1_adds_68, b_X1_adds_62, L_X1_adds_62, b_X1_adds_0, f_X1_adds, bd2, Option.bind_some, setC_set, setC_up, upV_at, cv0, cv1, cv2, cv3, cv4, cv5, cv6, cv7, cv8, cv9, cv10, cv11, cv12, cv13, cv14, cf0 h, cf1 h, cf2 h, cf3 h, cis h, cr0 h, cr1 h, cr2 h, cl10 h, cl11 h, cl12 h, cl20 h, cl21 h, cl22 h, cl40 h, cl41 h, cl42 h, cl50 h, cl51 h, cl52 h, cl60 h, cl61 h, cl62 h, cs10 h, cs11 h, cs12 h, cs20 h, cs21 h, cs22 h, cs40 h, cs41 h, cs42 h, cs50 h, cs51 h, cs52 h, cs60 h, cs61 h, cs62 h, Int32.reduceAdd, Int32.reduceSub, Int32.reduceLE, Int32.reduceLT, Nat.reduceEqDiff, reduceIte, X1_squareBy_10 h, sAdds, Nat.reduceAdd, Nat.reduceMul]
theorem X1_adds_12 (h : c < 118) (hf : 4 ≤ fu) : f_X1_adds fu ev (mem ev w) (ev.1 + cr c) 1 2 k = some ((), mem ev (setC w c (sAdds (cv w c) 1 2 0 k))) := by
  obtain ⟨m, rfl⟩ : ∃ m, fu = m + 4 := ⟨fu - 4, by omega⟩
  simp only [b_X1_adds_97, b_X1_adds_68, b_X1_adds_62, L_X1_adds_62, b_X1_adds_0, f_X1_adds, bd2, Option.bind_some, setC_set, setC_up, upV_at, cv0, cv1, cv2, cv3, cv4, cv5, cv6, cv7, cv8, cv9, cv10, cv11, cv12, cv13, cv14, cf0 h, cf1 h, cf2 h, cf3 h, cis h, cr0 h, cr1 h, cr2 h, cl10 h, cl11 h, cl12 h, cl20 h, cl21 h, cl22 h, cl40 h, cl41 h, cl42 h, cl50 h, cl51 h, cl52 h, cl60 h, cl61 h, cl62 h, cs10 h, cs11 h, cs12 h, cs20 h, cs21 h, cs22 h, cs40 h, cs41 h, cs42 h, cs50 h, cs51 h, cs52 h, cs60 h, cs61 h, cs62 h, Int32.reduceAdd, Int32.reduceSub, Int32.reduceLE, Int32.reduceLT, Nat.reduceEqDiff, reduceIte, X1_squareBy_12 h, sAdds, Nat.reduceAdd, Nat.reduceMul]
theorem X1_adds_20 (h : c < 118) (hf : 4 ≤ fu) : f_X1_adds fu ev (mem ev w) (ev.1 + cr c) 2 0 k = some ((), mem ev (setC w c (sAdds (cv w c) 2 0 1 k))) := by
  obtain ⟨m, rfl⟩ : ∃ m, fu = m + 4 := ⟨fu - 4, by omega⟩
  simp only [b_X1_adds_97, b_X1_adds_68, b_X1_adds_62, L_X1_adds_62, b_X1_adds_0, f_X1_adds, bd2, Option.bind_some, setC_set, setC_up, upV_at, cv0, cv1, cv2, cv3, cv4, cv5, cv6, cv7, cv8, cv9, cv10, cv11, cv12, cv13, cv14, cf0 h, cf1 h, cf2 h, cf3 h, cis h, cr0 h, cr1 h, cr2 h, cl10 h, cl11 h, cl12 h, cl20 h, cl21 h, cl22 h, cl40 h, cl41 h, cl42 h, cl50 h, cl51 h, cl52 h, cl60 h, cl61 h, cl62 h, cs10 h, cs11 h, cs12 h, cs20 h, cs21 h, cs22 h, cs40 h, cs41 h, cs42 h, cs50 h, cs51 h, cs52 h, cs60 h, cs61 h, cs62 h, Int32.reduceAdd, Int32.reduceSub, Int32.reduceLE, Int32.reduceLT, Nat.reduceEqDiff, reduceIte, X1_squareBy_20 h, sAdds, Nat.reduceAdd, Nat.reduceMul]
theorem X1_adds_21 (h : c < 118) (hf : 4 ≤ fu) : f_X1_adds fu ev (mem ev w) (ev.1 + cr c) 2 1 k = some ((), mem ev (setC w c (sAdds (cv w c) 2 1 0 k))) := by
  obtain ⟨m, rfl⟩ : ∃ m, fu = m + 4 := ⟨fu - 4, by omega⟩
  simp only [b_X1_adds_97, b_X1_adds_68, b_X1_adds_62, L_X1_adds_62, b_X1_adds_0, f_X1_adds, bd2, Option.bind_some, setC_set, setC_up, upV_at, cv0, cv1, cv2, cv3, cv4, cv5, cv6, cv7, cv8, cv9, cv10, cv11, cv12, cv13, cv14, cf0 h, cf1 h, cf2 h, cf3 h, cis h, cr0 h, cr1 h, cr2 h, cl10 h, cl11 h, cl12 h, cl20 h, cl21 h, cl22 h, cl40 h, cl41 h, cl42 h, cl50 h, cl51 h, cl52 h, cl60 h, cl61 h, cl62 h, cs10 h, cs11 h, cs12 h, cs20 h, cs21 h, cs22 h, cs40 h, cs41 h, cs42 h, cs50 h, cs51 h, cs52 h, cs60 h, cs61 h, cs62 h, Int32.reduceAdd, Int32.reduceSub, Int32.reduceLE, Int32.reduceLT, Nat.reduceEqDiff, reduceIte, X1_squareBy_21 h, sAdds, Nat.reduceAdd, Nat.reduceMul]
theorem ie_0_1 : ((0 : Int32) = 1) = False := eq_false (by decide)
theorem ie_0_2 : ((0 : Int32) = 2) = False := eq_false (by decide)
theorem ie_0_3 : ((0 : Int32) = 3) = False := eq_false (by decide)
theorem ie_0_4 : ((0 : Int32) = 4) = False := eq_false (by decide)
theorem ie_0_5 : ((0 : Int32) = 5) = False := eq_false (by decide)
theorem ie_0_6 : ((0 : Int32) = 6) = False := eq_false (by decide)
theorem ie_0_7 : ((0 : Int32) = 7) = False := eq_false (by decide)
theorem ie_0_8 : ((0 : Int32) = 8) = False := eq_false (by decide)
theorem ie_0_9 : ((0 : Int32) = 9) = False := eq_false (by decide)
theorem ie_1_0 : ((1 : Int32) = 0) = False := eq_false (by decide)
theorem ie_1_2 : ((1 : Int32) = 2) = False := eq_false (by decide)
theorem ie_1_3 : ((1 : Int32) = 3) = False := eq_false (by decide)
theorem ie_1_4 : ((1 : Int32) = 4) = False := eq_false (by decide)
theorem ie_1_5 : ((1 : Int32) = 5) = False := eq_false (by decide)
theorem ie_1_6 : ((1 : Int32) = 6) = False := eq_false (by decide)
theorem ie_1_7 : ((1 : Int32) = 7) = False := eq_false (by decide)
theorem ie_1_8 : ((1 : Int32) = 8) = False := eq_false (by decide)
theorem ie_1_9 : ((1 : Int32) = 9) = False := eq_false (by decide)
theorem ie_2_0 : ((2 : Int32) = 0) = False := eq_false (by decide)
theorem ie_2_1 : ((2 : Int32) = 1) = False := eq_false (by decide)
theorem ie_2_3 : ((2 : Int32) = 3) = False := eq_false (by decide)
theorem ie_2_4 : ((2 : Int32) = 4) = False := eq_false (by decide)
theorem ie_2_5 : ((2 : Int32) = 5) = False := eq_false (by decide)
theorem ie_2_6 : ((2 : Int32) = 6) = False := eq_false (by decide)
theorem ie_2_7 : ((2 : Int32) = 7) = False := eq_false (by decide)
theorem ie_2_8 : ((2 : Int32) = 8) = False := eq_false (by decide)
theorem ie_2_9 : ((2 : Int32) = 9) = False := eq_false (by decide)
theorem ie_3_0 : ((3 : Int32) = 0) = False := eq_false (by decide)
theorem ie_3_1 : ((3 : Int32) = 1) = False := eq_false (by decide)
theorem ie_3_2 : ((3 : Int32) = 2) = False := eq_false (by decide)
theorem ie_3_4 : ((3 : Int32) = 4) = False := eq_false (by decide)
theorem ie_3_5 : ((3 : Int32) = 5) = False := eq_false (by decide)
theorem ie_3_6 : ((3 : Int32) = 6) = False := eq_false (by decide)
theorem ie_3_7 : ((3 : Int32) = 7) = False := eq_false (by decide)
theorem ie_3_8 : ((3 : Int32) = 8) = False := eq_false (by decide)
theorem ie_3_9 : ((3 : Int32) = 9) = False := eq_false (by decide)
theorem ie_4_0 : ((4 : Int32) = 0) = False := eq_false (by decide)
theorem ie_4_1 : ((4 : Int32) = 1) = False := eq_false (by decide)
theorem ie_4_2 : ((4 : Int32) = 2) = False := eq_false (by decide)
theorem ie_4_3 : ((4 : Int32) = 3) = False := eq_false (by decide)
theorem ie_4_5 : ((4 : Int32) = 5) = False := eq_false (by decide)
theorem ie_4_6 : ((4 : Int32) = 6) = False := eq_false (by decide)
theorem ie_4_7 : ((4 : Int32) = 7) = False := eq_false (by decide)
theorem ie_4_8 : ((4 : Int32) = 8) = False := eq_false (by decide)
theorem ie_4_9 : ((4 : Int32) = 9) = False := eq_false (by decide)
theorem ie_5_0 : ((5 : Int32) = 0) = False := eq_false (by decide)
theorem ie_5_1 : ((5 : Int32) = 1) = False := eq_false (by decide)
theorem ie_5_2 : ((5 : Int32) = 2) = False := eq_false (by decide)
theorem ie_5_3 : ((5 : Int32) = 3) = False := eq_false (by decide)
theorem ie_5_4 : ((5 : Int32) = 4) = False := eq_false (by decide)
theorem ie_5_6 : ((5 : Int32) = 6) = False := eq_false (by decide)
theorem ie_5_7 : ((5 : Int32) = 7) = False := eq_false (by decide)
theorem ie_5_8 : ((5 : Int32) = 8) = False := eq_false (by decide)
theorem ie_5_9 : ((5 : Int32) = 9) = False := eq_false (by decide)
theorem ie_6_0 : ((6 : Int32) = 0) = False := eq_false (by decide)
theorem ie_6_1 : ((6 : Int32) = 1) = False := eq_false (by decide)
theorem ie_6_2 : ((6 : Int32) = 2) = False := eq_false (by decide)
theorem ie_6_3 : ((6 : Int32) = 3) = False := eq_false (by decide)
theorem ie_6_4 : ((6 : Int32) = 4) = False := eq_false (by decide)
theorem ie_6_5 : ((6 : Int32) = 5) = False := eq_false (by decide)
theorem ie_6_7 : ((6 : Int32) = 7) = False := eq_false (by decide)
theorem ie_6_8 : ((6 : Int32) = 8) = False := eq_false (by decide)
theorem ie_6_9 : ((6 : Int32) = 9) = False := eq_false (by decide)
theorem ie_7_0 : ((7 : Int32) = 0) = False := eq_false (by decide)
theorem ie_7_1 : ((7 : Int32) = 1) = False := eq_false (by decide)
theorem ie_7_2 : ((7 : Int32) = 2) = False := eq_false (by decide)
theorem ie_7_3 : ((7 : Int32) = 3) = False := eq_false (by decide)
theorem ie_7_4 : ((7 : Int32) = 4) = False := eq_false (by decide)
theorem ie_7_5 : ((7 : Int32) = 5) = False := eq_false (by decide)
theorem ie_7_6 : ((7 : Int32) = 6) = False := eq_false (by decide)
theorem ie_7_8 : ((7 : Int32) = 8) = False := eq_false (by decide)
theorem ie_7_9 : ((7 : Int32) = 9) = False := eq_false (by decide)
theorem ie_8_0 : ((8 : Int32) = 0) = False := eq_false (by decide)
theorem ie_8_1 : ((8 : Int32) = 1) = False := eq_false (by decide)
theorem ie_8_2 : ((8 : Int32) = 2) = False := eq_false (by decide)
theorem ie_8_3 : ((8 : Int32) = 3) = False := eq_false (by decide)
theorem ie_8_4 : ((8 : Int32) = 4) = False := eq_false (by decide)
theorem ie_8_5 : ((8 : Int32) = 5) = False := eq_false (by decide)
theorem ie_8_6 : ((8 : Int32) = 6) = False := eq_false (by decide)
theorem ie_8_7 : ((8 : Int32) = 7) = False := eq_false (by decide)
theorem ie_8_9 : ((8 : Int32) = 9) = False := eq_false (by decide)
theorem ie_9_0 : ((9 : Int32) = 0) = False := eq_false (by decide)
theorem ie_9_1 : ((9 : Int32) = 1) = False := eq_false (by decide)
theorem ie_9_2 : ((9 : Int32) = 2) = False := eq_false (by decide)
theorem ie_9_3 : ((9 : Int32) = 3) = False := eq_false (by decide)
theorem ie_9_4 : ((9 : Int32) = 4) = False := eq_false (by decide)
theorem ie_9_5 : ((9 : Int32) = 5) = False := eq_false (by decide)
theorem ie_9_6 : ((9 : Int32) = 6) = False := eq_false (by decide)
theorem ie_9_7 : ((9 : Int32) = 7) = False := eq_false (by decide)
theorem ie_9_8 : ((9 : Int32) = 8) = False := eq_false (by decide)
theorem ie_m : ((-1 : Int32) = 1) = False := eq_false (by decide)
theorem zb1 : zbI 1 = some () := rfl
theorem zb0 : zbI 0 = some () := rfl
def sFresh (v : Nat → Int64) : Nat → Int64 := upV (upV (upV (upV (upV (upV (upV (upV (upV v 6 1) 7 0) 8 0) 9 0) 10 1) 11 0) 12 0) 13 0) 14 1
theorem X1_asItCame (h : c < 118) (hf : 4 ≤ fu) : f_X1_asItCame fu ev (mem ev w) (ev.1 + cr c) = some (some (ev.1 + cr c), mem ev (setC w c (sFresh (cv w c)))) := by
  obtain ⟨m, rfl⟩ : ∃ m, fu = m + 4 := ⟨fu - 4, by omega⟩
  simp only [b_X1_asItCame_44, b_X1_asItCame_38, b_X1_asItCame_31, b_X1_asItCame_30, b_X1_asItCame_26, b_X1_asItCame_14, b_X1_asItCame_9, L_X1_asItCame_9, b_X1_asItCame_7, b_X1_asItCame_2, L_X1_asItCame_2, b_X1_asItCame_0, f_X1_asItCame, bd2, Option.bind_some, setC_set, setC_up, upV_at, cv0, cv1, cv2, cv3, cv4, cv5, cv6, cv7, cv8, cv9, cv10, cv11, cv12, cv13, cv14, cf0 h, cf1 h, cf2 h, cf3 h, cis h, cr0 h, cr1 h, cr2 h, cl10 h, cl11 h, cl12 h, cl20 h, cl21 h, cl22 h, cl40 h, cl41 h, cl42 h, cl50 h, cl51 h, cl52 h, cl60 h, cl61 h, cl62 h, cs10 h, cs11 h, cs12 h, cs20 h, cs21 h, cs22 h, cs40 h, cs41 h, cs42 h, cs50 h, cs51 h, cs52 h, cs60 h, cs61 h, cs62 h, Int32.reduceAdd, Int32.reduceSub, Int32.reduceLE, Int32.reduceLT, Nat.reduceEqDiff, reduceIte, sFresh, ie_0_1, ie_0_2, ie_0_3, ie_1_0, ie_1_2, ie_1_3, ie_2_0, ie_2_1, ie_2_3, ie_3_0, ie_3_1, ie_3_2]
def sTell (a b c x y z : Int64) : Nat → Int64 := upV (upV (upV (upV (upV (upV (sFresh fun _ => 0) 0 a) 1 b) 2 c) 3 x) 4 y) 5 z
theorem X1_tells (h : c < 118) (hf : 4 ≤ fu) {a1 a2 a3 a4 a5 a6 : Int64} : f_X1_tells fu ev (mem ev w) (ev.1 + cr c) a1 a2 a3 a4 a5 a6 = some (some (ev.1 + cr c), mem ev (setC w c (sTell a1 a2 a3 a4 a5 a6))) := by
  simp only [b_X1_tells_0, f_X1_tells, bd2, Option.bind_some, setC_set, setC_up, upV_at, cv0, cv1, cv2, cv3, cv4, cv5, cv6, cv7, cv8, cv9, cv10, cv11, cv12, cv13, cv14, cf0 h, cf1 h, cf2 h, cf3 h, cis h, cr0 h, cr1 h, cr2 h, cl10 h, cl11 h, cl12 h, cl20 h, cl21 h, cl22 h, cl40 h, cl41 h, cl42 h, cl50 h, cl51 h, cl52 h, cl60 h, cl61 h, cl62 h, cs10 h, cs11 h, cs12 h, cs20 h, cs21 h, cs22 h, cs40 h, cs41 h, cs42 h, cs50 h, cs51 h, cs52 h, cs60 h, cs61 h, cs62 h, Int32.reduceAdd, Int32.reduceSub, Int32.reduceLE, Int32.reduceLT, Nat.reduceEqDiff, reduceIte, X1_asItCame h hf]
  refine congrArg (fun z => some (some (ev.1 + cr c), mem ev z)) (setC_ext fun i hi => ?_)
  match i, hi with
  | 0, _ => simp only [sFresh, sTell, upV_at, cv0, Nat.reduceEqDiff, reduceIte]
  | 1, _ => simp only [sFresh, sTell, upV_at, cv1, Nat.reduceEqDiff, reduceIte]
  | 2, _ => simp only [sFresh, sTell, upV_at, cv2, Nat.reduceEqDiff, reduceIte]
  | 3, _ => simp only [sFresh, sTell, upV_at, cv3, Nat.reduceEqDiff, reduceIte]
  | 4, _ => simp only [sFresh, sTell, upV_at, cv4, Nat.reduceEqDiff, reduceIte]
  | 5, _ => simp only [sFresh, sTell, upV_at, cv5, Nat.reduceEqDiff, reduceIte]
  | 6, _ => simp only [sFresh, sTell, upV_at, cv6, Nat.reduceEqDiff, reduceIte]
  | 7, _ => simp only [sFresh, sTell, upV_at, cv7, Nat.reduceEqDiff, reduceIte]
  | 8, _ => simp only [sFresh, sTell, upV_at, cv8, Nat.reduceEqDiff, reduceIte]
  | 9, _ => simp only [sFresh, sTell, upV_at, cv9, Nat.reduceEqDiff, reduceIte]
  | 10, _ => simp only [sFresh, sTell, upV_at, cv10, Nat.reduceEqDiff, reduceIte]
  | 11, _ => simp only [sFresh, sTell, upV_at, cv11, Nat.reduceEqDiff, reduceIte]
  | 12, _ => simp only [sFresh, sTell, upV_at, cv12, Nat.reduceEqDiff, reduceIte]
  | 13, _ => simp only [sFresh, sTell, upV_at, cv13, Nat.reduceEqDiff, reduceIte]
  | 14, _ => simp only [sFresh, sTell, upV_at, cv14, Nat.reduceEqDiff, reduceIte]
theorem X1_six_0 (h : c < 118) : f_X1_six fu ev (mem ev w) (ev.1 + cr c) 0 = some (cv w c 0, mem ev w) := by
  simp only [b_X1_six_22, b_X1_six_14, b_X1_six_5, b_X1_six_0, f_X1_six, bd2, Option.bind_some, setC_set, setC_up, upV_at, cv0, cv1, cv2, cv3, cv4, cv5, cv6, cv7, cv8, cv9, cv10, cv11, cv12, cv13, cv14, cf0 h, cf1 h, cf2 h, cf3 h, cis h, cr0 h, cr1 h, cr2 h, cl10 h, cl11 h, cl12 h, cl20 h, cl21 h, cl22 h, cl40 h, cl41 h, cl42 h, cl50 h, cl51 h, cl52 h, cl60 h, cl61 h, cl62 h, cs10 h, cs11 h, cs12 h, cs20 h, cs21 h, cs22 h, cs40 h, cs41 h, cs42 h, cs50 h, cs51 h, cs52 h, cs60 h, cs61 h, cs62 h, Int32.reduceAdd, Int32.reduceSub, Int32.reduceLE, Int32.reduceLT, Nat.reduceEqDiff, reduceIte]
theorem X1_six_1 (h : c < 118) : f_X1_six fu ev (mem ev w) (ev.1 + cr c) 1 = some (cv w c 1, mem ev w) := by
  simp only [b_X1_six_22, b_X1_six_14, b_X1_six_5, b_X1_six_0, f_X1_six, bd2, Option.bind_some, setC_set, setC_up, upV_at, cv0, cv1, cv2, cv3, cv4, cv5, cv6, cv7, cv8, cv9, cv10, cv11, cv12, cv13, cv14, cf0 h, cf1 h, cf2 h, cf3 h, cis h, cr0 h, cr1 h, cr2 h, cl10 h, cl11 h, cl12 h, cl20 h, cl21 h, cl22 h, cl40 h, cl41 h, cl42 h, cl50 h, cl51 h, cl52 h, cl60 h, cl61 h, cl62 h, cs10 h, cs11 h, cs12 h, cs20 h, cs21 h, cs22 h, cs40 h, cs41 h, cs42 h, cs50 h, cs51 h, cs52 h, cs60 h, cs61 h, cs62 h, Int32.reduceAdd, Int32.reduceSub, Int32.reduceLE, Int32.reduceLT, Nat.reduceEqDiff, reduceIte]
theorem X1_six_2 (h : c < 118) : f_X1_six fu ev (mem ev w) (ev.1 + cr c) 2 = some (cv w c 2, mem ev w) := by
  simp only [b_X1_six_22, b_X1_six_14, b_X1_six_5, b_X1_six_0, f_X1_six, bd2, Option.bind_some, setC_set, setC_up, upV_at, cv0, cv1, cv2, cv3, cv4, cv5, cv6, cv7, cv8, cv9, cv10, cv11, cv12, cv13, cv14, cf0 h, cf1 h, cf2 h, cf3 h, cis h, cr0 h, cr1 h, cr2 h, cl10 h, cl11 h, cl12 h, cl20 h, cl21 h, cl22 h, cl40 h, cl41 h, cl42 h, cl50 h, cl51 h, cl52 h, cl60 h, cl61 h, cl62 h, cs10 h, cs11 h, cs12 h, cs20 h, cs21 h, cs22 h, cs40 h, cs41 h, cs42 h, cs50 h, cs51 h, cs52 h, cs60 h, cs61 h, cs62 h, Int32.reduceAdd, Int32.reduceSub, Int32.reduceLE, Int32.reduceLT, Nat.reduceEqDiff, reduceIte]
theorem X1_six_3 (h : c < 118) : f_X1_six fu ev (mem ev w) (ev.1 + cr c) 3 = some (cv w c 3, mem ev w) := by
  simp only [b_X1_six_22, b_X1_six_14, b_X1_six_5, b_X1_six_0, f_X1_six, bd2, Option.bind_some, setC_set, setC_up, upV_at, cv0, cv1, cv2, cv3, cv4, cv5, cv6, cv7, cv8, cv9, cv10, cv11, cv12, cv13, cv14, cf0 h, cf1 h, cf2 h, cf3 h, cis h, cr0 h, cr1 h, cr2 h, cl10 h, cl11 h, cl12 h, cl20 h, cl21 h, cl22 h, cl40 h, cl41 h, cl42 h, cl50 h, cl51 h, cl52 h, cl60 h, cl61 h, cl62 h, cs10 h, cs11 h, cs12 h, cs20 h, cs21 h, cs22 h, cs40 h, cs41 h, cs42 h, cs50 h, cs51 h, cs52 h, cs60 h, cs61 h, cs62 h, Int32.reduceAdd, Int32.reduceSub, Int32.reduceLE, Int32.reduceLT, Nat.reduceEqDiff, reduceIte]
theorem X1_six_4 (h : c < 118) : f_X1_six fu ev (mem ev w) (ev.1 + cr c) 4 = some (cv w c 4, mem ev w) := by
  simp only [b_X1_six_22, b_X1_six_14, b_X1_six_5, b_X1_six_0, f_X1_six, bd2, Option.bind_some, setC_set, setC_up, upV_at, cv0, cv1, cv2, cv3, cv4, cv5, cv6, cv7, cv8, cv9, cv10, cv11, cv12, cv13, cv14, cf0 h, cf1 h, cf2 h, cf3 h, cis h, cr0 h, cr1 h, cr2 h, cl10 h, cl11 h, cl12 h, cl20 h, cl21 h, cl22 h, cl40 h, cl41 h, cl42 h, cl50 h, cl51 h, cl52 h, cl60 h, cl61 h, cl62 h, cs10 h, cs11 h, cs12 h, cs20 h, cs21 h, cs22 h, cs40 h, cs41 h, cs42 h, cs50 h, cs51 h, cs52 h, cs60 h, cs61 h, cs62 h, Int32.reduceAdd, Int32.reduceSub, Int32.reduceLE, Int32.reduceLT, Nat.reduceEqDiff, reduceIte]
theorem X1_six_5 (h : c < 118) : f_X1_six fu ev (mem ev w) (ev.1 + cr c) 5 = some (cv w c 5, mem ev w) := by
  simp only [b_X1_six_22, b_X1_six_14, b_X1_six_5, b_X1_six_0, f_X1_six, bd2, Option.bind_some, setC_set, setC_up, upV_at, cv0, cv1, cv2, cv3, cv4, cv5, cv6, cv7, cv8, cv9, cv10, cv11, cv12, cv13, cv14, cf0 h, cf1 h, cf2 h, cf3 h, cis h, cr0 h, cr1 h, cr2 h, cl10 h, cl11 h, cl12 h, cl20 h, cl21 h, cl22 h, cl40 h, cl41 h, cl42 h, cl50 h, cl51 h, cl52 h, cl60 h, cl61 h, cl62 h, cs10 h, cs11 h, cs12 h, cs20 h, cs21 h, cs22 h, cs40 h, cs41 h, cs42 h, cs50 h, cs51 h, cs52 h, cs60 h, cs61 h, cs62 h, Int32.reduceAdd, Int32.reduceSub, Int32.reduceLE, Int32.reduceLT, Nat.reduceEqDiff, reduceIte]
def sVol (v : Nat → Int64) : Int64 := 4 * v 0 * v 1 * v 2 + v 3 * v 4 * v 5 - v 0 * v 3 * v 3 - v 1 * v 4 * v 4 - v 2 * v 5 * v 5
theorem X1_volume (h : c < 118) : f_X1_volume fu ev (mem ev w) (ev.1 + cr c) = some (sVol (cv w c), mem ev w) := by
  simp only [b_X1_volume_0, f_X1_volume, bd2, Option.bind_some, setC_set, setC_up, upV_at, cv0, cv1, cv2, cv3, cv4, cv5, cv6, cv7, cv8, cv9, cv10, cv11, cv12, cv13, cv14, cf0 h, cf1 h, cf2 h, cf3 h, cis h, cr0 h, cr1 h, cr2 h, cl10 h, cl11 h, cl12 h, cl20 h, cl21 h, cl22 h, cl40 h, cl41 h, cl42 h, cl50 h, cl51 h, cl52 h, cl60 h, cl61 h, cl62 h, cs10 h, cs11 h, cs12 h, cs20 h, cs21 h, cs22 h, cs40 h, cs41 h, cs42 h, cs50 h, cs51 h, cs52 h, cs60 h, cs61 h, cs62 h, Int32.reduceAdd, Int32.reduceSub, Int32.reduceLE, Int32.reduceLT, Nat.reduceEqDiff, reduceIte, sVol]
theorem X1_sum (h : c < 118) : f_X1_sum fu ev (mem ev w) (ev.1 + cr c) = some (cv w c 3 + cv w c 4 + cv w c 5 + cv w c 0 + cv w c 1, mem ev w) := by
  simp only [b_X1_sum_0, f_X1_sum, bd2, Option.bind_some, setC_set, setC_up, upV_at, cv0, cv1, cv2, cv3, cv4, cv5, cv6, cv7, cv8, cv9, cv10, cv11, cv12, cv13, cv14, cf0 h, cf1 h, cf2 h, cf3 h, cis h, cr0 h, cr1 h, cr2 h, cl10 h, cl11 h, cl12 h, cl20 h, cl21 h, cl22 h, cl40 h, cl41 h, cl42 h, cl50 h, cl51 h, cl52 h, cl60 h, cl61 h, cl62 h, cs10 h, cs11 h, cs12 h, cs20 h, cs21 h, cs22 h, cs40 h, cs41 h, cs42 h, cs50 h, cs51 h, cs52 h, cs60 h, cs61 h, cs62 h, Int32.reduceAdd, Int32.reduceSub, Int32.reduceLE, Int32.reduceLT, Nat.reduceEqDiff, reduceIte]
def sTurn (v : Nat → Int64) (i : Nat) : Nat → Int64 := fun j => if 3 ≤ j ∧ j < 6 then (if j = 3 + i then v j else -v j) else if 6 + 3 * i ≤ j ∧ j < 9 + 3 * i then -v j else v j
theorem X1_turns_0 (h : c < 118) (hf : 4 ≤ fu) : f_X1_turns fu ev (mem ev w) (ev.1 + cr c) 0 = some ((), mem ev (setC w c (sTurn (cv w c) 0))) := by
  obtain ⟨m, rfl⟩ : ∃ m, fu = m + 4 := ⟨fu - 4, by omega⟩
  simp only [b_X1_turns_57, b_X1_turns_33, b_X1_turns_26, b_X1_turns_17, b_X1_turns_7, b_X1_turns_2, L_X1_turns_2, b_X1_turns_0, f_X1_turns, bd2, Option.bind_some, setC_set, setC_up, upV_at, cv0, cv1, cv2, cv3, cv4, cv5, cv6, cv7, cv8, cv9, cv10, cv11, cv12, cv13, cv14, cf0 h, cf1 h, cf2 h, cf3 h, cis h, cr0 h, cr1 h, cr2 h, cl10 h, cl11 h, cl12 h, cl20 h, cl21 h, cl22 h, cl40 h, cl41 h, cl42 h, cl50 h, cl51 h, cl52 h, cl60 h, cl61 h, cl62 h, cs10 h, cs11 h, cs12 h, cs20 h, cs21 h, cs22 h, cs40 h, cs41 h, cs42 h, cs50 h, cs51 h, cs52 h, cs60 h, cs61 h, cs62 h, Int32.reduceAdd, Int32.reduceSub, Int32.reduceLE, Int32.reduceLT, Nat.reduceEqDiff, reduceIte, ie_0_1, ie_0_2, ie_0_3, ie_1_0, ie_1_2, ie_1_3, ie_2_0, ie_2_1, ie_2_3, ie_3_0, ie_3_1, ie_3_2]
  refine congrArg (fun z => some ((), mem ev z)) (setC_ext fun i hi => ?_)
  match i, hi with
  | 0, _ => simp only [sTurn, upV_at, cv0, Nat.reduceEqDiff, Nat.reduceMul, Nat.reduceAdd, Nat.reduceLeDiff, Nat.reduceLT, and_self, and_true, true_and, and_false, false_and, reduceIte]
  | 1, _ => simp only [sTurn, upV_at, cv1, Nat.reduceEqDiff, Nat.reduceMul, Nat.reduceAdd, Nat.reduceLeDiff, Nat.reduceLT, and_self, and_true, true_and, and_false, false_and, reduceIte]
  | 2, _ => simp only [sTurn, upV_at, cv2, Nat.reduceEqDiff, Nat.reduceMul, Nat.reduceAdd, Nat.reduceLeDiff, Nat.reduceLT, and_self, and_true, true_and, and_false, false_and, reduceIte]
  | 3, _ => simp only [sTurn, upV_at, cv3, Nat.reduceEqDiff, Nat.reduceMul, Nat.reduceAdd, Nat.reduceLeDiff, Nat.reduceLT, and_self, and_true, true_and, and_false, false_and, reduceIte]
  | 4, _ => simp only [sTurn, upV_at, cv4, Nat.reduceEqDiff, Nat.reduceMul, Nat.reduceAdd, Nat.reduceLeDiff, Nat.reduceLT, and_self, and_true, true_and, and_false, false_and, reduceIte]
  | 5, _ => simp only [sTurn, upV_at, cv5, Nat.reduceEqDiff, Nat.reduceMul, Nat.reduceAdd, Nat.reduceLeDiff, Nat.reduceLT, and_self, and_true, true_and, and_false, false_and, reduceIte]
  | 6, _ => simp only [sTurn, upV_at, cv6, Nat.reduceEqDiff, Nat.reduceMul, Nat.reduceAdd, Nat.reduceLeDiff, Nat.reduceLT, and_self, and_true, true_and, and_false, false_and, reduceIte]
  | 7, _ => simp only [sTurn, upV_at, cv7, Nat.reduceEqDiff, Nat.reduceMul, Nat.reduceAdd, Nat.reduceLeDiff, Nat.reduceLT, and_self, and_true, true_and, and_false, false_and, reduceIte]
  | 8, _ => simp only [sTurn, upV_at, cv8, Nat.reduceEqDiff, Nat.reduceMul, Nat.reduceAdd, Nat.reduceLeDiff, Nat.reduceLT, and_self, and_true, true_and, and_false, false_and, reduceIte]
  | 9, _ => simp only [sTurn, upV_at, cv9, Nat.reduceEqDiff, Nat.reduceMul, Nat.reduceAdd, Nat.reduceLeDiff, Nat.reduceLT, and_self, and_true, true_and, and_false, false_and, reduceIte]
  | 10, _ => simp only [sTurn, upV_at, cv10, Nat.reduceEqDiff, Nat.reduceMul, Nat.reduceAdd, Nat.reduceLeDiff, Nat.reduceLT, and_self, and_true, true_and, and_false, false_and, reduceIte]
  | 11, _ => simp only [sTurn, upV_at, cv11, Nat.reduceEqDiff, Nat.reduceMul, Nat.reduceAdd, Nat.reduceLeDiff, Nat.reduceLT, and_self, and_true, true_and, and_false, false_and, reduceIte]
  | 12, _ => simp only [sTurn, upV_at, cv12, Nat.reduceEqDiff, Nat.reduceMul, Nat.reduceAdd, Nat.reduceLeDiff, Nat.reduceLT, and_self, and_true, true_and, and_false, false_and, reduceIte]
  | 13, _ => simp only [sTurn, upV_at, cv13, Nat.reduceEqDiff, Nat.reduceMul, Nat.reduceAdd, Nat.reduceLeDiff, Nat.reduceLT, and_self, and_true, true_and, and_false, false_and, reduceIte]
  | 14, _ => simp only [sTurn, upV_at, cv14, Nat.reduceEqDiff, Nat.reduceMul, Nat.reduceAdd, Nat.reduceLeDiff, Nat.reduceLT, and_self, and_true, true_and, and_false, false_and, reduceIte]
theorem X1_turns_1 (h : c < 118) (hf : 4 ≤ fu) : f_X1_turns fu ev (mem ev w) (ev.1 + cr c) 1 = some ((), mem ev (setC w c (sTurn (cv w c) 1))) := by
  obtain ⟨m, rfl⟩ : ∃ m, fu = m + 4 := ⟨fu - 4, by omega⟩
  simp only [b_X1_turns_57, b_X1_turns_33, b_X1_turns_26, b_X1_turns_17, b_X1_turns_7, b_X1_turns_2, L_X1_turns_2, b_X1_turns_0, f_X1_turns, bd2, Option.bind_some, setC_set, setC_up, upV_at, cv0, cv1, cv2, cv3, cv4, cv5, cv6, cv7, cv8, cv9, cv10, cv11, cv12, cv13, cv14, cf0 h, cf1 h, cf2 h, cf3 h, cis h, cr0 h, cr1 h, cr2 h, cl10 h, cl11 h, cl12 h, cl20 h, cl21 h, cl22 h, cl40 h, cl41 h, cl42 h, cl50 h, cl51 h, cl52 h, cl60 h, cl61 h, cl62 h, cs10 h, cs11 h, cs12 h, cs20 h, cs21 h, cs22 h, cs40 h, cs41 h, cs42 h, cs50 h, cs51 h, cs52 h, cs60 h, cs61 h, cs62 h, Int32.reduceAdd, Int32.reduceSub, Int32.reduceLE, Int32.reduceLT, Nat.reduceEqDiff, reduceIte, ie_0_1, ie_0_2, ie_0_3, ie_1_0, ie_1_2, ie_1_3, ie_2_0, ie_2_1, ie_2_3, ie_3_0, ie_3_1, ie_3_2]
  refine congrArg (fun z => some ((), mem ev z)) (setC_ext fun i hi => ?_)
  match i, hi with
  | 0, _ => simp only [sTurn, upV_at, cv0, Nat.reduceEqDiff, Nat.reduceMul, Nat.reduceAdd, Nat.reduceLeDiff, Nat.reduceLT, and_self, and_true, true_and, and_false, false_and, reduceIte]
  | 1, _ => simp only [sTurn, upV_at, cv1, Nat.reduceEqDiff, Nat.reduceMul, Nat.reduceAdd, Nat.reduceLeDiff, Nat.reduceLT, and_self, and_true, true_and, and_false, false_and, reduceIte]
  | 2, _ => simp only [sTurn, upV_at, cv2, Nat.reduceEqDiff, Nat.reduceMul, Nat.reduceAdd, Nat.reduceLeDiff, Nat.reduceLT, and_self, and_true, true_and, and_false, false_and, reduceIte]
  | 3, _ => simp only [sTurn, upV_at, cv3, Nat.reduceEqDiff, Nat.reduceMul, Nat.reduceAdd, Nat.reduceLeDiff, Nat.reduceLT, and_self, and_true, true_and, and_false, false_and, reduceIte]
  | 4, _ => simp only [sTurn, upV_at, cv4, Nat.reduceEqDiff, Nat.reduceMul, Nat.reduceAdd, Nat.reduceLeDiff, Nat.reduceLT, and_self, and_true, true_and, and_false, false_and, reduceIte]
  | 5, _ => simp only [sTurn, upV_at, cv5, Nat.reduceEqDiff, Nat.reduceMul, Nat.reduceAdd, Nat.reduceLeDiff, Nat.reduceLT, and_self, and_true, true_and, and_false, false_and, reduceIte]
  | 6, _ => simp only [sTurn, upV_at, cv6, Nat.reduceEqDiff, Nat.reduceMul, Nat.reduceAdd, Nat.reduceLeDiff, Nat.reduceLT, and_self, and_true, true_and, and_false, false_and, reduceIte]
  | 7, _ => simp only [sTurn, upV_at, cv7, Nat.reduceEqDiff, Nat.reduceMul, Nat.reduceAdd, Nat.reduceLeDiff, Nat.reduceLT, and_self, and_true, true_and, and_false, false_and, reduceIte]
  | 8, _ => simp only [sTurn, upV_at, cv8, Nat.reduceEqDiff, Nat.reduceMul, Nat.reduceAdd, Nat.reduceLeDiff, Nat.reduceLT, and_self, and_true, true_and, and_false, false_and, reduceIte]
  | 9, _ => simp only [sTurn, upV_at, cv9, Nat.reduceEqDiff, Nat.reduceMul, Nat.reduceAdd, Nat.reduceLeDiff, Nat.reduceLT, and_self, and_true, true_and, and_false, false_and, reduceIte]
  | 10, _ => simp only [sTurn, upV_at, cv10, Nat.reduceEqDiff, Nat.reduceMul, Nat.reduceAdd, Nat.reduceLeDiff, Nat.reduceLT, and_self, and_true, true_and, and_false, false_and, reduceIte]
  | 11, _ => simp only [sTurn, upV_at, cv11, Nat.reduceEqDiff, Nat.reduceMul, Nat.reduceAdd, Nat.reduceLeDiff, Nat.reduceLT, and_self, and_true, true_and, and_false, false_and, reduceIte]
  | 12, _ => simp only [sTurn, upV_at, cv12, Nat.reduceEqDiff, Nat.reduceMul, Nat.reduceAdd, Nat.reduceLeDiff, Nat.reduceLT, and_self, and_true, true_and, and_false, false_and, reduceIte]
  | 13, _ => simp only [sTurn, upV_at, cv13, Nat.reduceEqDiff, Nat.reduceMul, Nat.reduceAdd, Nat.reduceLeDiff, Nat.reduceLT, and_self, and_true, true_and, and_false, false_and, reduceIte]
  | 14, _ => simp only [sTurn, upV_at, cv14, Nat.reduceEqDiff, Nat.reduceMul, Nat.reduceAdd, Nat.reduceLeDiff, Nat.reduceLT, and_self, and_true, true_and, and_false, false_and, reduceIte]
theorem X1_turns_2 (h : c < 118) (hf : 4 ≤ fu) : f_X1_turns fu ev (mem ev w) (ev.1 + cr c) 2 = some ((), mem ev (setC w c (sTurn (cv w c) 2))) := by
  obtain ⟨m, rfl⟩ : ∃ m, fu = m + 4 := ⟨fu - 4, by omega⟩
  simp only [b_X1_turns_57, b_X1_turns_33, b_X1_turns_26, b_X1_turns_17, b_X1_turns_7, b_X1_turns_2, L_X1_turns_2, b_X1_turns_0, f_X1_turns, bd2, Option.bind_some, setC_set, setC_up, upV_at, cv0, cv1, cv2, cv3, cv4, cv5, cv6, cv7, cv8, cv9, cv10, cv11, cv12, cv13, cv14, cf0 h, cf1 h, cf2 h, cf3 h, cis h, cr0 h, cr1 h, cr2 h, cl10 h, cl11 h, cl12 h, cl20 h, cl21 h, cl22 h, cl40 h, cl41 h, cl42 h, cl50 h, cl51 h, cl52 h, cl60 h, cl61 h, cl62 h, cs10 h, cs11 h, cs12 h, cs20 h, cs21 h, cs22 h, cs40 h, cs41 h, cs42 h, cs50 h, cs51 h, cs52 h, cs60 h, cs61 h, cs62 h, Int32.reduceAdd, Int32.reduceSub, Int32.reduceLE, Int32.reduceLT, Nat.reduceEqDiff, reduceIte, ie_0_1, ie_0_2, ie_0_3, ie_1_0, ie_1_2, ie_1_3, ie_2_0, ie_2_1, ie_2_3, ie_3_0, ie_3_1, ie_3_2]
  refine congrArg (fun z => some ((), mem ev z)) (setC_ext fun i hi => ?_)
  match i, hi with
  | 0, _ => simp only [sTurn, upV_at, cv0, Nat.reduceEqDiff, Nat.reduceMul, Nat.reduceAdd, Nat.reduceLeDiff, Nat.reduceLT, and_self, and_true, true_and, and_false, false_and, reduceIte]
  | 1, _ => simp only [sTurn, upV_at, cv1, Nat.reduceEqDiff, Nat.reduceMul, Nat.reduceAdd, Nat.reduceLeDiff, Nat.reduceLT, and_self, and_true, true_and, and_false, false_and, reduceIte]
  | 2, _ => simp only [sTurn, upV_at, cv2, Nat.reduceEqDiff, Nat.reduceMul, Nat.reduceAdd, Nat.reduceLeDiff, Nat.reduceLT, and_self, and_true, true_and, and_false, false_and, reduceIte]
  | 3, _ => simp only [sTurn, upV_at, cv3, Nat.reduceEqDiff, Nat.reduceMul, Nat.reduceAdd, Nat.reduceLeDiff, Nat.reduceLT, and_self, and_true, true_and, and_false, false_and, reduceIte]
  | 4, _ => simp only [sTurn, upV_at, cv4, Nat.reduceEqDiff, Nat.reduceMul, Nat.reduceAdd, Nat.reduceLeDiff, Nat.reduceLT, and_self, and_true, true_and, and_false, false_and, reduceIte]
  | 5, _ => simp only [sTurn, upV_at, cv5, Nat.reduceEqDiff, Nat.reduceMul, Nat.reduceAdd, Nat.reduceLeDiff, Nat.reduceLT, and_self, and_true, true_and, and_false, false_and, reduceIte]
  | 6, _ => simp only [sTurn, upV_at, cv6, Nat.reduceEqDiff, Nat.reduceMul, Nat.reduceAdd, Nat.reduceLeDiff, Nat.reduceLT, and_self, and_true, true_and, and_false, false_and, reduceIte]
  | 7, _ => simp only [sTurn, upV_at, cv7, Nat.reduceEqDiff, Nat.reduceMul, Nat.reduceAdd, Nat.reduceLeDiff, Nat.reduceLT, and_self, and_true, true_and, and_false, false_and, reduceIte]
  | 8, _ => simp only [sTurn, upV_at, cv8, Nat.reduceEqDiff, Nat.reduceMul, Nat.reduceAdd, Nat.reduceLeDiff, Nat.reduceLT, and_self, and_true, true_and, and_false, false_and, reduceIte]
  | 9, _ => simp only [sTurn, upV_at, cv9, Nat.reduceEqDiff, Nat.reduceMul, Nat.reduceAdd, Nat.reduceLeDiff, Nat.reduceLT, and_self, and_true, true_and, and_false, false_and, reduceIte]
  | 10, _ => simp only [sTurn, upV_at, cv10, Nat.reduceEqDiff, Nat.reduceMul, Nat.reduceAdd, Nat.reduceLeDiff, Nat.reduceLT, and_self, and_true, true_and, and_false, false_and, reduceIte]
  | 11, _ => simp only [sTurn, upV_at, cv11, Nat.reduceEqDiff, Nat.reduceMul, Nat.reduceAdd, Nat.reduceLeDiff, Nat.reduceLT, and_self, and_true, true_and, and_false, false_and, reduceIte]
  | 12, _ => simp only [sTurn, upV_at, cv12, Nat.reduceEqDiff, Nat.reduceMul, Nat.reduceAdd, Nat.reduceLeDiff, Nat.reduceLT, and_self, and_true, true_and, and_false, false_and, reduceIte]
  | 13, _ => simp only [sTurn, upV_at, cv13, Nat.reduceEqDiff, Nat.reduceMul, Nat.reduceAdd, Nat.reduceLeDiff, Nat.reduceLT, and_self, and_true, true_and, and_false, false_and, reduceIte]
  | 14, _ => simp only [sTurn, upV_at, cv14, Nat.reduceEqDiff, Nat.reduceMul, Nat.reduceAdd, Nat.reduceLeDiff, Nat.reduceLT, and_self, and_true, true_and, and_false, false_and, reduceIte]
def sSwap (v : Nat → Int64) (i j : Nat) : Nat → Int64 := fun q => if q = i then v j else if q = j then v i else if q = 3 + i then v (3 + j) else if q = 3 + j then v (3 + i) else if 6 + 3 * i ≤ q ∧ q < 9 + 3 * i then v (q - 3 * i + 3 * j) else if 6 + 3 * j ≤ q ∧ q < 9 + 3 * j then v (q - 3 * j + 3 * i) else v q
theorem X1_exchanges_01 (h : c < 118) (hf : 4 ≤ fu) : f_X1_exchanges fu ev (mem ev w) (ev.1 + cr c) 0 1 = some ((), mem ev (setC w c (sSwap (cv w c) 0 1))) := by
  obtain ⟨m, rfl⟩ : ∃ m, fu = m + 4 := ⟨fu - 4, by omega⟩
  simp only [b_X1_exchanges_105, b_X1_exchanges_61, b_X1_exchanges_55, L_X1_exchanges_55, b_X1_exchanges_0, f_X1_exchanges, bd2, Option.bind_some, setC_set, setC_up, upV_at, cv0, cv1, cv2, cv3, cv4, cv5, cv6, cv7, cv8, cv9, cv10, cv11, cv12, cv13, cv14, cf0 h, cf1 h, cf2 h, cf3 h, cis h, cr0 h, cr1 h, cr2 h, cl10 h, cl11 h, cl12 h, cl20 h, cl21 h, cl22 h, cl40 h, cl41 h, cl42 h, cl50 h, cl51 h, cl52 h, cl60 h, cl61 h, cl62 h, cs10 h, cs11 h, cs12 h, cs20 h, cs21 h, cs22 h, cs40 h, cs41 h, cs42 h, cs50 h, cs51 h, cs52 h, cs60 h, cs61 h, cs62 h, Int32.reduceAdd, Int32.reduceSub, Int32.reduceLE, Int32.reduceLT, Nat.reduceEqDiff, reduceIte, ie_0_1, ie_0_2, ie_0_3, ie_1_0, ie_1_2, ie_1_3, ie_2_0, ie_2_1, ie_2_3, ie_3_0, ie_3_1, ie_3_2]
  refine congrArg (fun z => some ((), mem ev z)) (setC_ext fun i hi => ?_)
  match i, hi with
  | 0, _ => simp only [sSwap, Nat.reduceSub, upV_at, cv0, Nat.reduceEqDiff, Nat.reduceMul, Nat.reduceAdd, Nat.reduceLeDiff, Nat.reduceLT, and_self, and_true, true_and, and_false, false_and, reduceIte]
  | 1, _ => simp only [sSwap, Nat.reduceSub, upV_at, cv1, Nat.reduceEqDiff, Nat.reduceMul, Nat.reduceAdd, Nat.reduceLeDiff, Nat.reduceLT, and_self, and_true, true_and, and_false, false_and, reduceIte]
  | 2, _ => simp only [sSwap, Nat.reduceSub, upV_at, cv2, Nat.reduceEqDiff, Nat.reduceMul, Nat.reduceAdd, Nat.reduceLeDiff, Nat.reduceLT, and_self, and_true, true_and, and_false, false_and, reduceIte]
  | 3, _ => simp only [sSwap, Nat.reduceSub, upV_at, cv3, Nat.reduceEqDiff, Nat.reduceMul, Nat.reduceAdd, Nat.reduceLeDiff, Nat.reduceLT, and_self, and_true, true_and, and_false, false_and, reduceIte]
  | 4, _ => simp only [sSwap, Nat.reduceSub, upV_at, cv4, Nat.reduceEqDiff, Nat.reduceMul, Nat.reduceAdd, Nat.reduceLeDiff, Nat.reduceLT, and_self, and_true, true_and, and_false, false_and, reduceIte]
  | 5, _ => simp only [sSwap, Nat.reduceSub, upV_at, cv5, Nat.reduceEqDiff, Nat.reduceMul, Nat.reduceAdd, Nat.reduceLeDiff, Nat.reduceLT, and_self, and_true, true_and, and_false, false_and, reduceIte]
  | 6, _ => simp only [sSwap, Nat.reduceSub, upV_at, cv6, Nat.reduceEqDiff, Nat.reduceMul, Nat.reduceAdd, Nat.reduceLeDiff, Nat.reduceLT, and_self, and_true, true_and, and_false, false_and, reduceIte]
  | 7, _ => simp only [sSwap, Nat.reduceSub, upV_at, cv7, Nat.reduceEqDiff, Nat.reduceMul, Nat.reduceAdd, Nat.reduceLeDiff, Nat.reduceLT, and_self, and_true, true_and, and_false, false_and, reduceIte]
  | 8, _ => simp only [sSwap, Nat.reduceSub, upV_at, cv8, Nat.reduceEqDiff, Nat.reduceMul, Nat.reduceAdd, Nat.reduceLeDiff, Nat.reduceLT, and_self, and_true, true_and, and_false, false_and, reduceIte]
  | 9, _ => simp only [sSwap, Nat.reduceSub, upV_at, cv9, Nat.reduceEqDiff, Nat.reduceMul, Nat.reduceAdd, Nat.reduceLeDiff, Nat.reduceLT, and_self, and_true, true_and, and_false, false_and, reduceIte]
  | 10, _ => simp only [sSwap, Nat.reduceSub, upV_at, cv10, Nat.reduceEqDiff, Nat.reduceMul, Nat.reduceAdd, Nat.reduceLeDiff, Nat.reduceLT, and_self, and_true, true_and, and_false, false_and, reduceIte]
  | 11, _ => simp only [sSwap, Nat.reduceSub, upV_at, cv11, Nat.reduceEqDiff, Nat.reduceMul, Nat.reduceAdd, Nat.reduceLeDiff, Nat.reduceLT, and_self, and_true, true_and, and_false, false_and, reduceIte]
  | 12, _ => simp only [sSwap, Nat.reduceSub, upV_at, cv12, Nat.reduceEqDiff, Nat.reduceMul, Nat.reduceAdd, Nat.reduceLeDiff, Nat.reduceLT, and_self, and_true, true_and, and_false, false_and, reduceIte]
  | 13, _ => simp only [sSwap, Nat.reduceSub, upV_at, cv13, Nat.reduceEqDiff, Nat.reduceMul, Nat.reduceAdd, Nat.reduceLeDiff, Nat.reduceLT, and_self, and_true, true_and, and_false, false_and, reduceIte]
  | 14, _ => simp only [sSwap, Nat.reduceSub, upV_at, cv14, Nat.reduceEqDiff, Nat.reduceMul, Nat.reduceAdd, Nat.reduceLeDiff, Nat.reduceLT, and_self, and_true, true_and, and_false, false_and, reduceIte]
theorem X1_exchanges_02 (h : c < 118) (hf : 4 ≤ fu) : f_X1_exchanges fu ev (mem ev w) (ev.1 + cr c) 0 2 = some ((), mem ev (setC w c (sSwap (cv w c) 0 2))) := by
  obtain ⟨m, rfl⟩ : ∃ m, fu = m + 4 := ⟨fu - 4, by omega⟩
  simp only [b_X1_exchanges_105, b_X1_exchanges_61, b_X1_exchanges_55, L_X1_exchanges_55, b_X1_exchanges_0, f_X1_exchanges, bd2, Option.bind_some, setC_set, setC_up, upV_at, cv0, cv1, cv2, cv3, cv4, cv5, cv6, cv7, cv8, cv9, cv10, cv11, cv12, cv13, cv14, cf0 h, cf1 h, cf2 h, cf3 h, cis h, cr0 h, cr1 h, cr2 h, cl10 h, cl11 h, cl12 h, cl20 h, cl21 h, cl22 h, cl40 h, cl41 h, cl42 h, cl50 h, cl51 h, cl52 h, cl60 h, cl61 h, cl62 h, cs10 h, cs11 h, cs12 h, cs20 h, cs21 h, cs22 h, cs40 h, cs41 h, cs42 h, cs50 h, cs51 h, cs52 h, cs60 h, cs61 h, cs62 h, Int32.reduceAdd, Int32.reduceSub, Int32.reduceLE, Int32.reduceLT, Nat.reduceEqDiff, reduceIte, ie_0_1, ie_0_2, ie_0_3, ie_1_0, ie_1_2, ie_1_3, ie_2_0, ie_2_1, ie_2_3, ie_3_0, ie_3_1, ie_3_2]
  refine congrArg (fun z => some ((), mem ev z)) (setC_ext fun i hi => ?_)
  match i, hi with
  | 0, _ => simp only [sSwap, Nat.reduceSub, upV_at, cv0, Nat.reduceEqDiff, Nat.reduceMul, Nat.reduceAdd, Nat.reduceLeDiff, Nat.reduceLT, and_self, and_true, true_and, and_false, false_and, reduceIte]
  | 1, _ => simp only [sSwap, Nat.reduceSub, upV_at, cv1, Nat.reduceEqDiff, Nat.reduceMul, Nat.reduceAdd, Nat.reduceLeDiff, Nat.reduceLT, and_self, and_true, true_and, and_false, false_and, reduceIte]
  | 2, _ => simp only [sSwap, Nat.reduceSub, upV_at, cv2, Nat.reduceEqDiff, Nat.reduceMul, Nat.reduceAdd, Nat.reduceLeDiff, Nat.reduceLT, and_self, and_true, true_and, and_false, false_and, reduceIte]
  | 3, _ => simp only [sSwap, Nat.reduceSub, upV_at, cv3, Nat.reduceEqDiff, Nat.reduceMul, Nat.reduceAdd, Nat.reduceLeDiff, Nat.reduceLT, and_self, and_true, true_and, and_false, false_and, reduceIte]
  | 4, _ => simp only [sSwap, Nat.reduceSub, upV_at, cv4, Nat.reduceEqDiff, Nat.reduceMul, Nat.reduceAdd, Nat.reduceLeDiff, Nat.reduceLT, and_self, and_true, true_and, and_false, false_and, reduceIte]
  | 5, _ => simp only [sSwap, Nat.reduceSub, upV_at, cv5, Nat.reduceEqDiff, Nat.reduceMul, Nat.reduceAdd, Nat.reduceLeDiff, Nat.reduceLT, and_self, and_true, true_and, and_false, false_and, reduceIte]
  | 6, _ => simp only [sSwap, Nat.reduceSub, upV_at, cv6, Nat.reduceEqDiff, Nat.reduceMul, Nat.reduceAdd, Nat.reduceLeDiff, Nat.reduceLT, and_self, and_true, true_and, and_false, false_and, reduceIte]
  | 7, _ => simp only [sSwap, Nat.reduceSub, upV_at, cv7, Nat.reduceEqDiff, Nat.reduceMul, Nat.reduceAdd, Nat.reduceLeDiff, Nat.reduceLT, and_self, and_true, true_and, and_false, false_and, reduceIte]
  | 8, _ => simp only [sSwap, Nat.reduceSub, upV_at, cv8, Nat.reduceEqDiff, Nat.reduceMul, Nat.reduceAdd, Nat.reduceLeDiff, Nat.reduceLT, and_self, and_true, true_and, and_false, false_and, reduceIte]
  | 9, _ => simp only [sSwap, Nat.reduceSub, upV_at, cv9, Nat.reduceEqDiff, Nat.reduceMul, Nat.reduceAdd, Nat.reduceLeDiff, Nat.reduceLT, and_self, and_true, true_and, and_false, false_and, reduceIte]
  | 10, _ => simp only [sSwap, Nat.reduceSub, upV_at, cv10, Nat.reduceEqDiff, Nat.reduceMul, Nat.reduceAdd, Nat.reduceLeDiff, Nat.reduceLT, and_self, and_true, true_and, and_false, false_and, reduceIte]
  | 11, _ => simp only [sSwap, Nat.reduceSub, upV_at, cv11, Nat.reduceEqDiff, Nat.reduceMul, Nat.reduceAdd, Nat.reduceLeDiff, Nat.reduceLT, and_self, and_true, true_and, and_false, false_and, reduceIte]
  | 12, _ => simp only [sSwap, Nat.reduceSub, upV_at, cv12, Nat.reduceEqDiff, Nat.reduceMul, Nat.reduceAdd, Nat.reduceLeDiff, Nat.reduceLT, and_self, and_true, true_and, and_false, false_and, reduceIte]
  | 13, _ => simp only [sSwap, Nat.reduceSub, upV_at, cv13, Nat.reduceEqDiff, Nat.reduceMul, Nat.reduceAdd, Nat.reduceLeDiff, Nat.reduceLT, and_self, and_true, true_and, and_false, false_and, reduceIte]
  | 14, _ => simp only [sSwap, Nat.reduceSub, upV_at, cv14, Nat.reduceEqDiff, Nat.reduceMul, Nat.reduceAdd, Nat.reduceLeDiff, Nat.reduceLT, and_self, and_true, true_and, and_false, false_and, reduceIte]
theorem X1_exchanges_10 (h : c < 118) (hf : 4 ≤ fu) : f_X1_exchanges fu ev (mem ev w) (ev.1 + cr c) 1 0 = some ((), mem ev (setC w c (sSwap (cv w c) 1 0))) := by
  obtain ⟨m, rfl⟩ : ∃ m, fu = m + 4 := ⟨fu - 4, by omega⟩
  simp only [b_X1_exchanges_105, b_X1_exchanges_61, b_X1_exchanges_55, L_X1_exchanges_55, b_X1_exchanges_0, f_X1_exchanges, bd2, Option.bind_some, setC_set, setC_up, upV_at, cv0, cv1, cv2, cv3, cv4, cv5, cv6, cv7, cv8, cv9, cv10, cv11, cv12, cv13, cv14, cf0 h, cf1 h, cf2 h, cf3 h, cis h, cr0 h, cr1 h, cr2 h, cl10 h, cl11 h, cl12 h, cl20 h, cl21 h, cl22 h, cl40 h, cl41 h, cl42 h, cl50 h, cl51 h, cl52 h, cl60 h, cl61 h, cl62 h, cs10 h, cs11 h, cs12 h, cs20 h, cs21 h, cs22 h, cs40 h, cs41 h, cs42 h, cs50 h, cs51 h, cs52 h, cs60 h, cs61 h, cs62 h, Int32.reduceAdd, Int32.reduceSub, Int32.reduceLE, Int32.reduceLT, Nat.reduceEqDiff, reduceIte, ie_0_1, ie_0_2, ie_0_3, ie_1_0, ie_1_2, ie_1_3, ie_2_0, ie_2_1, ie_2_3, ie_3_0, ie_3_1, ie_3_2]
  refine congrArg (fun z => some ((), mem ev z)) (setC_ext fun i hi => ?_)
  match i, hi with
  | 0, _ => simp only [sSwap, Nat.reduceSub, upV_at, cv0, Nat.reduceEqDiff, Nat.reduceMul, Nat.reduceAdd, Nat.reduceLeDiff, Nat.reduceLT, and_self, and_true, true_and, and_false, false_and, reduceIte]
  | 1, _ => simp only [sSwap, Nat.reduceSub, upV_at, cv1, Nat.reduceEqDiff, Nat.reduceMul, Nat.reduceAdd, Nat.reduceLeDiff, Nat.reduceLT, and_self, and_true, true_and, and_false, false_and, reduceIte]
  | 2, _ => simp only [sSwap, Nat.reduceSub, upV_at, cv2, Nat.reduceEqDiff, Nat.reduceMul, Nat.reduceAdd, Nat.reduceLeDiff, Nat.reduceLT, and_self, and_true, true_and, and_false, false_and, reduceIte]
  | 3, _ => simp only [sSwap, Nat.reduceSub, upV_at, cv3, Nat.reduceEqDiff, Nat.reduceMul, Nat.reduceAdd, Nat.reduceLeDiff, Nat.reduceLT, and_self, and_true, true_and, and_false, false_and, reduceIte]
  | 4, _ => simp only [sSwap, Nat.reduceSub, upV_at, cv4, Nat.reduceEqDiff, Nat.reduceMul, Nat.reduceAdd, Nat.reduceLeDiff, Nat.reduceLT, and_self, and_true, true_and, and_false, false_and, reduceIte]
  | 5, _ => simp only [sSwap, Nat.reduceSub, upV_at, cv5, Nat.reduceEqDiff, Nat.reduceMul, Nat.reduceAdd, Nat.reduceLeDiff, Nat.reduceLT, and_self, and_true, true_and, and_false, false_and, reduceIte]
  | 6, _ => simp only [sSwap, Nat.reduceSub, upV_at, cv6, Nat.reduceEqDiff, Nat.reduceMul, Nat.reduceAdd, Nat.reduceLeDiff, Nat.reduceLT, and_self, and_true, true_and, and_false, false_and, reduceIte]
  | 7, _ => simp only [sSwap, Nat.reduceSub, upV_at, cv7, Nat.reduceEqDiff, Nat.reduceMul, Nat.reduceAdd, Nat.reduceLeDiff, Nat.reduceLT, and_self, and_true, true_and, and_false, false_and, reduceIte]
  | 8, _ => simp only [sSwap, Nat.reduceSub, upV_at, cv8, Nat.reduceEqDiff, Nat.reduceMul, Nat.reduceAdd, Nat.reduceLeDiff, Nat.reduceLT, and_self, and_true, true_and, and_false, false_and, reduceIte]
  | 9, _ => simp only [sSwap, Nat.reduceSub, upV_at, cv9, Nat.reduceEqDiff, Nat.reduceMul, Nat.reduceAdd, Nat.reduceLeDiff, Nat.reduceLT, and_self, and_true, true_and, and_false, false_and, reduceIte]
  | 10, _ => simp only [sSwap, Nat.reduceSub, upV_at, cv10, Nat.reduceEqDiff, Nat.reduceMul, Nat.reduceAdd, Nat.reduceLeDiff, Nat.reduceLT, and_self, and_true, true_and, and_false, false_and, reduceIte]
  | 11, _ => simp only [sSwap, Nat.reduceSub, upV_at, cv11, Nat.reduceEqDiff, Nat.reduceMul, Nat.reduceAdd, Nat.reduceLeDiff, Nat.reduceLT, and_self, and_true, true_and, and_false, false_and, reduceIte]
  | 12, _ => simp only [sSwap, Nat.reduceSub, upV_at, cv12, Nat.reduceEqDiff, Nat.reduceMul, Nat.reduceAdd, Nat.reduceLeDiff, Nat.reduceLT, and_self, and_true, true_and, and_false, false_and, reduceIte]
  | 13, _ => simp only [sSwap, Nat.reduceSub, upV_at, cv13, Nat.reduceEqDiff, Nat.reduceMul, Nat.reduceAdd, Nat.reduceLeDiff, Nat.reduceLT, and_self, and_true, true_and, and_false, false_and, reduceIte]
  | 14, _ => simp only [sSwap, Nat.reduceSub, upV_at, cv14, Nat.reduceEqDiff, Nat.reduceMul, Nat.reduceAdd, Nat.reduceLeDiff, Nat.reduceLT, and_self, and_true, true_and, and_false, false_and, reduceIte]
theorem X1_exchanges_12 (h : c < 118) (hf : 4 ≤ fu) : f_X1_exchanges fu ev (mem ev w) (ev.1 + cr c) 1 2 = some ((), mem ev (setC w c (sSwap (cv w c) 1 2))) := by
  obtain ⟨m, rfl⟩ : ∃ m, fu = m + 4 := ⟨fu - 4, by omega⟩
  simp only [b_X1_exchanges_105, b_X1_exchanges_61, b_X1_exchanges_55, L_X1_exchanges_55, b_X1_exchanges_0, f_X1_exchanges, bd2, Option.bind_some, setC_set, setC_up, upV_at, cv0, cv1, cv2, cv3, cv4, cv5, cv6, cv7, cv8, cv9, cv10, cv11, cv12, cv13, cv14, cf0 h, cf1 h, cf2 h, cf3 h, cis h, cr0 h, cr1 h, cr2 h, cl10 h, cl11 h, cl12 h, cl20 h, cl21 h, cl22 h, cl40 h, cl41 h, cl42 h, cl50 h, cl51 h, cl52 h, cl60 h, cl61 h, cl62 h, cs10 h, cs11 h, cs12 h, cs20 h, cs21 h, cs22 h, cs40 h, cs41 h, cs42 h, cs50 h, cs51 h, cs52 h, cs60 h, cs61 h, cs62 h, Int32.reduceAdd, Int32.reduceSub, Int32.reduceLE, Int32.reduceLT, Nat.reduceEqDiff, reduceIte, ie_0_1, ie_0_2, ie_0_3, ie_1_0, ie_1_2, ie_1_3, ie_2_0, ie_2_1, ie_2_3, ie_3_0, ie_3_1, ie_3_2]
  refine congrArg (fun z => some ((), mem ev z)) (setC_ext fun i hi => ?_)
  match i, hi with
  | 0, _ => simp only [sSwap, Nat.reduceSub, upV_at, cv0, Nat.reduceEqDiff, Nat.reduceMul, Nat.reduceAdd, Nat.reduceLeDiff, Nat.reduceLT, and_self, and_true, true_and, and_false, false_and, reduceIte]
  | 1, _ => simp only [sSwap, Nat.reduceSub, upV_at, cv1, Nat.reduceEqDiff, Nat.reduceMul, Nat.reduceAdd, Nat.reduceLeDiff, Nat.reduceLT, and_self, and_true, true_and, and_false, false_and, reduceIte]
  | 2, _ => simp only [sSwap, Nat.reduceSub, upV_at, cv2, Nat.reduceEqDiff, Nat.reduceMul, Nat.reduceAdd, Nat.reduceLeDiff, Nat.reduceLT, and_self, and_true, true_and, and_false, false_and, reduceIte]
  | 3, _ => simp only [sSwap, Nat.reduceSub, upV_at, cv3, Nat.reduceEqDiff, Nat.reduceMul, Nat.reduceAdd, Nat.reduceLeDiff, Nat.reduceLT, and_self, and_true, true_and, and_false, false_and, reduceIte]
  | 4, _ => simp only [sSwap, Nat.reduceSub, upV_at, cv4, Nat.reduceEqDiff, Nat.reduceMul, Nat.reduceAdd, Nat.reduceLeDiff, Nat.reduceLT, and_self, and_true, true_and, and_false, false_and, reduceIte]
  | 5, _ => simp only [sSwap, Nat.reduceSub, upV_at, cv5, Nat.reduceEqDiff, Nat.reduceMul, Nat.reduceAdd, Nat.reduceLeDiff, Nat.reduceLT, and_self, and_true, true_and, and_false, false_and, reduceIte]
  | 6, _ => simp only [sSwap, Nat.reduceSub, upV_at, cv6, Nat.reduceEqDiff, Nat.reduceMul, Nat.reduceAdd, Nat.reduceLeDiff, Nat.reduceLT, and_self, and_true, true_and, and_false, false_and, reduceIte]
  | 7, _ => simp only [sSwap, Nat.reduceSub, upV_at, cv7, Nat.reduceEqDiff, Nat.reduceMul, Nat.reduceAdd, Nat.reduceLeDiff, Nat.reduceLT, and_self, and_true, true_and, and_false, false_and, reduceIte]
  | 8, _ => simp only [sSwap, Nat.reduceSub, upV_at, cv8, Nat.reduceEqDiff, Nat.reduceMul, Nat.reduceAdd, Nat.reduceLeDiff, Nat.reduceLT, and_self, and_true, true_and, and_false, false_and, reduceIte]
  | 9, _ => simp only [sSwap, Nat.reduceSub, upV_at, cv9, Nat.reduceEqDiff, Nat.reduceMul, Nat.reduceAdd, Nat.reduceLeDiff, Nat.reduceLT, and_self, and_true, true_and, and_false, false_and, reduceIte]
  | 10, _ => simp only [sSwap, Nat.reduceSub, upV_at, cv10, Nat.reduceEqDiff, Nat.reduceMul, Nat.reduceAdd, Nat.reduceLeDiff, Nat.reduceLT, and_self, and_true, true_and, and_false, false_and, reduceIte]
  | 11, _ => simp only [sSwap, Nat.reduceSub, upV_at, cv11, Nat.reduceEqDiff, Nat.reduceMul, Nat.reduceAdd, Nat.reduceLeDiff, Nat.reduceLT, and_self, and_true, true_and, and_false, false_and, reduceIte]
  | 12, _ => simp only [sSwap, Nat.reduceSub, upV_at, cv12, Nat.reduceEqDiff, Nat.reduceMul, Nat.reduceAdd, Nat.reduceLeDiff, Nat.reduceLT, and_self, and_true, true_and, and_false, false_and, reduceIte]
  | 13, _ => simp only [sSwap, Nat.reduceSub, upV_at, cv13, Nat.reduceEqDiff, Nat.reduceMul, Nat.reduceAdd, Nat.reduceLeDiff, Nat.reduceLT, and_self, and_true, true_and, and_false, false_and, reduceIte]
  | 14, _ => simp only [sSwap, Nat.reduceSub, upV_at, cv14, Nat.reduceEqDiff, Nat.reduceMul, Nat.reduceAdd, Nat.reduceLeDiff, Nat.reduceLT, and_self, and_true, true_and, and_false, false_and, reduceIte]
theorem X1_exchanges_20 (h : c < 118) (hf : 4 ≤ fu) : f_X1_exchanges fu ev (mem ev w) (ev.1 + cr c) 2 0 = some ((), mem ev (setC w c (sSwap (cv w c) 2 0))) := by
  obtain ⟨m, rfl⟩ : ∃ m, fu = m + 4 := ⟨fu - 4, by omega⟩
  simp only [b_X1_exchanges_105, b_X1_exchanges_61, b_X1_exchanges_55, L_X1_exchanges_55, b_X1_exchanges_0, f_X1_exchanges, bd2, Option.bind_some, setC_set, setC_up, upV_at, cv0, cv1, cv2, cv3, cv4, cv5, cv6, cv7, cv8, cv9, cv10, cv11, cv12, cv13, cv14, cf0 h, cf1 h, cf2 h, cf3 h, cis h, cr0 h, cr1 h, cr2 h, cl10 h, cl11 h, cl12 h, cl20 h, cl21 h, cl22 h, cl40 h, cl41 h, cl42 h, cl50 h, cl51 h, cl52 h, cl60 h, cl61 h, cl62 h, cs10 h, cs11 h, cs12 h, cs20 h, cs21 h, cs22 h, cs40 h, cs41 h, cs42 h, cs50 h, cs51 h, cs52 h, cs60 h, cs61 h, cs62 h, Int32.reduceAdd, Int32.reduceSub, Int32.reduceLE, Int32.reduceLT, Nat.reduceEqDiff, reduceIte, ie_0_1, ie_0_2, ie_0_3, ie_1_0, ie_1_2, ie_1_3, ie_2_0, ie_2_1, ie_2_3, ie_3_0, ie_3_1, ie_3_2]
  refine congrArg (fun z => some ((), mem ev z)) (setC_ext fun i hi => ?_)
  match i, hi with
  | 0, _ => simp only [sSwap, Nat.reduceSub, upV_at, cv0, Nat.reduceEqDiff, Nat.reduceMul, Nat.reduceAdd, Nat.reduceLeDiff, Nat.reduceLT, and_self, and_true, true_and, and_false, false_and, reduceIte]
  | 1, _ => simp only [sSwap, Nat.reduceSub, upV_at, cv1, Nat.reduceEqDiff, Nat.reduceMul, Nat.reduceAdd, Nat.reduceLeDiff, Nat.reduceLT, and_self, and_true, true_and, and_false, false_and, reduceIte]
  | 2, _ => simp only [sSwap, Nat.reduceSub, upV_at, cv2, Nat.reduceEqDiff, Nat.reduceMul, Nat.reduceAdd, Nat.reduceLeDiff, Nat.reduceLT, and_self, and_true, true_and, and_false, false_and, reduceIte]
  | 3, _ => simp only [sSwap, Nat.reduceSub, upV_at, cv3, Nat.reduceEqDiff, Nat.reduceMul, Nat.reduceAdd, Nat.reduceLeDiff, Nat.reduceLT, and_self, and_true, true_and, and_false, false_and, reduceIte]
  | 4, _ => simp only [sSwap, Nat.reduceSub, upV_at, cv4, Nat.reduceEqDiff, Nat.reduceMul, Nat.reduceAdd, Nat.reduceLeDiff, Nat.reduceLT, and_self, and_true, true_and, and_false, false_and, reduceIte]
  | 5, _ => simp only [sSwap, Nat.reduceSub, upV_at, cv5, Nat.reduceEqDiff, Nat.reduceMul, Nat.reduceAdd, Nat.reduceLeDiff, Nat.reduceLT, and_self, and_true, true_and, and_false, false_and, reduceIte]
  | 6, _ => simp only [sSwap, Nat.reduceSub, upV_at, cv6, Nat.reduceEqDiff, Nat.reduceMul, Nat.reduceAdd, Nat.reduceLeDiff, Nat.reduceLT, and_self, and_true, true_and, and_false, false_and, reduceIte]
  | 7, _ => simp only [sSwap, Nat.reduceSub, upV_at, cv7, Nat.reduceEqDiff, Nat.reduceMul, Nat.reduceAdd, Nat.reduceLeDiff, Nat.reduceLT, and_self, and_true, true_and, and_false, false_and, reduceIte]
  | 8, _ => simp only [sSwap, Nat.reduceSub, upV_at, cv8, Nat.reduceEqDiff, Nat.reduceMul, Nat.reduceAdd, Nat.reduceLeDiff, Nat.reduceLT, and_self, and_true, true_and, and_false, false_and, reduceIte]
  | 9, _ => simp only [sSwap, Nat.reduceSub, upV_at, cv9, Nat.reduceEqDiff, Nat.reduceMul, Nat.reduceAdd, Nat.reduceLeDiff, Nat.reduceLT, and_self, and_true, true_and, and_false, false_and, reduceIte]
  | 10, _ => simp only [sSwap, Nat.reduceSub, upV_at, cv10, Nat.reduceEqDiff, Nat.reduceMul, Nat.reduceAdd, Nat.reduceLeDiff, Nat.reduceLT, and_self, and_true, true_and, and_false, false_and, reduceIte]
  | 11, _ => simp only [sSwap, Nat.reduceSub, upV_at, cv11, Nat.reduceEqDiff, Nat.reduceMul, Nat.reduceAdd, Nat.reduceLeDiff, Nat.reduceLT, and_self, and_true, true_and, and_false, false_and, reduceIte]
  | 12, _ => simp only [sSwap, Nat.reduceSub, upV_at, cv12, Nat.reduceEqDiff, Nat.reduceMul, Nat.reduceAdd, Nat.reduceLeDiff, Nat.reduceLT, and_self, and_true, true_and, and_false, false_and, reduceIte]
  | 13, _ => simp only [sSwap, Nat.reduceSub, upV_at, cv13, Nat.reduceEqDiff, Nat.reduceMul, Nat.reduceAdd, Nat.reduceLeDiff, Nat.reduceLT, and_self, and_true, true_and, and_false, false_and, reduceIte]
  | 14, _ => simp only [sSwap, Nat.reduceSub, upV_at, cv14, Nat.reduceEqDiff, Nat.reduceMul, Nat.reduceAdd, Nat.reduceLeDiff, Nat.reduceLT, and_self, and_true, true_and, and_false, false_and, reduceIte]
theorem X1_exchanges_21 (h : c < 118) (hf : 4 ≤ fu) : f_X1_exchanges fu ev (mem ev w) (ev.1 + cr c) 2 1 = some ((), mem ev (setC w c (sSwap (cv w c) 2 1))) := by
  obtain ⟨m, rfl⟩ : ∃ m, fu = m + 4 := ⟨fu - 4, by omega⟩
  simp only [b_X1_exchanges_105, b_X1_exchanges_61, b_X1_exchanges_55, L_X1_exchanges_55, b_X1_exchanges_0, f_X1_exchanges, bd2, Option.bind_some, setC_set, setC_up, upV_at, cv0, cv1, cv2, cv3, cv4, cv5, cv6, cv7, cv8, cv9, cv10, cv11, cv12, cv13, cv14, cf0 h, cf1 h, cf2 h, cf3 h, cis h, cr0 h, cr1 h, cr2 h, cl10 h, cl11 h, cl12 h, cl20 h, cl21 h, cl22 h, cl40 h, cl41 h, cl42 h, cl50 h, cl51 h, cl52 h, cl60 h, cl61 h, cl62 h, cs10 h, cs11 h, cs12 h, cs20 h, cs21 h, cs22 h, cs40 h, cs41 h, cs42 h, cs50 h, cs51 h, cs52 h, cs60 h, cs61 h, cs62 h, Int32.reduceAdd, Int32.reduceSub, Int32.reduceLE, Int32.reduceLT, Nat.reduceEqDiff, reduceIte, ie_0_1, ie_0_2, ie_0_3, ie_1_0, ie_1_2, ie_1_3, ie_2_0, ie_2_1, ie_2_3, ie_3_0, ie_3_1, ie_3_2]
  refine congrArg (fun z => some ((), mem ev z)) (setC_ext fun i hi => ?_)
  match i, hi with
  | 0, _ => simp only [sSwap, Nat.reduceSub, upV_at, cv0, Nat.reduceEqDiff, Nat.reduceMul, Nat.reduceAdd, Nat.reduceLeDiff, Nat.reduceLT, and_self, and_true, true_and, and_false, false_and, reduceIte]
  | 1, _ => simp only [sSwap, Nat.reduceSub, upV_at, cv1, Nat.reduceEqDiff, Nat.reduceMul, Nat.reduceAdd, Nat.reduceLeDiff, Nat.reduceLT, and_self, and_true, true_and, and_false, false_and, reduceIte]
  | 2, _ => simp only [sSwap, Nat.reduceSub, upV_at, cv2, Nat.reduceEqDiff, Nat.reduceMul, Nat.reduceAdd, Nat.reduceLeDiff, Nat.reduceLT, and_self, and_true, true_and, and_false, false_and, reduceIte]
  | 3, _ => simp only [sSwap, Nat.reduceSub, upV_at, cv3, Nat.reduceEqDiff, Nat.reduceMul, Nat.reduceAdd, Nat.reduceLeDiff, Nat.reduceLT, and_self, and_true, true_and, and_false, false_and, reduceIte]
  | 4, _ => simp only [sSwap, Nat.reduceSub, upV_at, cv4, Nat.reduceEqDiff, Nat.reduceMul, Nat.reduceAdd, Nat.reduceLeDiff, Nat.reduceLT, and_self, and_true, true_and, and_false, false_and, reduceIte]
  | 5, _ => simp only [sSwap, Nat.reduceSub, upV_at, cv5, Nat.reduceEqDiff, Nat.reduceMul, Nat.reduceAdd, Nat.reduceLeDiff, Nat.reduceLT, and_self, and_true, true_and, and_false, false_and, reduceIte]
  | 6, _ => simp only [sSwap, Nat.reduceSub, upV_at, cv6, Nat.reduceEqDiff, Nat.reduceMul, Nat.reduceAdd, Nat.reduceLeDiff, Nat.reduceLT, and_self, and_true, true_and, and_false, false_and, reduceIte]
  | 7, _ => simp only [sSwap, Nat.reduceSub, upV_at, cv7, Nat.reduceEqDiff, Nat.reduceMul, Nat.reduceAdd, Nat.reduceLeDiff, Nat.reduceLT, and_self, and_true, true_and, and_false, false_and, reduceIte]
  | 8, _ => simp only [sSwap, Nat.reduceSub, upV_at, cv8, Nat.reduceEqDiff, Nat.reduceMul, Nat.reduceAdd, Nat.reduceLeDiff, Nat.reduceLT, and_self, and_true, true_and, and_false, false_and, reduceIte]
  | 9, _ => simp only [sSwap, Nat.reduceSub, upV_at, cv9, Nat.reduceEqDiff, Nat.reduceMul, Nat.reduceAdd, Nat.reduceLeDiff, Nat.reduceLT, and_self, and_true, true_and, and_false, false_and, reduceIte]
  | 10, _ => simp only [sSwap, Nat.reduceSub, upV_at, cv10, Nat.reduceEqDiff, Nat.reduceMul, Nat.reduceAdd, Nat.reduceLeDiff, Nat.reduceLT, and_self, and_true, true_and, and_false, false_and, reduceIte]
  | 11, _ => simp only [sSwap, Nat.reduceSub, upV_at, cv11, Nat.reduceEqDiff, Nat.reduceMul, Nat.reduceAdd, Nat.reduceLeDiff, Nat.reduceLT, and_self, and_true, true_and, and_false, false_and, reduceIte]
  | 12, _ => simp only [sSwap, Nat.reduceSub, upV_at, cv12, Nat.reduceEqDiff, Nat.reduceMul, Nat.reduceAdd, Nat.reduceLeDiff, Nat.reduceLT, and_self, and_true, true_and, and_false, false_and, reduceIte]
  | 13, _ => simp only [sSwap, Nat.reduceSub, upV_at, cv13, Nat.reduceEqDiff, Nat.reduceMul, Nat.reduceAdd, Nat.reduceLeDiff, Nat.reduceLT, and_self, and_true, true_and, and_false, false_and, reduceIte]
  | 14, _ => simp only [sSwap, Nat.reduceSub, upV_at, cv14, Nat.reduceEqDiff, Nat.reduceMul, Nat.reduceAdd, Nat.reduceLeDiff, Nat.reduceLT, and_self, and_true, true_and, and_false, false_and, reduceIte]
theorem X1_turnsAll (h : c < 118) (hf : 4 ≤ fu) : f_X1_turnsAll fu ev (mem ev w) (ev.1 + cr c) = some ((), mem ev (setC w c (sTurn (sTurn (sTurn (cv w c) 0) 1) 2))) := by
  simp only [b_X1_turnsAll_0, f_X1_turnsAll, bd2, Option.bind_some, setC_set, setC_up, upV_at, cv0, cv1, cv2, cv3, cv4, cv5, cv6, cv7, cv8, cv9, cv10, cv11, cv12, cv13, cv14, cf0 h, cf1 h, cf2 h, cf3 h, cis h, cr0 h, cr1 h, cr2 h, cl10 h, cl11 h, cl12 h, cl20 h, cl21 h, cl22 h, cl40 h, cl41 h, cl42 h, cl50 h, cl51 h, cl52 h, cl60 h, cl61 h, cl62 h, cs10 h, cs11 h, cs12 h, cs20 h, cs21 h, cs22 h, cs40 h, cs41 h, cs42 h, cs50 h, cs51 h, cs52 h, cs60 h, cs61 h, cs62 h, Int32.reduceAdd, Int32.reduceSub, Int32.reduceLE, Int32.reduceLT, Nat.reduceEqDiff, reduceIte, X1_turns_0 h hf, X1_turns_1 h hf, X1_turns_2 h hf]
  refine congrArg (fun z => some ((), mem ev z)) (setC_ext fun i hi => ?_)
  match i, hi with
  | 0, _ => simp only [sTurn, upV_at, cv0, Nat.reduceEqDiff, Nat.reduceMul, Nat.reduceAdd, Nat.reduceLeDiff, Nat.reduceLT, and_self, and_true, true_and, and_false, false_and, reduceIte]
  | 1, _ => simp only [sTurn, upV_at, cv1, Nat.reduceEqDiff, Nat.reduceMul, Nat.reduceAdd, Nat.reduceLeDiff, Nat.reduceLT, and_self, and_true, true_and, and_false, false_and, reduceIte]
  | 2, _ => simp only [sTurn, upV_at, cv2, Nat.reduceEqDiff, Nat.reduceMul, Nat.reduceAdd, Nat.reduceLeDiff, Nat.reduceLT, and_self, and_true, true_and, and_false, false_and, reduceIte]
  | 3, _ => simp only [sTurn, upV_at, cv3, Nat.reduceEqDiff, Nat.reduceMul, Nat.reduceAdd, Nat.reduceLeDiff, Nat.reduceLT, and_self, and_true, true_and, and_false, false_and, reduceIte]
  | 4, _ => simp only [sTurn, upV_at, cv4, Nat.reduceEqDiff, Nat.reduceMul, Nat.reduceAdd, Nat.reduceLeDiff, Nat.reduceLT, and_self, and_true, true_and, and_false, false_and, reduceIte]
  | 5, _ => simp only [sTurn, upV_at, cv5, Nat.reduceEqDiff, Nat.reduceMul, Nat.reduceAdd, Nat.reduceLeDiff, Nat.reduceLT, and_self, and_true, true_and, and_false, false_and, reduceIte]
  | 6, _ => simp only [sTurn, upV_at, cv6, Nat.reduceEqDiff, Nat.reduceMul, Nat.reduceAdd, Nat.reduceLeDiff, Nat.reduceLT, and_self, and_true, true_and, and_false, false_and, reduceIte]
  | 7, _ => simp only [sTurn, upV_at, cv7, Nat.reduceEqDiff, Nat.reduceMul, Nat.reduceAdd, Nat.reduceLeDiff, Nat.reduceLT, and_self, and_true, true_and, and_false, false_and, reduceIte]
  | 8, _ => simp only [sTurn, upV_at, cv8, Nat.reduceEqDiff, Nat.reduceMul, Nat.reduceAdd, Nat.reduceLeDiff, Nat.reduceLT, and_self, and_true, true_and, and_false, false_and, reduceIte]
  | 9, _ => simp only [sTurn, upV_at, cv9, Nat.reduceEqDiff, Nat.reduceMul, Nat.reduceAdd, Nat.reduceLeDiff, Nat.reduceLT, and_self, and_true, true_and, and_false, false_and, reduceIte]
  | 10, _ => simp only [sTurn, upV_at, cv10, Nat.reduceEqDiff, Nat.reduceMul, Nat.reduceAdd, Nat.reduceLeDiff, Nat.reduceLT, and_self, and_true, true_and, and_false, false_and, reduceIte]
  | 11, _ => simp only [sTurn, upV_at, cv11, Nat.reduceEqDiff, Nat.reduceMul, Nat.reduceAdd, Nat.reduceLeDiff, Nat.reduceLT, and_self, and_true, true_and, and_false, false_and, reduceIte]
  | 12, _ => simp only [sTurn, upV_at, cv12, Nat.reduceEqDiff, Nat.reduceMul, Nat.reduceAdd, Nat.reduceLeDiff, Nat.reduceLT, and_self, and_true, true_and, and_false, false_and, reduceIte]
  | 13, _ => simp only [sTurn, upV_at, cv13, Nat.reduceEqDiff, Nat.reduceMul, Nat.reduceAdd, Nat.reduceLeDiff, Nat.reduceLT, and_self, and_true, true_and, and_false, false_and, reduceIte]
  | 14, _ => simp only [sTurn, upV_at, cv14, Nat.reduceEqDiff, Nat.reduceMul, Nat.reduceAdd, Nat.reduceLeDiff, Nat.reduceLT, and_self, and_true, true_and, and_false, false_and, reduceIte]
end XCM
