/-! mayBe OF BOTH -/
theorem mulb {a b : Int} (h1 : 1 ≤ a) (h2 : a ≤ 100000) (h3 : 1 ≤ b) (h4 : b ≤ 100000) : 1 ≤ a * b ∧ a * b ≤ 10000000000 := by
  have e1 := Int.mul_le_mul h1 h3 (by decide) (by omega)
  have e2 := Int.mul_le_mul h2 h4 (by omega) (by decide)
  omega
theorem sqb {d B : Int} (h1 : -B ≤ d) (h2 : d ≤ B) : 0 ≤ d * d ∧ d * d ≤ B * B := by
  have e := Int.mul_nonneg (show 0 ≤ B - d by omega) (show 0 ≤ B + d by omega)
  rw [Int.sub_mul, Int.mul_add, Int.mul_add, Int.mul_comm B d] at e
  exact ⟨by rcases Int.le_total 0 d with h | h
            · exact Int.mul_nonneg h h
            · exact Int.mul_nonneg_of_nonpos_of_nonpos h h, by omega⟩
theorem inJ_1 {x : Int64} (h : inJ x 1 100000 = true) : 1 ≤ x.toInt ∧ x.toInt ≤ 100000 := by
  have h1 := inJ_iff.mp h
  rwa [show (1 : Int64).toInt = 1 from by decide, show (100000 : Int64).toInt = 100000 from by decide] at h1
theorem inJ_2 {x : Int64} (h : inJ x (-200000) 200000 = true) : -200000 ≤ x.toInt ∧ x.toInt ≤ 200000 := by
  have h1 := inJ_iff.mp h
  rwa [show (-200000 : Int64).toInt = -200000 from by decide, show (200000 : Int64).toInt = 200000 from by decide] at h1
theorem j4 : (4 : Int64).toInt = 4 := by decide
theorem four_ {a b : Int64} (ha : 1 ≤ a.toInt ∧ a.toInt ≤ 100000) (hb : 1 ≤ b.toInt ∧ b.toInt ≤ 100000) : (4 * a * b).toInt = 4 * (a.toInt * b.toInt) := by
  have hm := mulb ha.1 ha.2 hb.1 hb.2
  have e1 : (4 * a).toInt = 4 * a.toInt := by
    rw [jm (by rw [j4]; omega) (by rw [j4]; omega), j4]
  rw [jm (by rw [e1, Int.mul_assoc]; omega) (by rw [e1, Int.mul_assoc]; omega), e1, Int.mul_assoc]
theorem sq_ {d : Int64} (h : -200000 ≤ d.toInt ∧ d.toInt ≤ 200000) : (d * d).toInt = d.toInt * d.toInt ∧ 0 ≤ d.toInt * d.toInt ∧ d.toInt * d.toInt ≤ 40000000000 := by
  have hs := sqb h.1 h.2
  exact ⟨jm (by omega) (by omega), hs.1, by omega⟩
theorem may_c {a b d : Int64} (ha : 1 ≤ a.toInt ∧ a.toInt ≤ 100000) (hb : 1 ≤ b.toInt ∧ b.toInt ≤ 100000) (hd : -200000 ≤ d.toInt ∧ d.toInt ≤ 200000) : decide (0 < 4 * a * b - d * d) = decide (d * d < 4 * a * b) := by
  have e1 := four_ ha hb
  have hm := mulb ha.1 ha.2 hb.1 hb.2
  obtain ⟨e2, e3, e4⟩ := sq_ hd
  have e5 : (4 * a * b - d * d).toInt = 4 * (a.toInt * b.toInt) - d.toInt * d.toInt := by
    rw [js (by rw [e1, e2]; omega) (by rw [e1, e2]; omega), e1, e2]
  apply decide_eq_decide.mpr
  rw [Int64.lt_iff_toInt_lt, Int64.lt_iff_toInt_lt, e5, e1, e2, show (0 : Int64).toInt = 0 from by decide]
  omega
def mayM (v : Nat → Int64) : Bool := (inJ (v 0) 1 100000 && (inJ (v 3) (-200000) 200000 && (inJ (v 1) 1 100000 && (inJ (v 4) (-200000) 200000 && (inJ (v 2) 1 100000 && inJ (v 5) (-200000) 200000))))) && ((decide (v 5 * v 5 < 4 * v 0 * v 1) && decide (v 4 * v 4 < 4 * v 0 * v 2)) && (decide (v 3 * v 3 < 4 * v 1 * v 2) && decide (0 < sVol v)))
theorem may_eq (v : Nat → Int64) : mayM v = mayV v := by
  unfold mayM mayV
  cases r0 : inJ (v 0) 1 100000 with
  | false => rfl
  | true =>
  cases r3 : inJ (v 3) (-200000) 200000 with
  | false => rfl
  | true =>
  cases r1 : inJ (v 1) 1 100000 with
  | false => rfl
  | true =>
  cases r4 : inJ (v 4) (-200000) 200000 with
  | false => rfl
  | true =>
  cases r2 : inJ (v 2) 1 100000 with
  | false => rfl
  | true =>
  cases r5 : inJ (v 5) (-200000) 200000 with
  | false => rfl
  | true =>
  have h0 := inJ_1 r0
  have h1 := inJ_1 r1
  have h2 := inJ_1 r2
  have h3 := inJ_2 r3
  have h4 := inJ_2 r4
  have h5 := inJ_2 r5
  rw [may_c h1 h2 h3, may_c h2 h0 h4, may_c h0 h1 h5]
  have e : (4 * v 2 * v 0 : Int64) = 4 * v 0 * v 2 := by rw [Int64.mul_assoc, Int64.mul_comm (v 2), ← Int64.mul_assoc]
  rw [e]
  cases decide (v 5 * v 5 < 4 * v 0 * v 1) <;> cases decide (v 4 * v 4 < 4 * v 0 * v 2) <;> cases decide (v 3 * v 3 < 4 * v 1 * v 2) <;> cases decide (0 < sVol v) <;> rfl
section XO3
variable {ev : Ev} {w : Wd} {fu M K c : Nat} {x y z : Int32}
theorem sl_setC {v : Nat → Int64} (h : c < 118) : sl (setC w c v) K = sl w K := by
  have h1 := cr_lt h
  have key : ∀ q i : Nat, 966 ≤ q → (setC w c v).1 q i = w.1 q i := by
    intro q i hq
    simp only [setC]
    rw [if_neg (by omega), if_neg (by omega), if_neg (by omega), if_neg (by omega), if_neg (by omega)]
  funext j
  unfold sl
  rw [key 967 _ (by decide), key 968 _ (by decide)]
theorem cv_setS {v : Nat → Int64} (h : c < 118) : cv (setS w K v) c = cv w c := by
  have h1 := cr_lt h
  have key : ∀ q i : Nat, q < 966 → (setS w K v).1 q i = w.1 q i := by
    intro q i hq
    simp only [setS]
    rw [if_neg (by omega), if_neg (by omega)]
  funext j
  simp only [cv]
  rw [key _ _ (by omega), key _ _ (by omega), key _ _ (by omega), key _ _ (by omega), key _ _ (by omega)]
theorem cv_wI {r i : Nat} {x : Int32} : cv (wI w r i x) c = cv w c := rfl
theorem sl_wI {r i : Nat} {x : Int32} : sl (wI w r i x) K = sl w K := rfl
theorem wI_same {r i : Nat} {x : Int32} : (wI w r i x).2.1 r i = x := if_pos ⟨rfl, rfl⟩
theorem setC_I {v : Nat → Int64} : (setC w c v).2 = w.2 := rfl
theorem setS_I {v : Nat → Int64} : (setS w K v).2 = w.2 := rfl
theorem X2_mayBe (h : K < 26) (hf : 4 ≤ fu) : f_X2_mayBe fu ev (mem ev w) (ev.1 + 966) (nI K) = some (if mayV (sl w K) = true then 1 else 0, mem ev w) := by
  rw [← may_eq]
  obtain ⟨m, rfl⟩ : ∃ m, fu = m + 4 := ⟨fu - 4, by omega⟩
  simp only [b_X2_mayBe_178, b_X2_mayBe_177, b_X2_mayBe_173, b_X2_mayBe_163, b_X2_mayBe_129, b_X2_mayBe_124, b_X2_mayBe_123, b_X2_mayBe_119, b_X2_mayBe_85, b_X2_mayBe_51, b_X2_mayBe_43, b_X2_mayBe_45, b_X2_mayBe_23, b_X2_mayBe_7, b_X2_mayBe_2, L_X2_mayBe_2, b_X2_mayBe_0, f_X2_mayBe, X2_isIn, X2_volume h, mis, X2_n_0 h, X2_n_1 h, X2_n_2 h, X2_n_3 h, X2_n_4 h, X2_n_5 h, b01, zb1, zb0, Option.bind_some, bd2, j_le, Int32.reduceAdd, Int32.reduceLE, Int32.reduceLT, reduceIte, ite_not]
  simp only [mayM, Bool.and_eq_true, decide_eq_true_eq]
  repeat' split
  all_goals first | rfl | (exfalso; simp_all [-Int64.not_lt, -Int64.not_le]; done)
end XO3
