/-! THE STEPS OF LONGS ARE THE STEPS OF INTEGERS -/
def I6 (v : Nat → Int64) : Nat → Int := fun i => (v i).toInt
/-- small enough -/
def Sm (v : Nat → Int64) : Prop := ∀ i : Nat, i < 6 → -4000000000 ≤ (v i).toInt ∧ (v i).toInt ≤ 4000000000
theorem j0 : (0 : Int64).toInt = 0 := by decide
theorem j2 : (2 : Int64).toInt = 2 := by decide
theorem j_lt {a b : Int64} : a < b ↔ a.toInt < b.toInt := Int64.lt_iff_toInt_lt
theorem j_eq {a b : Int64} : a = b ↔ a.toInt = b.toInt := Int64.toInt_inj.symm
theorem ab_i {x : Int64} (h : -4000000000 ≤ x.toInt ∧ x.toInt ≤ 4000000000) : (ab x).toInt = (x.toInt.natAbs : Int) := by
  unfold ab
  by_cases p : 0 < x
  · rw [if_pos p]
    have := j_lt.mp p
    rw [j0] at this
    omega
  · rw [if_neg p, jn (by omega) (by omega)]
    have : ¬ (0 : Int) < x.toInt := fun q => p (j_lt.mpr (by rw [j0]; exact q))
    omega
theorem two_ {x : Int64} (h : -4000000000 ≤ x.toInt ∧ x.toInt ≤ 4000000000) : (2 * x).toInt = 2 * x.toInt := by
  rw [jm (by rw [j2]; omega) (by rw [j2]; omega), j2]
theorem over_i {n sq one oth : Int64} (h1 : -4000000000 ≤ n.toInt ∧ n.toInt ≤ 4000000000) (h2 : -4000000000 ≤ sq.toInt ∧ sq.toInt ≤ 4000000000) (h3 : -4000000000 ≤ one.toInt ∧ one.toInt ≤ 4000000000) (h4 : -4000000000 ≤ oth.toInt ∧ oth.toInt ≤ 4000000000) : overV n sq one oth = true ↔ Ov n.toInt sq.toInt one.toInt oth.toInt := by
  unfold overV Ov
  rw [Bool.or_eq_true, Bool.or_eq_true, Bool.and_eq_true, Bool.and_eq_true, decide_eq_true_eq, decide_eq_true_eq, decide_eq_true_eq, decide_eq_true_eq, decide_eq_true_eq, j_lt, ab_i h1, j_eq, j_lt, two_ h3, j_eq, jn (by omega) (by omega), j_lt, j0]
theorem over_m {n sq one oth by_ : Int64} (h3 : -4000000000 ≤ one.toInt ∧ one.toInt ≤ 4000000000) (h4 : -4000000000 ≤ oth.toInt ∧ oth.toInt ≤ 4000000000) (hb : by_ = oth) : overM n sq (2 * one - oth) by_ = overV n sq one oth := by
  subst hb
  unfold overM overV
  have e : decide (2 * one - by_ < 0) = decide (2 * one < by_) := by
    apply decide_eq_decide.mpr
    have e1 := two_ h3
    rw [j_lt, j_lt, js (by rw [e1]; omega) (by rw [e1]; omega), e1, j0]
    omega
  rw [e]
theorem aboV_3 (v : Nat → Int64) : decide (aboV v < (3 : Int32)) = !decide ((3 : Int32) ≤ aboV v) := by
  unfold aboV
  by_cases p0 : 0 < v 3 <;> by_cases p1 : 0 < v 4 <;> by_cases p2 : 0 < v 5 <;> simp only [p0, p1, p2, if_true, if_false] <;> decide
theorem aboV_1 (v : Nat → Int64) : decide ((0 : Int32) < aboV v) = decide ((1 : Int32) ≤ aboV v) := by
  unfold aboV
  by_cases p0 : 0 < v 3 <;> by_cases p1 : 0 < v 4 <;> by_cases p2 : 0 < v 5 <;> simp only [p0, p1, p2, if_true, if_false] <;> decide
theorem sg_lo (v : Nat → Int64) : decide (0 < sgn (v 3) * sgn (v 4) * sgn (v 5)) = decide (0 < sg3 v) := by
  unfold sg3
  rcases tri (v 3) with s0 | s0 | s0 <;> rcases tri (v 4) with s1 | s1 | s1 <;> rcases tri (v 5) with s2 | s2 | s2
  · rw [(sgnP s0).1, (sgnP s1).1, (sgnP s2).1]; decide
  · rw [(sgnP s0).1, (sgnP s1).1, (sgnZ s2).1]; decide
  · rw [(sgnP s0).1, (sgnP s1).1, (sgnN s2).1]; decide
  · rw [(sgnP s0).1, (sgnZ s1).1, (sgnP s2).1]; decide
  · rw [(sgnP s0).1, (sgnZ s1).1, (sgnZ s2).1]; decide
  · rw [(sgnP s0).1, (sgnZ s1).1, (sgnN s2).1]; decide
  · rw [(sgnP s0).1, (sgnN s1).1, (sgnP s2).1]; decide
  · rw [(sgnP s0).1, (sgnN s1).1, (sgnZ s2).1]; decide
  · rw [(sgnP s0).1, (sgnN s1).1, (sgnN s2).1]; decide
  · rw [(sgnZ s0).1, (sgnP s1).1, (sgnP s2).1]; decide
  · rw [(sgnZ s0).1, (sgnP s1).1, (sgnZ s2).1]; decide
  · rw [(sgnZ s0).1, (sgnP s1).1, (sgnN s2).1]; decide
  · rw [(sgnZ s0).1, (sgnZ s1).1, (sgnP s2).1]; decide
  · rw [(sgnZ s0).1, (sgnZ s1).1, (sgnZ s2).1]; decide
  · rw [(sgnZ s0).1, (sgnZ s1).1, (sgnN s2).1]; decide
  · rw [(sgnZ s0).1, (sgnN s1).1, (sgnP s2).1]; decide
  · rw [(sgnZ s0).1, (sgnN s1).1, (sgnZ s2).1]; decide
  · rw [(sgnZ s0).1, (sgnN s1).1, (sgnN s2).1]; decide
  · rw [(sgnN s0).1, (sgnP s1).1, (sgnP s2).1]; decide
  · rw [(sgnN s0).1, (sgnP s1).1, (sgnZ s2).1]; decide
  · rw [(sgnN s0).1, (sgnP s1).1, (sgnN s2).1]; decide
  · rw [(sgnN s0).1, (sgnZ s1).1, (sgnP s2).1]; decide
  · rw [(sgnN s0).1, (sgnZ s1).1, (sgnZ s2).1]; decide
  · rw [(sgnN s0).1, (sgnZ s1).1, (sgnN s2).1]; decide
  · rw [(sgnN s0).1, (sgnN s1).1, (sgnP s2).1]; decide
  · rw [(sgnN s0).1, (sgnN s1).1, (sgnZ s2).1]; decide
  · rw [(sgnN s0).1, (sgnN s1).1, (sgnN s2).1]; decide
theorem eqM_of {v : Nat → Int64} (h : Sm v) : eqM v := by
  refine ⟨rfl, rfl, ?_, ?_, over_m (h 4 (by decide)) (h 5 (by decide)) rfl, over_m (h 3 (by decide)) (h 5 (by decide)) rfl, over_m (h 3 (by decide)) (h 4 (by decide)) rfl, rfl⟩
  · unfold am3 ap3
    rw [sg_lo, aboV_3]
  · unfold am4 ap4
    rw [sg_lo, aboV_1]
theorem ap1_i {v : Nat → Int64} (h : Sm v) : ap1 v = true ↔ A1 (I6 v) := by
  unfold ap1 A1 I6
  rw [Bool.or_eq_true, Bool.and_eq_true, decide_eq_true_eq, decide_eq_true_eq, decide_eq_true_eq, j_lt, j_eq, j_lt, ab_i (h 4 (by decide)), ab_i (h 3 (by decide))]
  omega
theorem ap2_i {v : Nat → Int64} (h : Sm v) : ap2 v = true ↔ A2 (I6 v) := by
  unfold ap2 A2 I6
  rw [Bool.or_eq_true, Bool.and_eq_true, decide_eq_true_eq, decide_eq_true_eq, decide_eq_true_eq, j_lt, j_eq, j_lt, ab_i (h 5 (by decide)), ab_i (h 4 (by decide))]
  omega
theorem ap5_i {v : Nat → Int64} (h : Sm v) : ap5 v = true ↔ A5 (I6 v) := over_i (h 3 (by decide)) (h 1 (by decide)) (h 4 (by decide)) (h 5 (by decide))
theorem ap6_i {v : Nat → Int64} (h : Sm v) : ap6 v = true ↔ A6 (I6 v) := over_i (h 4 (by decide)) (h 0 (by decide)) (h 3 (by decide)) (h 5 (by decide))
theorem ap7_i {v : Nat → Int64} (h : Sm v) : ap7 v = true ↔ A7 (I6 v) := over_i (h 5 (by decide)) (h 0 (by decide)) (h 3 (by decide)) (h 4 (by decide))
theorem ap8_i {v : Nat → Int64} (h : Sm v) : ap8 v = true ↔ A8 (I6 v) := by
  have h0 := h 0 (by decide)
  have h1 := h 1 (by decide)
  have h3 := h 3 (by decide)
  have h4 := h 4 (by decide)
  have h5 := h 5 (by decide)
  have e1 : (v 3 + v 4).toInt = (v 3).toInt + (v 4).toInt := ja (by omega) (by omega)
  have e2 : (v 3 + v 4 + v 5).toInt = (v 3).toInt + (v 4).toInt + (v 5).toInt := by rw [ja (by omega) (by omega), e1]
  have e3 : (v 3 + v 4 + v 5 + v 0).toInt = (v 3).toInt + (v 4).toInt + (v 5).toInt + (v 0).toInt := by rw [ja (by omega) (by omega), e2]
  have e4 : (v 3 + v 4 + v 5 + v 0 + v 1).toInt = (v 3).toInt + (v 4).toInt + (v 5).toInt + (v 0).toInt + (v 1).toInt := by rw [ja (by omega) (by omega), e3]
  have e5 : (v 0 + v 4).toInt = (v 0).toInt + (v 4).toInt := ja (by omega) (by omega)
  have e6 : (2 * (v 0 + v 4)).toInt = 2 * ((v 0).toInt + (v 4).toInt) := by rw [jm (by rw [j2, e5]; omega) (by rw [j2, e5]; omega), j2, e5]
  have e7 : (2 * (v 0 + v 4) + v 5).toInt = 2 * ((v 0).toInt + (v 4).toInt) + (v 5).toInt := by rw [ja (by rw [e6]; omega) (by rw [e6]; omega), e6]
  unfold ap8 A8 I6
  rw [Bool.or_eq_true, Bool.and_eq_true, decide_eq_true_eq, decide_eq_true_eq, decide_eq_true_eq, j_lt, j_eq, j_lt, e4, e7, j0]
theorem iP {x : Int64} (h : 0 < x) : 0 < x.toInt := by
  have := j_lt.mp h
  rwa [j0] at this
theorem iZ {x : Int64} (h : x = 0) : x.toInt = 0 := by rw [h]; exact j0
theorem iN {x : Int64} (h : x < 0) : x.toInt < 0 := by
  have := j_lt.mp h
  rwa [j0] at this
theorem ap3_i {v : Nat → Int64} : ap3 v = true ↔ A3 (I6 v) := by
  rcases tri (v 3) with s0 | s0 | s0 <;> rcases tri (v 4) with s1 | s1 | s1 <;> rcases tri (v 5) with s2 | s2 | s2
  · have i0 := iP s0; have i1 := iP s1; have i2 := iP s2; have hb : ap3 v = false := by simp only [ap3, sg3, aboV, (sgnP s0).1, (sgnP s0).2.1, (sgnP s0).2.2.1, (sgnP s0).2.2.2, (sgnP s1).1, (sgnP s1).2.1, (sgnP s1).2.2.1, (sgnP s1).2.2.2, (sgnP s2).1, (sgnP s2).2.1, (sgnP s2).2.2.1, (sgnP s2).2.2.2, reduceIte]; decide
    exact iff_of_false (by rw [hb]; decide) (by unfold A3 I6; omega)
  · have i0 := iP s0; have i1 := iP s1; have i2 := iZ s2; have hb : ap3 v = false := by simp only [ap3, sg3, aboV, (sgnP s0).1, (sgnP s0).2.1, (sgnP s0).2.2.1, (sgnP s0).2.2.2, (sgnP s1).1, (sgnP s1).2.1, (sgnP s1).2.2.1, (sgnP s1).2.2.2, (sgnZ s2).1, (sgnZ s2).2.1, (sgnZ s2).2.2.1, (sgnZ s2).2.2.2, reduceIte]; decide
    exact iff_of_false (by rw [hb]; decide) (by unfold A3 I6; omega)
  · have i0 := iP s0; have i1 := iP s1; have i2 := iN s2; have hb : ap3 v = false := by simp only [ap3, sg3, aboV, (sgnP s0).1, (sgnP s0).2.1, (sgnP s0).2.2.1, (sgnP s0).2.2.2, (sgnP s1).1, (sgnP s1).2.1, (sgnP s1).2.2.1, (sgnP s1).2.2.2, (sgnN s2).1, (sgnN s2).2.1, (sgnN s2).2.2.1, (sgnN s2).2.2.2, reduceIte]; decide
    exact iff_of_false (by rw [hb]; decide) (by unfold A3 I6; omega)
  · have i0 := iP s0; have i1 := iZ s1; have i2 := iP s2; have hb : ap3 v = false := by simp only [ap3, sg3, aboV, (sgnP s0).1, (sgnP s0).2.1, (sgnP s0).2.2.1, (sgnP s0).2.2.2, (sgnZ s1).1, (sgnZ s1).2.1, (sgnZ s1).2.2.1, (sgnZ s1).2.2.2, (sgnP s2).1, (sgnP s2).2.1, (sgnP s2).2.2.1, (sgnP s2).2.2.2, reduceIte]; decide
    exact iff_of_false (by rw [hb]; decide) (by unfold A3 I6; omega)
  · have i0 := iP s0; have i1 := iZ s1; have i2 := iZ s2; have hb : ap3 v = false := by simp only [ap3, sg3, aboV, (sgnP s0).1, (sgnP s0).2.1, (sgnP s0).2.2.1, (sgnP s0).2.2.2, (sgnZ s1).1, (sgnZ s1).2.1, (sgnZ s1).2.2.1, (sgnZ s1).2.2.2, (sgnZ s2).1, (sgnZ s2).2.1, (sgnZ s2).2.2.1, (sgnZ s2).2.2.2, reduceIte]; decide
    exact iff_of_false (by rw [hb]; decide) (by unfold A3 I6; omega)
  · have i0 := iP s0; have i1 := iZ s1; have i2 := iN s2; have hb : ap3 v = false := by simp only [ap3, sg3, aboV, (sgnP s0).1, (sgnP s0).2.1, (sgnP s0).2.2.1, (sgnP s0).2.2.2, (sgnZ s1).1, (sgnZ s1).2.1, (sgnZ s1).2.2.1, (sgnZ s1).2.2.2, (sgnN s2).1, (sgnN s2).2.1, (sgnN s2).2.2.1, (sgnN s2).2.2.2, reduceIte]; decide
    exact iff_of_false (by rw [hb]; decide) (by unfold A3 I6; omega)
  · have i0 := iP s0; have i1 := iN s1; have i2 := iP s2; have hb : ap3 v = false := by simp only [ap3, sg3, aboV, (sgnP s0).1, (sgnP s0).2.1, (sgnP s0).2.2.1, (sgnP s0).2.2.2, (sgnN s1).1, (sgnN s1).2.1, (sgnN s1).2.2.1, (sgnN s1).2.2.2, (sgnP s2).1, (sgnP s2).2.1, (sgnP s2).2.2.1, (sgnP s2).2.2.2, reduceIte]; decide
    exact iff_of_false (by rw [hb]; decide) (by unfold A3 I6; omega)
  · have i0 := iP s0; have i1 := iN s1; have i2 := iZ s2; have hb : ap3 v = false := by simp only [ap3, sg3, aboV, (sgnP s0).1, (sgnP s0).2.1, (sgnP s0).2.2.1, (sgnP s0).2.2.2, (sgnN s1).1, (sgnN s1).2.1, (sgnN s1).2.2.1, (sgnN s1).2.2.2, (sgnZ s2).1, (sgnZ s2).2.1, (sgnZ s2).2.2.1, (sgnZ s2).2.2.2, reduceIte]; decide
    exact iff_of_false (by rw [hb]; decide) (by unfold A3 I6; omega)
  · have i0 := iP s0; have i1 := iN s1; have i2 := iN s2; have hb : ap3 v = true := by simp only [ap3, sg3, aboV, (sgnP s0).1, (sgnP s0).2.1, (sgnP s0).2.2.1, (sgnP s0).2.2.2, (sgnN s1).1, (sgnN s1).2.1, (sgnN s1).2.2.1, (sgnN s1).2.2.2, (sgnN s2).1, (sgnN s2).2.1, (sgnN s2).2.2.1, (sgnN s2).2.2.2, reduceIte]; decide
    exact iff_of_true hb (by unfold A3 I6; omega)
  · have i0 := iZ s0; have i1 := iP s1; have i2 := iP s2; have hb : ap3 v = false := by simp only [ap3, sg3, aboV, (sgnZ s0).1, (sgnZ s0).2.1, (sgnZ s0).2.2.1, (sgnZ s0).2.2.2, (sgnP s1).1, (sgnP s1).2.1, (sgnP s1).2.2.1, (sgnP s1).2.2.2, (sgnP s2).1, (sgnP s2).2.1, (sgnP s2).2.2.1, (sgnP s2).2.2.2, reduceIte]; decide
    exact iff_of_false (by rw [hb]; decide) (by unfold A3 I6; omega)
  · have i0 := iZ s0; have i1 := iP s1; have i2 := iZ s2; have hb : ap3 v = false := by simp only [ap3, sg3, aboV, (sgnZ s0).1, (sgnZ s0).2.1, (sgnZ s0).2.2.1, (sgnZ s0).2.2.2, (sgnP s1).1, (sgnP s1).2.1, (sgnP s1).2.2.1, (sgnP s1).2.2.2, (sgnZ s2).1, (sgnZ s2).2.1, (sgnZ s2).2.2.1, (sgnZ s2).2.2.2, reduceIte]; decide
    exact iff_of_false (by rw [hb]; decide) (by unfold A3 I6; omega)
  · have i0 := iZ s0; have i1 := iP s1; have i2 := iN s2; have hb : ap3 v = false := by simp only [ap3, sg3, aboV, (sgnZ s0).1, (sgnZ s0).2.1, (sgnZ s0).2.2.1, (sgnZ s0).2.2.2, (sgnP s1).1, (sgnP s1).2.1, (sgnP s1).2.2.1, (sgnP s1).2.2.2, (sgnN s2).1, (sgnN s2).2.1, (sgnN s2).2.2.1, (sgnN s2).2.2.2, reduceIte]; decide
    exact iff_of_false (by rw [hb]; decide) (by unfold A3 I6; omega)
  · have i0 := iZ s0; have i1 := iZ s1; have i2 := iP s2; have hb : ap3 v = false := by simp only [ap3, sg3, aboV, (sgnZ s0).1, (sgnZ s0).2.1, (sgnZ s0).2.2.1, (sgnZ s0).2.2.2, (sgnZ s1).1, (sgnZ s1).2.1, (sgnZ s1).2.2.1, (sgnZ s1).2.2.2, (sgnP s2).1, (sgnP s2).2.1, (sgnP s2).2.2.1, (sgnP s2).2.2.2, reduceIte]; decide
    exact iff_of_false (by rw [hb]; decide) (by unfold A3 I6; omega)
  · have i0 := iZ s0; have i1 := iZ s1; have i2 := iZ s2; have hb : ap3 v = false := by simp only [ap3, sg3, aboV, (sgnZ s0).1, (sgnZ s0).2.1, (sgnZ s0).2.2.1, (sgnZ s0).2.2.2, (sgnZ s1).1, (sgnZ s1).2.1, (sgnZ s1).2.2.1, (sgnZ s1).2.2.2, (sgnZ s2).1, (sgnZ s2).2.1, (sgnZ s2).2.2.1, (sgnZ s2).2.2.2, reduceIte]; decide
    exact iff_of_false (by rw [hb]; decide) (by unfold A3 I6; omega)
  · have i0 := iZ s0; have i1 := iZ s1; have i2 := iN s2; have hb : ap3 v = false := by simp only [ap3, sg3, aboV, (sgnZ s0).1, (sgnZ s0).2.1, (sgnZ s0).2.2.1, (sgnZ s0).2.2.2, (sgnZ s1).1, (sgnZ s1).2.1, (sgnZ s1).2.2.1, (sgnZ s1).2.2.2, (sgnN s2).1, (sgnN s2).2.1, (sgnN s2).2.2.1, (sgnN s2).2.2.2, reduceIte]; decide
    exact iff_of_false (by rw [hb]; decide) (by unfold A3 I6; omega)
  · have i0 := iZ s0; have i1 := iN s1; have i2 := iP s2; have hb : ap3 v = false := by simp only [ap3, sg3, aboV, (sgnZ s0).1, (sgnZ s0).2.1, (sgnZ s0).2.2.1, (sgnZ s0).2.2.2, (sgnN s1).1, (sgnN s1).2.1, (sgnN s1).2.2.1, (sgnN s1).2.2.2, (sgnP s2).1, (sgnP s2).2.1, (sgnP s2).2.2.1, (sgnP s2).2.2.2, reduceIte]; decide
    exact iff_of_false (by rw [hb]; decide) (by unfold A3 I6; omega)
  · have i0 := iZ s0; have i1 := iN s1; have i2 := iZ s2; have hb : ap3 v = false := by simp only [ap3, sg3, aboV, (sgnZ s0).1, (sgnZ s0).2.1, (sgnZ s0).2.2.1, (sgnZ s0).2.2.2, (sgnN s1).1, (sgnN s1).2.1, (sgnN s1).2.2.1, (sgnN s1).2.2.2, (sgnZ s2).1, (sgnZ s2).2.1, (sgnZ s2).2.2.1, (sgnZ s2).2.2.2, reduceIte]; decide
    exact iff_of_false (by rw [hb]; decide) (by unfold A3 I6; omega)
  · have i0 := iZ s0; have i1 := iN s1; have i2 := iN s2; have hb : ap3 v = false := by simp only [ap3, sg3, aboV, (sgnZ s0).1, (sgnZ s0).2.1, (sgnZ s0).2.2.1, (sgnZ s0).2.2.2, (sgnN s1).1, (sgnN s1).2.1, (sgnN s1).2.2.1, (sgnN s1).2.2.2, (sgnN s2).1, (sgnN s2).2.1, (sgnN s2).2.2.1, (sgnN s2).2.2.2, reduceIte]; decide
    exact iff_of_false (by rw [hb]; decide) (by unfold A3 I6; omega)
  · have i0 := iN s0; have i1 := iP s1; have i2 := iP s2; have hb : ap3 v = false := by simp only [ap3, sg3, aboV, (sgnN s0).1, (sgnN s0).2.1, (sgnN s0).2.2.1, (sgnN s0).2.2.2, (sgnP s1).1, (sgnP s1).2.1, (sgnP s1).2.2.1, (sgnP s1).2.2.2, (sgnP s2).1, (sgnP s2).2.1, (sgnP s2).2.2.1, (sgnP s2).2.2.2, reduceIte]; decide
    exact iff_of_false (by rw [hb]; decide) (by unfold A3 I6; omega)
  · have i0 := iN s0; have i1 := iP s1; have i2 := iZ s2; have hb : ap3 v = false := by simp only [ap3, sg3, aboV, (sgnN s0).1, (sgnN s0).2.1, (sgnN s0).2.2.1, (sgnN s0).2.2.2, (sgnP s1).1, (sgnP s1).2.1, (sgnP s1).2.2.1, (sgnP s1).2.2.2, (sgnZ s2).1, (sgnZ s2).2.1, (sgnZ s2).2.2.1, (sgnZ s2).2.2.2, reduceIte]; decide
    exact iff_of_false (by rw [hb]; decide) (by unfold A3 I6; omega)
  · have i0 := iN s0; have i1 := iP s1; have i2 := iN s2; have hb : ap3 v = true := by simp only [ap3, sg3, aboV, (sgnN s0).1, (sgnN s0).2.1, (sgnN s0).2.2.1, (sgnN s0).2.2.2, (sgnP s1).1, (sgnP s1).2.1, (sgnP s1).2.2.1, (sgnP s1).2.2.2, (sgnN s2).1, (sgnN s2).2.1, (sgnN s2).2.2.1, (sgnN s2).2.2.2, reduceIte]; decide
    exact iff_of_true hb (by unfold A3 I6; omega)
  · have i0 := iN s0; have i1 := iZ s1; have i2 := iP s2; have hb : ap3 v = false := by simp only [ap3, sg3, aboV, (sgnN s0).1, (sgnN s0).2.1, (sgnN s0).2.2.1, (sgnN s0).2.2.2, (sgnZ s1).1, (sgnZ s1).2.1, (sgnZ s1).2.2.1, (sgnZ s1).2.2.2, (sgnP s2).1, (sgnP s2).2.1, (sgnP s2).2.2.1, (sgnP s2).2.2.2, reduceIte]; decide
    exact iff_of_false (by rw [hb]; decide) (by unfold A3 I6; omega)
  · have i0 := iN s0; have i1 := iZ s1; have i2 := iZ s2; have hb : ap3 v = false := by simp only [ap3, sg3, aboV, (sgnN s0).1, (sgnN s0).2.1, (sgnN s0).2.2.1, (sgnN s0).2.2.2, (sgnZ s1).1, (sgnZ s1).2.1, (sgnZ s1).2.2.1, (sgnZ s1).2.2.2, (sgnZ s2).1, (sgnZ s2).2.1, (sgnZ s2).2.2.1, (sgnZ s2).2.2.2, reduceIte]; decide
    exact iff_of_false (by rw [hb]; decide) (by unfold A3 I6; omega)
  · have i0 := iN s0; have i1 := iZ s1; have i2 := iN s2; have hb : ap3 v = false := by simp only [ap3, sg3, aboV, (sgnN s0).1, (sgnN s0).2.1, (sgnN s0).2.2.1, (sgnN s0).2.2.2, (sgnZ s1).1, (sgnZ s1).2.1, (sgnZ s1).2.2.1, (sgnZ s1).2.2.2, (sgnN s2).1, (sgnN s2).2.1, (sgnN s2).2.2.1, (sgnN s2).2.2.2, reduceIte]; decide
    exact iff_of_false (by rw [hb]; decide) (by unfold A3 I6; omega)
  · have i0 := iN s0; have i1 := iN s1; have i2 := iP s2; have hb : ap3 v = true := by simp only [ap3, sg3, aboV, (sgnN s0).1, (sgnN s0).2.1, (sgnN s0).2.2.1, (sgnN s0).2.2.2, (sgnN s1).1, (sgnN s1).2.1, (sgnN s1).2.2.1, (sgnN s1).2.2.2, (sgnP s2).1, (sgnP s2).2.1, (sgnP s2).2.2.1, (sgnP s2).2.2.2, reduceIte]; decide
    exact iff_of_true hb (by unfold A3 I6; omega)
  · have i0 := iN s0; have i1 := iN s1; have i2 := iZ s2; have hb : ap3 v = false := by simp only [ap3, sg3, aboV, (sgnN s0).1, (sgnN s0).2.1, (sgnN s0).2.2.1, (sgnN s0).2.2.2, (sgnN s1).1, (sgnN s1).2.1, (sgnN s1).2.2.1, (sgnN s1).2.2.2, (sgnZ s2).1, (sgnZ s2).2.1, (sgnZ s2).2.2.1, (sgnZ s2).2.2.2, reduceIte]; decide
    exact iff_of_false (by rw [hb]; decide) (by unfold A3 I6; omega)
  · have i0 := iN s0; have i1 := iN s1; have i2 := iN s2; have hb : ap3 v = false := by simp only [ap3, sg3, aboV, (sgnN s0).1, (sgnN s0).2.1, (sgnN s0).2.2.1, (sgnN s0).2.2.2, (sgnN s1).1, (sgnN s1).2.1, (sgnN s1).2.2.1, (sgnN s1).2.2.2, (sgnN s2).1, (sgnN s2).2.1, (sgnN s2).2.2.1, (sgnN s2).2.2.2, reduceIte]; decide
    exact iff_of_false (by rw [hb]; decide) (by unfold A3 I6; omega)
theorem ap4_i {v : Nat → Int64} : ap4 v = true ↔ A4 (I6 v) := by
  rcases tri (v 3) with s0 | s0 | s0 <;> rcases tri (v 4) with s1 | s1 | s1 <;> rcases tri (v 5) with s2 | s2 | s2
  · have i0 := iP s0; have i1 := iP s1; have i2 := iP s2; have hb : ap4 v = false := by simp only [ap4, sg3, aboV, (sgnP s0).1, (sgnP s0).2.1, (sgnP s0).2.2.1, (sgnP s0).2.2.2, (sgnP s1).1, (sgnP s1).2.1, (sgnP s1).2.2.1, (sgnP s1).2.2.2, (sgnP s2).1, (sgnP s2).2.1, (sgnP s2).2.2.1, (sgnP s2).2.2.2, reduceIte]; decide
    exact iff_of_false (by rw [hb]; decide) (by unfold A4 A3 I6; omega)
  · have i0 := iP s0; have i1 := iP s1; have i2 := iZ s2; have hb : ap4 v = true := by simp only [ap4, sg3, aboV, (sgnP s0).1, (sgnP s0).2.1, (sgnP s0).2.2.1, (sgnP s0).2.2.2, (sgnP s1).1, (sgnP s1).2.1, (sgnP s1).2.2.1, (sgnP s1).2.2.2, (sgnZ s2).1, (sgnZ s2).2.1, (sgnZ s2).2.2.1, (sgnZ s2).2.2.2, reduceIte]; decide
    exact iff_of_true hb (by unfold A4 A3 I6; omega)
  · have i0 := iP s0; have i1 := iP s1; have i2 := iN s2; have hb : ap4 v = true := by simp only [ap4, sg3, aboV, (sgnP s0).1, (sgnP s0).2.1, (sgnP s0).2.2.1, (sgnP s0).2.2.2, (sgnP s1).1, (sgnP s1).2.1, (sgnP s1).2.2.1, (sgnP s1).2.2.2, (sgnN s2).1, (sgnN s2).2.1, (sgnN s2).2.2.1, (sgnN s2).2.2.2, reduceIte]; decide
    exact iff_of_true hb (by unfold A4 A3 I6; omega)
  · have i0 := iP s0; have i1 := iZ s1; have i2 := iP s2; have hb : ap4 v = true := by simp only [ap4, sg3, aboV, (sgnP s0).1, (sgnP s0).2.1, (sgnP s0).2.2.1, (sgnP s0).2.2.2, (sgnZ s1).1, (sgnZ s1).2.1, (sgnZ s1).2.2.1, (sgnZ s1).2.2.2, (sgnP s2).1, (sgnP s2).2.1, (sgnP s2).2.2.1, (sgnP s2).2.2.2, reduceIte]; decide
    exact iff_of_true hb (by unfold A4 A3 I6; omega)
  · have i0 := iP s0; have i1 := iZ s1; have i2 := iZ s2; have hb : ap4 v = true := by simp only [ap4, sg3, aboV, (sgnP s0).1, (sgnP s0).2.1, (sgnP s0).2.2.1, (sgnP s0).2.2.2, (sgnZ s1).1, (sgnZ s1).2.1, (sgnZ s1).2.2.1, (sgnZ s1).2.2.2, (sgnZ s2).1, (sgnZ s2).2.1, (sgnZ s2).2.2.1, (sgnZ s2).2.2.2, reduceIte]; decide
    exact iff_of_true hb (by unfold A4 A3 I6; omega)
  · have i0 := iP s0; have i1 := iZ s1; have i2 := iN s2; have hb : ap4 v = true := by simp only [ap4, sg3, aboV, (sgnP s0).1, (sgnP s0).2.1, (sgnP s0).2.2.1, (sgnP s0).2.2.2, (sgnZ s1).1, (sgnZ s1).2.1, (sgnZ s1).2.2.1, (sgnZ s1).2.2.2, (sgnN s2).1, (sgnN s2).2.1, (sgnN s2).2.2.1, (sgnN s2).2.2.2, reduceIte]; decide
    exact iff_of_true hb (by unfold A4 A3 I6; omega)
  · have i0 := iP s0; have i1 := iN s1; have i2 := iP s2; have hb : ap4 v = true := by simp only [ap4, sg3, aboV, (sgnP s0).1, (sgnP s0).2.1, (sgnP s0).2.2.1, (sgnP s0).2.2.2, (sgnN s1).1, (sgnN s1).2.1, (sgnN s1).2.2.1, (sgnN s1).2.2.2, (sgnP s2).1, (sgnP s2).2.1, (sgnP s2).2.2.1, (sgnP s2).2.2.2, reduceIte]; decide
    exact iff_of_true hb (by unfold A4 A3 I6; omega)
  · have i0 := iP s0; have i1 := iN s1; have i2 := iZ s2; have hb : ap4 v = true := by simp only [ap4, sg3, aboV, (sgnP s0).1, (sgnP s0).2.1, (sgnP s0).2.2.1, (sgnP s0).2.2.2, (sgnN s1).1, (sgnN s1).2.1, (sgnN s1).2.2.1, (sgnN s1).2.2.2, (sgnZ s2).1, (sgnZ s2).2.1, (sgnZ s2).2.2.1, (sgnZ s2).2.2.2, reduceIte]; decide
    exact iff_of_true hb (by unfold A4 A3 I6; omega)
  · have i0 := iP s0; have i1 := iN s1; have i2 := iN s2; have hb : ap4 v = false := by simp only [ap4, sg3, aboV, (sgnP s0).1, (sgnP s0).2.1, (sgnP s0).2.2.1, (sgnP s0).2.2.2, (sgnN s1).1, (sgnN s1).2.1, (sgnN s1).2.2.1, (sgnN s1).2.2.2, (sgnN s2).1, (sgnN s2).2.1, (sgnN s2).2.2.1, (sgnN s2).2.2.2, reduceIte]; decide
    exact iff_of_false (by rw [hb]; decide) (by unfold A4 A3 I6; omega)
  · have i0 := iZ s0; have i1 := iP s1; have i2 := iP s2; have hb : ap4 v = true := by simp only [ap4, sg3, aboV, (sgnZ s0).1, (sgnZ s0).2.1, (sgnZ s0).2.2.1, (sgnZ s0).2.2.2, (sgnP s1).1, (sgnP s1).2.1, (sgnP s1).2.2.1, (sgnP s1).2.2.2, (sgnP s2).1, (sgnP s2).2.1, (sgnP s2).2.2.1, (sgnP s2).2.2.2, reduceIte]; decide
    exact iff_of_true hb (by unfold A4 A3 I6; omega)
  · have i0 := iZ s0; have i1 := iP s1; have i2 := iZ s2; have hb : ap4 v = true := by simp only [ap4, sg3, aboV, (sgnZ s0).1, (sgnZ s0).2.1, (sgnZ s0).2.2.1, (sgnZ s0).2.2.2, (sgnP s1).1, (sgnP s1).2.1, (sgnP s1).2.2.1, (sgnP s1).2.2.2, (sgnZ s2).1, (sgnZ s2).2.1, (sgnZ s2).2.2.1, (sgnZ s2).2.2.2, reduceIte]; decide
    exact iff_of_true hb (by unfold A4 A3 I6; omega)
  · have i0 := iZ s0; have i1 := iP s1; have i2 := iN s2; have hb : ap4 v = true := by simp only [ap4, sg3, aboV, (sgnZ s0).1, (sgnZ s0).2.1, (sgnZ s0).2.2.1, (sgnZ s0).2.2.2, (sgnP s1).1, (sgnP s1).2.1, (sgnP s1).2.2.1, (sgnP s1).2.2.2, (sgnN s2).1, (sgnN s2).2.1, (sgnN s2).2.2.1, (sgnN s2).2.2.2, reduceIte]; decide
    exact iff_of_true hb (by unfold A4 A3 I6; omega)
  · have i0 := iZ s0; have i1 := iZ s1; have i2 := iP s2; have hb : ap4 v = true := by simp only [ap4, sg3, aboV, (sgnZ s0).1, (sgnZ s0).2.1, (sgnZ s0).2.2.1, (sgnZ s0).2.2.2, (sgnZ s1).1, (sgnZ s1).2.1, (sgnZ s1).2.2.1, (sgnZ s1).2.2.2, (sgnP s2).1, (sgnP s2).2.1, (sgnP s2).2.2.1, (sgnP s2).2.2.2, reduceIte]; decide
    exact iff_of_true hb (by unfold A4 A3 I6; omega)
  · have i0 := iZ s0; have i1 := iZ s1; have i2 := iZ s2; have hb : ap4 v = false := by simp only [ap4, sg3, aboV, (sgnZ s0).1, (sgnZ s0).2.1, (sgnZ s0).2.2.1, (sgnZ s0).2.2.2, (sgnZ s1).1, (sgnZ s1).2.1, (sgnZ s1).2.2.1, (sgnZ s1).2.2.2, (sgnZ s2).1, (sgnZ s2).2.1, (sgnZ s2).2.2.1, (sgnZ s2).2.2.2, reduceIte]; decide
    exact iff_of_false (by rw [hb]; decide) (by unfold A4 A3 I6; omega)
  · have i0 := iZ s0; have i1 := iZ s1; have i2 := iN s2; have hb : ap4 v = false := by simp only [ap4, sg3, aboV, (sgnZ s0).1, (sgnZ s0).2.1, (sgnZ s0).2.2.1, (sgnZ s0).2.2.2, (sgnZ s1).1, (sgnZ s1).2.1, (sgnZ s1).2.2.1, (sgnZ s1).2.2.2, (sgnN s2).1, (sgnN s2).2.1, (sgnN s2).2.2.1, (sgnN s2).2.2.2, reduceIte]; decide
    exact iff_of_false (by rw [hb]; decide) (by unfold A4 A3 I6; omega)
  · have i0 := iZ s0; have i1 := iN s1; have i2 := iP s2; have hb : ap4 v = true := by simp only [ap4, sg3, aboV, (sgnZ s0).1, (sgnZ s0).2.1, (sgnZ s0).2.2.1, (sgnZ s0).2.2.2, (sgnN s1).1, (sgnN s1).2.1, (sgnN s1).2.2.1, (sgnN s1).2.2.2, (sgnP s2).1, (sgnP s2).2.1, (sgnP s2).2.2.1, (sgnP s2).2.2.2, reduceIte]; decide
    exact iff_of_true hb (by unfold A4 A3 I6; omega)
  · have i0 := iZ s0; have i1 := iN s1; have i2 := iZ s2; have hb : ap4 v = false := by simp only [ap4, sg3, aboV, (sgnZ s0).1, (sgnZ s0).2.1, (sgnZ s0).2.2.1, (sgnZ s0).2.2.2, (sgnN s1).1, (sgnN s1).2.1, (sgnN s1).2.2.1, (sgnN s1).2.2.2, (sgnZ s2).1, (sgnZ s2).2.1, (sgnZ s2).2.2.1, (sgnZ s2).2.2.2, reduceIte]; decide
    exact iff_of_false (by rw [hb]; decide) (by unfold A4 A3 I6; omega)
  · have i0 := iZ s0; have i1 := iN s1; have i2 := iN s2; have hb : ap4 v = false := by simp only [ap4, sg3, aboV, (sgnZ s0).1, (sgnZ s0).2.1, (sgnZ s0).2.2.1, (sgnZ s0).2.2.2, (sgnN s1).1, (sgnN s1).2.1, (sgnN s1).2.2.1, (sgnN s1).2.2.2, (sgnN s2).1, (sgnN s2).2.1, (sgnN s2).2.2.1, (sgnN s2).2.2.2, reduceIte]; decide
    exact iff_of_false (by rw [hb]; decide) (by unfold A4 A3 I6; omega)
  · have i0 := iN s0; have i1 := iP s1; have i2 := iP s2; have hb : ap4 v = true := by simp only [ap4, sg3, aboV, (sgnN s0).1, (sgnN s0).2.1, (sgnN s0).2.2.1, (sgnN s0).2.2.2, (sgnP s1).1, (sgnP s1).2.1, (sgnP s1).2.2.1, (sgnP s1).2.2.2, (sgnP s2).1, (sgnP s2).2.1, (sgnP s2).2.2.1, (sgnP s2).2.2.2, reduceIte]; decide
    exact iff_of_true hb (by unfold A4 A3 I6; omega)
  · have i0 := iN s0; have i1 := iP s1; have i2 := iZ s2; have hb : ap4 v = true := by simp only [ap4, sg3, aboV, (sgnN s0).1, (sgnN s0).2.1, (sgnN s0).2.2.1, (sgnN s0).2.2.2, (sgnP s1).1, (sgnP s1).2.1, (sgnP s1).2.2.1, (sgnP s1).2.2.2, (sgnZ s2).1, (sgnZ s2).2.1, (sgnZ s2).2.2.1, (sgnZ s2).2.2.2, reduceIte]; decide
    exact iff_of_true hb (by unfold A4 A3 I6; omega)
  · have i0 := iN s0; have i1 := iP s1; have i2 := iN s2; have hb : ap4 v = false := by simp only [ap4, sg3, aboV, (sgnN s0).1, (sgnN s0).2.1, (sgnN s0).2.2.1, (sgnN s0).2.2.2, (sgnP s1).1, (sgnP s1).2.1, (sgnP s1).2.2.1, (sgnP s1).2.2.2, (sgnN s2).1, (sgnN s2).2.1, (sgnN s2).2.2.1, (sgnN s2).2.2.2, reduceIte]; decide
    exact iff_of_false (by rw [hb]; decide) (by unfold A4 A3 I6; omega)
  · have i0 := iN s0; have i1 := iZ s1; have i2 := iP s2; have hb : ap4 v = true := by simp only [ap4, sg3, aboV, (sgnN s0).1, (sgnN s0).2.1, (sgnN s0).2.2.1, (sgnN s0).2.2.2, (sgnZ s1).1, (sgnZ s1).2.1, (sgnZ s1).2.2.1, (sgnZ s1).2.2.2, (sgnP s2).1, (sgnP s2).2.1, (sgnP s2).2.2.1, (sgnP s2).2.2.2, reduceIte]; decide
    exact iff_of_true hb (by unfold A4 A3 I6; omega)
  · have i0 := iN s0; have i1 := iZ s1; have i2 := iZ s2; have hb : ap4 v = false := by simp only [ap4, sg3, aboV, (sgnN s0).1, (sgnN s0).2.1, (sgnN s0).2.2.1, (sgnN s0).2.2.2, (sgnZ s1).1, (sgnZ s1).2.1, (sgnZ s1).2.2.1, (sgnZ s1).2.2.2, (sgnZ s2).1, (sgnZ s2).2.1, (sgnZ s2).2.2.1, (sgnZ s2).2.2.2, reduceIte]; decide
    exact iff_of_false (by rw [hb]; decide) (by unfold A4 A3 I6; omega)
  · have i0 := iN s0; have i1 := iZ s1; have i2 := iN s2; have hb : ap4 v = false := by simp only [ap4, sg3, aboV, (sgnN s0).1, (sgnN s0).2.1, (sgnN s0).2.2.1, (sgnN s0).2.2.2, (sgnZ s1).1, (sgnZ s1).2.1, (sgnZ s1).2.2.1, (sgnZ s1).2.2.2, (sgnN s2).1, (sgnN s2).2.1, (sgnN s2).2.2.1, (sgnN s2).2.2.2, reduceIte]; decide
    exact iff_of_false (by rw [hb]; decide) (by unfold A4 A3 I6; omega)
  · have i0 := iN s0; have i1 := iN s1; have i2 := iP s2; have hb : ap4 v = false := by simp only [ap4, sg3, aboV, (sgnN s0).1, (sgnN s0).2.1, (sgnN s0).2.2.1, (sgnN s0).2.2.2, (sgnN s1).1, (sgnN s1).2.1, (sgnN s1).2.2.1, (sgnN s1).2.2.2, (sgnP s2).1, (sgnP s2).2.1, (sgnP s2).2.2.1, (sgnP s2).2.2.2, reduceIte]; decide
    exact iff_of_false (by rw [hb]; decide) (by unfold A4 A3 I6; omega)
  · have i0 := iN s0; have i1 := iN s1; have i2 := iZ s2; have hb : ap4 v = false := by simp only [ap4, sg3, aboV, (sgnN s0).1, (sgnN s0).2.1, (sgnN s0).2.2.1, (sgnN s0).2.2.2, (sgnN s1).1, (sgnN s1).2.1, (sgnN s1).2.2.1, (sgnN s1).2.2.2, (sgnZ s2).1, (sgnZ s2).2.1, (sgnZ s2).2.2.1, (sgnZ s2).2.2.2, reduceIte]; decide
    exact iff_of_false (by rw [hb]; decide) (by unfold A4 A3 I6; omega)
  · have i0 := iN s0; have i1 := iN s1; have i2 := iN s2; have hb : ap4 v = false := by simp only [ap4, sg3, aboV, (sgnN s0).1, (sgnN s0).2.1, (sgnN s0).2.2.1, (sgnN s0).2.2.2, (sgnN s1).1, (sgnN s1).2.1, (sgnN s1).2.2.1, (sgnN s1).2.2.2, (sgnN s2).1, (sgnN s2).2.1, (sgnN s2).2.2.1, (sgnN s2).2.2.2, reduceIte]; decide
    exact iff_of_false (by rw [hb]; decide) (by unfold A4 A3 I6; omega)
theorem m1_i : (-1 : Int64).toInt = -1 := by decide
theorem p1_i : (1 : Int64).toInt = 1 := by decide
theorem lessV_i (x : Int64) : (lessV x).toInt = le1 x.toInt ∧ ((lessV x).toInt = 1 ∨ (lessV x).toInt = -1) := by
  unfold lessV le1
  by_cases p : 0 < x
  · rw [if_pos p, if_pos (iP p), m1_i]; exact ⟨rfl, Or.inr rfl⟩
  · rw [if_neg p, if_neg (fun q => p (j_lt.mpr (by rw [j0]; exact q))), p1_i]; exact ⟨rfl, Or.inl rfl⟩
/-- a vector gets another one once -/
theorem lin {k a x b : Int64} (hk : k.toInt = 1 ∨ k.toInt = -1) (ha : -4000000000 ≤ a.toInt ∧ a.toInt ≤ 4000000000) (hx : -4000000000 ≤ x.toInt ∧ x.toInt ≤ 4000000000) (hb : -4000000000 ≤ b.toInt ∧ b.toInt ≤ 4000000000) : (k * x).toInt = k.toInt * x.toInt ∧ (a + k * x).toInt = a.toInt + k.toInt * x.toInt ∧ (a + k * x + k * k * b).toInt = a.toInt + k.toInt * x.toInt + b.toInt ∧ (a + 2 * k * b).toInt = a.toInt + 2 * k.toInt * b.toInt := by
  have e1 : (k * x).toInt = k.toInt * x.toInt := by rcases hk with h | h <;> exact jm (by rw [h]; omega) (by rw [h]; omega)
  have e2 : (a + k * x).toInt = a.toInt + k.toInt * x.toInt := by rw [ja (by rw [e1]; rcases hk with h | h <;> rw [h] <;> omega) (by rw [e1]; rcases hk with h | h <;> rw [h] <;> omega), e1]
  have e3 : (k * k).toInt = 1 := by rcases hk with h | h <;> rw [jm (by rw [h]; decide) (by rw [h]; decide), h] <;> decide
  have e4 : (k * k * b).toInt = b.toInt := by rw [jm (by rw [e3]; omega) (by rw [e3]; omega), e3]; omega
  have e5 : (2 * k).toInt = 2 * k.toInt := by rw [jm (by rw [j2]; omega) (by rw [j2]; omega), j2]
  have e6 : (2 * k * b).toInt = 2 * k.toInt * b.toInt := by rcases hk with h | h <;> rw [jm (by rw [e5, h]; omega) (by rw [e5, h]; omega), e5]
  refine ⟨e1, e2, ?_, ?_⟩
  · rw [ja (by rw [e2, e4]; rcases hk with h | h <;> rw [h] <;> omega) (by rw [e2, e4]; rcases hk with h | h <;> rw [h] <;> omega), e2, e4]
  · rw [ja (by rw [e6]; rcases hk with h | h <;> rw [h] <;> omega) (by rw [e6]; rcases hk with h | h <;> rw [h] <;> omega), e6]
