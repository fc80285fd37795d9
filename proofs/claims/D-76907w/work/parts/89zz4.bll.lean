/-! FOUR VECTORS: the model runs as the class -/
def HF (f : Nat → Int64) : Prop := f 9 = -(f 0 + f 3 + f 6) ∧ f 10 = -(f 1 + f 4 + f 7) ∧ f 11 = -(f 2 + f 5 + f 8)
def f0F : Nat → Int64 := fun i => if 8 < i then -1 else if i % 4 = 0 then 1 else 0
section XFL
variable {ev : Ev} {w : Wd} {fu k i K : Nat} {f t v b b' : Nat → Int64} {x : Int64} {σ : Mm}
theorem gF_0 : goF f 0 0 = f 0 + f 3 ∧ goF f 0 1 = f 1 + f 4 ∧ goF f 0 2 = f 2 + f 5 ∧ goF f 0 3 = -f 3 ∧ goF f 0 4 = -f 4 ∧ goF f 0 5 = -f 5 ∧ goF f 0 6 = f 6 ∧ goF f 0 7 = f 7 ∧ goF f 0 8 = f 8 ∧ goF f 0 9 = f 9 + f 3 ∧ goF f 0 10 = f 10 + f 4 ∧ goF f 0 11 = f 11 + f 5 := ⟨rfl, rfl, rfl, rfl, rfl, rfl, rfl, rfl, rfl, rfl, rfl, rfl⟩
theorem HF_go0 (h : HF f) : HF (goF f 0) := by
  obtain ⟨h1, h2, h3⟩ := h
  obtain ⟨e0, e1, e2, e3, e4, e5, e6, e7, e8, e9, e10, e11⟩ := gF_0 (f := f)
  unfold HF
  rw [e0, e1, e2, e3, e4, e5, e6, e7, e8, e9, e10, e11, h1, h2, h3]
  refine ⟨?_, ?_, ?_⟩ <;> grind
theorem tw_00 (h : HF f) : twB v (goF f 0) 0 = -twB v f 0 := by
  obtain ⟨h1, h2, h3⟩ := h
  obtain ⟨e0, e1, e2, e3, e4, e5, e6, e7, e8, e9, e10, e11⟩ := gF_0 (f := f)
  simp only [twB, oneN, othN, twF, Nat.reduceMul, Nat.reduceAdd, Nat.mul_zero, Nat.zero_add, e0, e1, e2, e3, e4, e5, e6, e7, e8, e9, e10, e11, h1, h2, h3]
  grind
theorem tw_01 (h : HF f) : twB v (goF f 0) 1 = twB v f 1 + twB v f 0 := by
  obtain ⟨h1, h2, h3⟩ := h
  obtain ⟨e0, e1, e2, e3, e4, e5, e6, e7, e8, e9, e10, e11⟩ := gF_0 (f := f)
  simp only [twB, oneN, othN, twF, Nat.reduceMul, Nat.reduceAdd, Nat.mul_zero, Nat.zero_add, e0, e1, e2, e3, e4, e5, e6, e7, e8, e9, e10, e11, h1, h2, h3]
  grind
theorem tw_02 (h : HF f) : twB v (goF f 0) 2 = twB v f 0 + twB v f 4 := by
  obtain ⟨h1, h2, h3⟩ := h
  obtain ⟨e0, e1, e2, e3, e4, e5, e6, e7, e8, e9, e10, e11⟩ := gF_0 (f := f)
  simp only [twB, oneN, othN, twF, Nat.reduceMul, Nat.reduceAdd, Nat.mul_zero, Nat.zero_add, e0, e1, e2, e3, e4, e5, e6, e7, e8, e9, e10, e11, h1, h2, h3]
  grind
theorem tw_03 (h : HF f) : twB v (goF f 0) 3 = twB v f 3 - twB v f 0 := by
  obtain ⟨h1, h2, h3⟩ := h
  obtain ⟨e0, e1, e2, e3, e4, e5, e6, e7, e8, e9, e10, e11⟩ := gF_0 (f := f)
  simp only [twB, oneN, othN, twF, Nat.reduceMul, Nat.reduceAdd, Nat.mul_zero, Nat.zero_add, e0, e1, e2, e3, e4, e5, e6, e7, e8, e9, e10, e11, h1, h2, h3]
  grind
theorem tw_04 (h : HF f) : twB v (goF f 0) 4 = twB v f 0 + twB v f 2 := by
  obtain ⟨h1, h2, h3⟩ := h
  obtain ⟨e0, e1, e2, e3, e4, e5, e6, e7, e8, e9, e10, e11⟩ := gF_0 (f := f)
  simp only [twB, oneN, othN, twF, Nat.reduceMul, Nat.reduceAdd, Nat.mul_zero, Nat.zero_add, e0, e1, e2, e3, e4, e5, e6, e7, e8, e9, e10, e11, h1, h2, h3]
  grind
theorem tw_05 (h : HF f) : twB v (goF f 0) 5 = twB v f 5 + twB v f 0 := by
  obtain ⟨h1, h2, h3⟩ := h
  obtain ⟨e0, e1, e2, e3, e4, e5, e6, e7, e8, e9, e10, e11⟩ := gF_0 (f := f)
  simp only [twB, oneN, othN, twF, Nat.reduceMul, Nat.reduceAdd, Nat.mul_zero, Nat.zero_add, e0, e1, e2, e3, e4, e5, e6, e7, e8, e9, e10, e11, h1, h2, h3]
  grind
theorem gF_1 : goF f 1 0 = -f 0 ∧ goF f 1 1 = -f 1 ∧ goF f 1 2 = -f 2 ∧ goF f 1 3 = f 3 + f 0 ∧ goF f 1 4 = f 4 + f 1 ∧ goF f 1 5 = f 5 + f 2 ∧ goF f 1 6 = f 6 ∧ goF f 1 7 = f 7 ∧ goF f 1 8 = f 8 ∧ goF f 1 9 = f 9 + f 0 ∧ goF f 1 10 = f 10 + f 1 ∧ goF f 1 11 = f 11 + f 2 := ⟨rfl, rfl, rfl, rfl, rfl, rfl, rfl, rfl, rfl, rfl, rfl, rfl⟩
theorem HF_go1 (h : HF f) : HF (goF f 1) := by
  obtain ⟨h1, h2, h3⟩ := h
  obtain ⟨e0, e1, e2, e3, e4, e5, e6, e7, e8, e9, e10, e11⟩ := gF_1 (f := f)
  unfold HF
  rw [e0, e1, e2, e3, e4, e5, e6, e7, e8, e9, e10, e11, h1, h2, h3]
  refine ⟨?_, ?_, ?_⟩ <;> grind
theorem tw_10 (h : HF f) : twB v (goF f 1) 0 = twB v f 0 + twB v f 1 := by
  obtain ⟨h1, h2, h3⟩ := h
  obtain ⟨e0, e1, e2, e3, e4, e5, e6, e7, e8, e9, e10, e11⟩ := gF_1 (f := f)
  simp only [twB, oneN, othN, twF, Nat.reduceMul, Nat.reduceAdd, Nat.mul_zero, Nat.zero_add, e0, e1, e2, e3, e4, e5, e6, e7, e8, e9, e10, e11, h1, h2, h3]
  grind
theorem tw_11 (h : HF f) : twB v (goF f 1) 1 = -twB v f 1 := by
  obtain ⟨h1, h2, h3⟩ := h
  obtain ⟨e0, e1, e2, e3, e4, e5, e6, e7, e8, e9, e10, e11⟩ := gF_1 (f := f)
  simp only [twB, oneN, othN, twF, Nat.reduceMul, Nat.reduceAdd, Nat.mul_zero, Nat.zero_add, e0, e1, e2, e3, e4, e5, e6, e7, e8, e9, e10, e11, h1, h2, h3]
  grind
theorem tw_12 (h : HF f) : twB v (goF f 1) 2 = twB v f 1 + twB v f 3 := by
  obtain ⟨h1, h2, h3⟩ := h
  obtain ⟨e0, e1, e2, e3, e4, e5, e6, e7, e8, e9, e10, e11⟩ := gF_1 (f := f)
  simp only [twB, oneN, othN, twF, Nat.reduceMul, Nat.reduceAdd, Nat.mul_zero, Nat.zero_add, e0, e1, e2, e3, e4, e5, e6, e7, e8, e9, e10, e11, h1, h2, h3]
  grind
theorem tw_13 (h : HF f) : twB v (goF f 1) 3 = twB v f 1 + twB v f 2 := by
  obtain ⟨h1, h2, h3⟩ := h
  obtain ⟨e0, e1, e2, e3, e4, e5, e6, e7, e8, e9, e10, e11⟩ := gF_1 (f := f)
  simp only [twB, oneN, othN, twF, Nat.reduceMul, Nat.reduceAdd, Nat.mul_zero, Nat.zero_add, e0, e1, e2, e3, e4, e5, e6, e7, e8, e9, e10, e11, h1, h2, h3]
  grind
theorem tw_14 (h : HF f) : twB v (goF f 1) 4 = twB v f 4 - twB v f 1 := by
  obtain ⟨h1, h2, h3⟩ := h
  obtain ⟨e0, e1, e2, e3, e4, e5, e6, e7, e8, e9, e10, e11⟩ := gF_1 (f := f)
  simp only [twB, oneN, othN, twF, Nat.reduceMul, Nat.reduceAdd, Nat.mul_zero, Nat.zero_add, e0, e1, e2, e3, e4, e5, e6, e7, e8, e9, e10, e11, h1, h2, h3]
  grind
theorem tw_15 (h : HF f) : twB v (goF f 1) 5 = twB v f 5 + twB v f 1 := by
  obtain ⟨h1, h2, h3⟩ := h
  obtain ⟨e0, e1, e2, e3, e4, e5, e6, e7, e8, e9, e10, e11⟩ := gF_1 (f := f)
  simp only [twB, oneN, othN, twF, Nat.reduceMul, Nat.reduceAdd, Nat.mul_zero, Nat.zero_add, e0, e1, e2, e3, e4, e5, e6, e7, e8, e9, e10, e11, h1, h2, h3]
  grind
theorem gF_2 : goF f 2 0 = -f 0 ∧ goF f 2 1 = -f 1 ∧ goF f 2 2 = -f 2 ∧ goF f 2 3 = f 3 ∧ goF f 2 4 = f 4 ∧ goF f 2 5 = f 5 ∧ goF f 2 6 = f 6 + f 0 ∧ goF f 2 7 = f 7 + f 1 ∧ goF f 2 8 = f 8 + f 2 ∧ goF f 2 9 = f 9 + f 0 ∧ goF f 2 10 = f 10 + f 1 ∧ goF f 2 11 = f 11 + f 2 := ⟨rfl, rfl, rfl, rfl, rfl, rfl, rfl, rfl, rfl, rfl, rfl, rfl⟩
theorem HF_go2 (h : HF f) : HF (goF f 2) := by
  obtain ⟨h1, h2, h3⟩ := h
  obtain ⟨e0, e1, e2, e3, e4, e5, e6, e7, e8, e9, e10, e11⟩ := gF_2 (f := f)
  unfold HF
  rw [e0, e1, e2, e3, e4, e5, e6, e7, e8, e9, e10, e11, h1, h2, h3]
  refine ⟨?_, ?_, ?_⟩ <;> grind
theorem tw_20 (h : HF f) : twB v (goF f 2) 0 = twB v f 0 + twB v f 2 := by
  obtain ⟨h1, h2, h3⟩ := h
  obtain ⟨e0, e1, e2, e3, e4, e5, e6, e7, e8, e9, e10, e11⟩ := gF_2 (f := f)
  simp only [twB, oneN, othN, twF, Nat.reduceMul, Nat.reduceAdd, Nat.mul_zero, Nat.zero_add, e0, e1, e2, e3, e4, e5, e6, e7, e8, e9, e10, e11, h1, h2, h3]
  grind
theorem tw_21 (h : HF f) : twB v (goF f 2) 1 = twB v f 2 + twB v f 3 := by
  obtain ⟨h1, h2, h3⟩ := h
  obtain ⟨e0, e1, e2, e3, e4, e5, e6, e7, e8, e9, e10, e11⟩ := gF_2 (f := f)
  simp only [twB, oneN, othN, twF, Nat.reduceMul, Nat.reduceAdd, Nat.mul_zero, Nat.zero_add, e0, e1, e2, e3, e4, e5, e6, e7, e8, e9, e10, e11, h1, h2, h3]
  grind
theorem tw_22 (h : HF f) : twB v (goF f 2) 2 = -twB v f 2 := by
  obtain ⟨h1, h2, h3⟩ := h
  obtain ⟨e0, e1, e2, e3, e4, e5, e6, e7, e8, e9, e10, e11⟩ := gF_2 (f := f)
  simp only [twB, oneN, othN, twF, Nat.reduceMul, Nat.reduceAdd, Nat.mul_zero, Nat.zero_add, e0, e1, e2, e3, e4, e5, e6, e7, e8, e9, e10, e11, h1, h2, h3]
  grind
theorem tw_23 (h : HF f) : twB v (goF f 2) 3 = twB v f 2 + twB v f 1 := by
  obtain ⟨h1, h2, h3⟩ := h
  obtain ⟨e0, e1, e2, e3, e4, e5, e6, e7, e8, e9, e10, e11⟩ := gF_2 (f := f)
  simp only [twB, oneN, othN, twF, Nat.reduceMul, Nat.reduceAdd, Nat.mul_zero, Nat.zero_add, e0, e1, e2, e3, e4, e5, e6, e7, e8, e9, e10, e11, h1, h2, h3]
  grind
theorem tw_24 (h : HF f) : twB v (goF f 2) 4 = twB v f 4 + twB v f 2 := by
  obtain ⟨h1, h2, h3⟩ := h
  obtain ⟨e0, e1, e2, e3, e4, e5, e6, e7, e8, e9, e10, e11⟩ := gF_2 (f := f)
  simp only [twB, oneN, othN, twF, Nat.reduceMul, Nat.reduceAdd, Nat.mul_zero, Nat.zero_add, e0, e1, e2, e3, e4, e5, e6, e7, e8, e9, e10, e11, h1, h2, h3]
  grind
theorem tw_25 (h : HF f) : twB v (goF f 2) 5 = twB v f 5 - twB v f 2 := by
  obtain ⟨h1, h2, h3⟩ := h
  obtain ⟨e0, e1, e2, e3, e4, e5, e6, e7, e8, e9, e10, e11⟩ := gF_2 (f := f)
  simp only [twB, oneN, othN, twF, Nat.reduceMul, Nat.reduceAdd, Nat.mul_zero, Nat.zero_add, e0, e1, e2, e3, e4, e5, e6, e7, e8, e9, e10, e11, h1, h2, h3]
  grind
theorem gF_3 : goF f 3 0 = -f 0 ∧ goF f 3 1 = -f 1 ∧ goF f 3 2 = -f 2 ∧ goF f 3 3 = f 3 + f 0 ∧ goF f 3 4 = f 4 + f 1 ∧ goF f 3 5 = f 5 + f 2 ∧ goF f 3 6 = f 6 + f 0 ∧ goF f 3 7 = f 7 + f 1 ∧ goF f 3 8 = f 8 + f 2 ∧ goF f 3 9 = f 9 ∧ goF f 3 10 = f 10 ∧ goF f 3 11 = f 11 := ⟨rfl, rfl, rfl, rfl, rfl, rfl, rfl, rfl, rfl, rfl, rfl, rfl⟩
theorem HF_go3 (h : HF f) : HF (goF f 3) := by
  obtain ⟨h1, h2, h3⟩ := h
  obtain ⟨e0, e1, e2, e3, e4, e5, e6, e7, e8, e9, e10, e11⟩ := gF_3 (f := f)
  unfold HF
  rw [e0, e1, e2, e3, e4, e5, e6, e7, e8, e9, e10, e11, h1, h2, h3]
  refine ⟨?_, ?_, ?_⟩ <;> grind
theorem tw_30 (h : HF f) : twB v (goF f 3) 0 = twB v f 0 - twB v f 3 := by
  obtain ⟨h1, h2, h3⟩ := h
  obtain ⟨e0, e1, e2, e3, e4, e5, e6, e7, e8, e9, e10, e11⟩ := gF_3 (f := f)
  simp only [twB, oneN, othN, twF, Nat.reduceMul, Nat.reduceAdd, Nat.mul_zero, Nat.zero_add, e0, e1, e2, e3, e4, e5, e6, e7, e8, e9, e10, e11, h1, h2, h3]
  grind
theorem tw_31 (h : HF f) : twB v (goF f 3) 1 = twB v f 3 + twB v f 2 := by
  obtain ⟨h1, h2, h3⟩ := h
  obtain ⟨e0, e1, e2, e3, e4, e5, e6, e7, e8, e9, e10, e11⟩ := gF_3 (f := f)
  simp only [twB, oneN, othN, twF, Nat.reduceMul, Nat.reduceAdd, Nat.mul_zero, Nat.zero_add, e0, e1, e2, e3, e4, e5, e6, e7, e8, e9, e10, e11, h1, h2, h3]
  grind
theorem tw_32 (h : HF f) : twB v (goF f 3) 2 = twB v f 3 + twB v f 1 := by
  obtain ⟨h1, h2, h3⟩ := h
  obtain ⟨e0, e1, e2, e3, e4, e5, e6, e7, e8, e9, e10, e11⟩ := gF_3 (f := f)
  simp only [twB, oneN, othN, twF, Nat.reduceMul, Nat.reduceAdd, Nat.mul_zero, Nat.zero_add, e0, e1, e2, e3, e4, e5, e6, e7, e8, e9, e10, e11, h1, h2, h3]
  grind
theorem tw_33 (h : HF f) : twB v (goF f 3) 3 = -twB v f 3 := by
  obtain ⟨h1, h2, h3⟩ := h
  obtain ⟨e0, e1, e2, e3, e4, e5, e6, e7, e8, e9, e10, e11⟩ := gF_3 (f := f)
  simp only [twB, oneN, othN, twF, Nat.reduceMul, Nat.reduceAdd, Nat.mul_zero, Nat.zero_add, e0, e1, e2, e3, e4, e5, e6, e7, e8, e9, e10, e11, h1, h2, h3]
  grind
theorem tw_34 (h : HF f) : twB v (goF f 3) 4 = twB v f 4 + twB v f 3 := by
  obtain ⟨h1, h2, h3⟩ := h
  obtain ⟨e0, e1, e2, e3, e4, e5, e6, e7, e8, e9, e10, e11⟩ := gF_3 (f := f)
  simp only [twB, oneN, othN, twF, Nat.reduceMul, Nat.reduceAdd, Nat.mul_zero, Nat.zero_add, e0, e1, e2, e3, e4, e5, e6, e7, e8, e9, e10, e11, h1, h2, h3]
  grind
theorem tw_35 (h : HF f) : twB v (goF f 3) 5 = twB v f 5 + twB v f 3 := by
  obtain ⟨h1, h2, h3⟩ := h
  obtain ⟨e0, e1, e2, e3, e4, e5, e6, e7, e8, e9, e10, e11⟩ := gF_3 (f := f)
  simp only [twB, oneN, othN, twF, Nat.reduceMul, Nat.reduceAdd, Nat.mul_zero, Nat.zero_add, e0, e1, e2, e3, e4, e5, e6, e7, e8, e9, e10, e11, h1, h2, h3]
  grind
theorem gF_4 : goF f 4 0 = f 0 + f 3 ∧ goF f 4 1 = f 1 + f 4 ∧ goF f 4 2 = f 2 + f 5 ∧ goF f 4 3 = -f 3 ∧ goF f 4 4 = -f 4 ∧ goF f 4 5 = -f 5 ∧ goF f 4 6 = f 6 + f 3 ∧ goF f 4 7 = f 7 + f 4 ∧ goF f 4 8 = f 8 + f 5 ∧ goF f 4 9 = f 9 ∧ goF f 4 10 = f 10 ∧ goF f 4 11 = f 11 := ⟨rfl, rfl, rfl, rfl, rfl, rfl, rfl, rfl, rfl, rfl, rfl, rfl⟩
theorem HF_go4 (h : HF f) : HF (goF f 4) := by
  obtain ⟨h1, h2, h3⟩ := h
  obtain ⟨e0, e1, e2, e3, e4, e5, e6, e7, e8, e9, e10, e11⟩ := gF_4 (f := f)
  unfold HF
  rw [e0, e1, e2, e3, e4, e5, e6, e7, e8, e9, e10, e11, h1, h2, h3]
  refine ⟨?_, ?_, ?_⟩ <;> grind
theorem tw_40 (h : HF f) : twB v (goF f 4) 0 = twB v f 4 + twB v f 2 := by
  obtain ⟨h1, h2, h3⟩ := h
  obtain ⟨e0, e1, e2, e3, e4, e5, e6, e7, e8, e9, e10, e11⟩ := gF_4 (f := f)
  simp only [twB, oneN, othN, twF, Nat.reduceMul, Nat.reduceAdd, Nat.mul_zero, Nat.zero_add, e0, e1, e2, e3, e4, e5, e6, e7, e8, e9, e10, e11, h1, h2, h3]
  grind
theorem tw_41 (h : HF f) : twB v (goF f 4) 1 = twB v f 1 - twB v f 4 := by
  obtain ⟨h1, h2, h3⟩ := h
  obtain ⟨e0, e1, e2, e3, e4, e5, e6, e7, e8, e9, e10, e11⟩ := gF_4 (f := f)
  simp only [twB, oneN, othN, twF, Nat.reduceMul, Nat.reduceAdd, Nat.mul_zero, Nat.zero_add, e0, e1, e2, e3, e4, e5, e6, e7, e8, e9, e10, e11, h1, h2, h3]
  grind
theorem tw_42 (h : HF f) : twB v (goF f 4) 2 = twB v f 4 + twB v f 0 := by
  obtain ⟨h1, h2, h3⟩ := h
  obtain ⟨e0, e1, e2, e3, e4, e5, e6, e7, e8, e9, e10, e11⟩ := gF_4 (f := f)
  simp only [twB, oneN, othN, twF, Nat.reduceMul, Nat.reduceAdd, Nat.mul_zero, Nat.zero_add, e0, e1, e2, e3, e4, e5, e6, e7, e8, e9, e10, e11, h1, h2, h3]
  grind
theorem tw_43 (h : HF f) : twB v (goF f 4) 3 = twB v f 3 + twB v f 4 := by
  obtain ⟨h1, h2, h3⟩ := h
  obtain ⟨e0, e1, e2, e3, e4, e5, e6, e7, e8, e9, e10, e11⟩ := gF_4 (f := f)
  simp only [twB, oneN, othN, twF, Nat.reduceMul, Nat.reduceAdd, Nat.mul_zero, Nat.zero_add, e0, e1, e2, e3, e4, e5, e6, e7, e8, e9, e10, e11, h1, h2, h3]
  grind
theorem tw_44 (h : HF f) : twB v (goF f 4) 4 = -twB v f 4 := by
  obtain ⟨h1, h2, h3⟩ := h
  obtain ⟨e0, e1, e2, e3, e4, e5, e6, e7, e8, e9, e10, e11⟩ := gF_4 (f := f)
  simp only [twB, oneN, othN, twF, Nat.reduceMul, Nat.reduceAdd, Nat.mul_zero, Nat.zero_add, e0, e1, e2, e3, e4, e5, e6, e7, e8, e9, e10, e11, h1, h2, h3]
  grind
theorem tw_45 (h : HF f) : twB v (goF f 4) 5 = twB v f 5 + twB v f 4 := by
  obtain ⟨h1, h2, h3⟩ := h
  obtain ⟨e0, e1, e2, e3, e4, e5, e6, e7, e8, e9, e10, e11⟩ := gF_4 (f := f)
  simp only [twB, oneN, othN, twF, Nat.reduceMul, Nat.reduceAdd, Nat.mul_zero, Nat.zero_add, e0, e1, e2, e3, e4, e5, e6, e7, e8, e9, e10, e11, h1, h2, h3]
  grind
theorem gF_5 : goF f 5 0 = f 0 + f 6 ∧ goF f 5 1 = f 1 + f 7 ∧ goF f 5 2 = f 2 + f 8 ∧ goF f 5 3 = f 3 + f 6 ∧ goF f 5 4 = f 4 + f 7 ∧ goF f 5 5 = f 5 + f 8 ∧ goF f 5 6 = -f 6 ∧ goF f 5 7 = -f 7 ∧ goF f 5 8 = -f 8 ∧ goF f 5 9 = f 9 ∧ goF f 5 10 = f 10 ∧ goF f 5 11 = f 11 := ⟨rfl, rfl, rfl, rfl, rfl, rfl, rfl, rfl, rfl, rfl, rfl, rfl⟩
theorem HF_go5 (h : HF f) : HF (goF f 5) := by
  obtain ⟨h1, h2, h3⟩ := h
  obtain ⟨e0, e1, e2, e3, e4, e5, e6, e7, e8, e9, e10, e11⟩ := gF_5 (f := f)
  unfold HF
  rw [e0, e1, e2, e3, e4, e5, e6, e7, e8, e9, e10, e11, h1, h2, h3]
  refine ⟨?_, ?_, ?_⟩ <;> grind
theorem tw_50 (h : HF f) : twB v (goF f 5) 0 = twB v f 5 + twB v f 1 := by
  obtain ⟨h1, h2, h3⟩ := h
  obtain ⟨e0, e1, e2, e3, e4, e5, e6, e7, e8, e9, e10, e11⟩ := gF_5 (f := f)
  simp only [twB, oneN, othN, twF, Nat.reduceMul, Nat.reduceAdd, Nat.mul_zero, Nat.zero_add, e0, e1, e2, e3, e4, e5, e6, e7, e8, e9, e10, e11, h1, h2, h3]
  grind
theorem tw_51 (h : HF f) : twB v (goF f 5) 1 = twB v f 5 + twB v f 0 := by
  obtain ⟨h1, h2, h3⟩ := h
  obtain ⟨e0, e1, e2, e3, e4, e5, e6, e7, e8, e9, e10, e11⟩ := gF_5 (f := f)
  simp only [twB, oneN, othN, twF, Nat.reduceMul, Nat.reduceAdd, Nat.mul_zero, Nat.zero_add, e0, e1, e2, e3, e4, e5, e6, e7, e8, e9, e10, e11, h1, h2, h3]
  grind
theorem tw_52 (h : HF f) : twB v (goF f 5) 2 = twB v f 2 - twB v f 5 := by
  obtain ⟨h1, h2, h3⟩ := h
  obtain ⟨e0, e1, e2, e3, e4, e5, e6, e7, e8, e9, e10, e11⟩ := gF_5 (f := f)
  simp only [twB, oneN, othN, twF, Nat.reduceMul, Nat.reduceAdd, Nat.mul_zero, Nat.zero_add, e0, e1, e2, e3, e4, e5, e6, e7, e8, e9, e10, e11, h1, h2, h3]
  grind
theorem tw_53 (h : HF f) : twB v (goF f 5) 3 = twB v f 3 + twB v f 5 := by
  obtain ⟨h1, h2, h3⟩ := h
  obtain ⟨e0, e1, e2, e3, e4, e5, e6, e7, e8, e9, e10, e11⟩ := gF_5 (f := f)
  simp only [twB, oneN, othN, twF, Nat.reduceMul, Nat.reduceAdd, Nat.mul_zero, Nat.zero_add, e0, e1, e2, e3, e4, e5, e6, e7, e8, e9, e10, e11, h1, h2, h3]
  grind
theorem tw_54 (h : HF f) : twB v (goF f 5) 4 = twB v f 4 + twB v f 5 := by
  obtain ⟨h1, h2, h3⟩ := h
  obtain ⟨e0, e1, e2, e3, e4, e5, e6, e7, e8, e9, e10, e11⟩ := gF_5 (f := f)
  simp only [twB, oneN, othN, twF, Nat.reduceMul, Nat.reduceAdd, Nat.mul_zero, Nat.zero_add, e0, e1, e2, e3, e4, e5, e6, e7, e8, e9, e10, e11, h1, h2, h3]
  grind
theorem tw_55 (h : HF f) : twB v (goF f 5) 5 = -twB v f 5 := by
  obtain ⟨h1, h2, h3⟩ := h
  obtain ⟨e0, e1, e2, e3, e4, e5, e6, e7, e8, e9, e10, e11⟩ := gF_5 (f := f)
  simp only [twB, oneN, othN, twF, Nat.reduceMul, Nat.reduceAdd, Nat.mul_zero, Nat.zero_add, e0, e1, e2, e3, e4, e5, e6, e7, e8, e9, e10, e11, h1, h2, h3]
  grind
theorem HF_go (h : HF f) (hk : k < 6) : HF (goF f k) := by
  match k, hk with
  | 0, _ => exact HF_go0 h
  | 1, _ => exact HF_go1 h
  | 2, _ => exact HF_go2 h
  | 3, _ => exact HF_go3 h
  | 4, _ => exact HF_go4 h
  | 5, _ => exact HF_go5 h
theorem tw_go (h : HF f) (hk : k < 6) (hi : i < 6) : twB v (goF f k) i = blG (twB v f) k i := by
  match k, hk, i, hi with
  | 0, _, 0, _ => exact tw_00 h
  | 0, _, 1, _ => exact tw_01 h
  | 0, _, 2, _ => exact tw_02 h
  | 0, _, 3, _ => exact tw_03 h
  | 0, _, 4, _ => exact tw_04 h
  | 0, _, 5, _ => exact tw_05 h
  | 1, _, 0, _ => exact tw_10 h
  | 1, _, 1, _ => exact tw_11 h
  | 1, _, 2, _ => exact tw_12 h
  | 1, _, 3, _ => exact tw_13 h
  | 1, _, 4, _ => exact tw_14 h
  | 1, _, 5, _ => exact tw_15 h
  | 2, _, 0, _ => exact tw_20 h
  | 2, _, 1, _ => exact tw_21 h
  | 2, _, 2, _ => exact tw_22 h
  | 2, _, 3, _ => exact tw_23 h
  | 2, _, 4, _ => exact tw_24 h
  | 2, _, 5, _ => exact tw_25 h
  | 3, _, 0, _ => exact tw_30 h
  | 3, _, 1, _ => exact tw_31 h
  | 3, _, 2, _ => exact tw_32 h
  | 3, _, 3, _ => exact tw_33 h
  | 3, _, 4, _ => exact tw_34 h
  | 3, _, 5, _ => exact tw_35 h
  | 4, _, 0, _ => exact tw_40 h
  | 4, _, 1, _ => exact tw_41 h
  | 4, _, 2, _ => exact tw_42 h
  | 4, _, 3, _ => exact tw_43 h
  | 4, _, 4, _ => exact tw_44 h
  | 4, _, 5, _ => exact tw_45 h
  | 5, _, 0, _ => exact tw_50 h
  | 5, _, 1, _ => exact tw_51 h
  | 5, _, 2, _ => exact tw_52 h
  | 5, _, 3, _ => exact tw_53 h
  | 5, _, 4, _ => exact tw_54 h
  | 5, _, 5, _ => exact tw_55 h
theorem HF_0 : HF f0F := ⟨by decide, by decide, by decide⟩
theorem twb_0 (hi : i < 6) : twB v f0F i = iB v i := by
  have e : f0F 0 = 1 ∧ f0F 1 = 0 ∧ f0F 2 = 0 ∧ f0F 3 = 0 ∧ f0F 4 = 1 ∧ f0F 5 = 0 ∧ f0F 6 = 0 ∧ f0F 7 = 0 ∧ f0F 8 = 1 ∧ f0F 9 = -1 ∧ f0F 10 = -1 ∧ f0F 11 = -1 := by decide
  obtain ⟨e0, e1, e2, e3, e4, e5, e6, e7, e8, e9, e10, e11⟩ := e
  match i, hi with
  | 0, _ => simp only [twB, oneN, othN, twF, iB, Nat.reduceMul, Nat.reduceAdd, Nat.mul_zero, Nat.zero_add, e0, e1, e2, e3, e4, e5, e6, e7, e8, e9, e10, e11]; grind
  | 1, _ => simp only [twB, oneN, othN, twF, iB, Nat.reduceMul, Nat.reduceAdd, Nat.mul_zero, Nat.zero_add, e0, e1, e2, e3, e4, e5, e6, e7, e8, e9, e10, e11]; grind
  | 2, _ => simp only [twB, oneN, othN, twF, iB, Nat.reduceMul, Nat.reduceAdd, Nat.mul_zero, Nat.zero_add, e0, e1, e2, e3, e4, e5, e6, e7, e8, e9, e10, e11]; grind
  | 3, _ => simp only [twB, oneN, othN, twF, iB, Nat.reduceMul, Nat.reduceAdd, Nat.mul_zero, Nat.zero_add, e0, e1, e2, e3, e4, e5, e6, e7, e8, e9, e10, e11]; grind
  | 4, _ => simp only [twB, oneN, othN, twF, iB, Nat.reduceMul, Nat.reduceAdd, Nat.mul_zero, Nat.zero_add, e0, e1, e2, e3, e4, e5, e6, e7, e8, e9, e10, e11]; grind
  | 5, _ => simp only [twB, oneN, othN, twF, iB, Nat.reduceMul, Nat.reduceAdd, Nat.mul_zero, Nat.zero_add, e0, e1, e2, e3, e4, e5, e6, e7, e8, e9, e10, e11]; grind
theorem shF_ext (h : ∀ j : Nat, j < 6 → b j = b' j) : ∀ d k m : Nat, k + d = 6 → m < 6 → shF b d k m = shF b' d k m := by
  intro d
  induction d with
  | zero => intro k m _ _; rfl
  | succ d ih =>
    intro k m hk hm
    show shF b d (k + 1) (if b k ≤ b m then m else k) = shF b' d (k + 1) (if b' k ≤ b' m then m else k)
    rw [h k (by omega), h m hm]
    exact ih (k + 1) _ (by omega) (by split <;> omega)
theorem blG_ext (h : ∀ j : Nat, j < 6 → b j = b' j) (hk : k < 6) : ∀ j : Nat, j < 6 → blG b k j = blG b' k j := by
  intro j hj
  have h0 := h 0 (by decide)
  have h1 := h 1 (by decide)
  have h2 := h 2 (by decide)
  have h3 := h 3 (by decide)
  have h4 := h 4 (by decide)
  have h5 := h 5 (by decide)
  match k, hk with
  | 0, _ => simp only [blG, blV, upV, h0, h1, h2, h3, h4, h5, h j hj]
  | 1, _ => simp only [blG, blV, upV, h0, h1, h2, h3, h4, h5, h j hj]
  | 2, _ => simp only [blG, blV, upV, h0, h1, h2, h3, h4, h5, h j hj]
  | 3, _ => simp only [blG, blV, upV, h0, h1, h2, h3, h4, h5, h j hj]
  | 4, _ => simp only [blG, blV, upV, h0, h1, h2, h3, h4, h5, h j hj]
  | 5, _ => simp only [blG, blV, upV, h0, h1, h2, h3, h4, h5, h j hj]
theorem goB_ext (h : ∀ j : Nat, j < 6 → b j = b' j) : ∀ j : Nat, j < 6 → goB b j = goB b' j := by
  have e : shF b 5 1 0 = shF b' 5 1 0 := shF_ext h 5 1 0 (by decide) (by decide)
  unfold goB
  rw [e]
  exact blG_ext h (shF_lt 5 1 0 (by decide) (by decide))
theorem itB_ext : ∀ (N : Nat) (b b' : Nat → Int64), (∀ j : Nat, j < 6 → b j = b' j) → ∀ j : Nat, j < 6 → itB N b j = itB N b' j := by
  intro N
  induction N with
  | zero => intro b b' h; exact h
  | succ N ih => intro b b' h; exact ih _ _ (goB_ext h)
theorem blm_l (hf : 8 ≤ fu) (hK : K < 26) : ∀ (N g n : Nat) (f b : Nat → Int64), HF f → (∀ j : Nat, j < 6 → twB (sl w K) f j = b j) → EndB b N → N < g → ∃ f' : Nat → Int64, L_X2_blunts_51 fu ev g (mem ev (setF w f b)) (ev.1 + 966) (nI K) (nI n) (nI (shF b 5 1 0)) = some (nI (n + N), mem ev (setF w f' (itB N b))) := by
  intro N
  induction N with
  | zero =>
    intro g n f b hz hb hE hg
    obtain ⟨g, rfl⟩ : ∃ g', g = g' + 1 := ⟨g - 1, by omega⟩
    have h6 : shF b 5 1 0 < 6 := shF_lt 5 1 0 (by decide) (by decide)
    have e : b (shF b 5 1 0) ≤ 0 := hE.2
    refine ⟨f, ?_⟩
    show b_X2_blunts_51 _ fu ev _ _ _ _ _ = _
    unfold b_X2_blunts_51
    rw [mf19, Option.bind_some, Option.bind_some, t_ld h6, Option.bind_some, if_pos e]
    rfl
  | succ N ih =>
    intro g n f b hz hb hE hg
    obtain ⟨g, rfl⟩ : ∃ g', g = g' + 1 := ⟨g - 1, by omega⟩
    have h6 : shF b 5 1 0 < 6 := shF_lt 5 1 0 (by decide) (by decide)
    have e : ¬ b (shF b 5 1 0) ≤ 0 := hE.1 0 (by omega)
    have hb2 : ∀ j : Nat, j < 6 → twB (sl w K) (goF f (shF b 5 1 0)) j = goB b j := fun j hj => by
      rw [tw_go hz h6 hj]
      exact blG_ext hb h6 j hj
    obtain ⟨f', i1⟩ := ih g (n + 1) (goF f (shF b 5 1 0)) (goB b) (HF_go hz h6) hb2 ⟨fun i hi => hE.1 (i + 1) (by omega), hE.2⟩ (by omega)
    refine ⟨f', ?_⟩
    rw [show n + (N + 1) = n + 1 + N by omega, show itB (N + 1) b = itB N (goB b) from rfl, ← i1]
    show b_X2_blunts_51 _ fu ev _ _ _ _ _ = _
    unfold b_X2_blunts_51
    rw [mf19, Option.bind_some, Option.bind_some, t_ld h6, Option.bind_some, if_neg e, X2_go_k (by omega) h6]
    unfold b_X2_blunts_185
    rw [mis, Option.bind_some, X2_greatest_t hf hK]
    show L_X2_blunts_51 fu ev g _ _ _ _ _ = _
    rw [nI_1, F_ext (w := w) (fun _ _ => rfl) hb2, shF_ext hb2 5 1 0 (by decide) (by decide)]
theorem F_self : setF w (w.1 975) (w.1 976) = w := by
  refine Prod.ext (funext fun q => funext fun j => ?_) rfl
  show (if q = 975 ∧ j < 12 then w.1 975 j else if q = 976 ∧ j < 6 then w.1 976 j else w.1 q j) = w.1 q j
  by_cases e : q = 975 ∧ j < 12
  · rw [if_pos e, e.1]
  · rw [if_neg e]
    by_cases e2 : q = 976 ∧ j < 6
    · rw [if_pos e2, e2.1]
    · rw [if_neg e2]
theorem X2_fill (hf : 13 ≤ fu) {x1 : Int32} : f_X2_blunts fu ev (mem ev (setF w f t)) (ev.1 + 966) x1 = b_X2_blunts_43 fu ev (mem ev (setF w f0F t)) (ev.1 + 966) x1 := by
  obtain ⟨g, hg⟩ : ∃ g, fu = g + 13 := ⟨fu - 13, by omega⟩
  have h2 : ∀ σ x0 x1 x2, L_X2_blunts_2 fu ev fu σ x0 x1 x2 = L_X2_blunts_2 fu ev (g + 13) σ x0 x1 x2 := fun _ _ _ _ => by rw [← hg]
  have q0 : ((0 : Int32) - 0 / 4 * 4 = 0) = True := by decide
  have q1 : ((1 : Int32) - 1 / 4 * 4 = 0) = False := by decide
  have q2 : ((2 : Int32) - 2 / 4 * 4 = 0) = False := by decide
  have q3 : ((3 : Int32) - 3 / 4 * 4 = 0) = False := by decide
  have q4 : ((4 : Int32) - 4 / 4 * 4 = 0) = True := by decide
  have q5 : ((5 : Int32) - 5 / 4 * 4 = 0) = False := by decide
  have q6 : ((6 : Int32) - 6 / 4 * 4 = 0) = False := by decide
  have q7 : ((7 : Int32) - 7 / 4 * 4 = 0) = False := by decide
  have q8 : ((8 : Int32) - 8 / 4 * 4 = 0) = True := by decide
  have q9 : ((9 : Int32) - 9 / 4 * 4 = 0) = False := by decide
  have q10 : ((10 : Int32) - 10 / 4 * 4 = 0) = False := by decide
  have q11 : ((11 : Int32) - 11 / 4 * 4 = 0) = False := by decide
  simp only [f_X2_blunts, b_X2_blunts_0, h2, L_X2_blunts_2, b_X2_blunts_2, b_X2_blunts_8, b_X2_blunts_25, b_X2_blunts_19, b_X2_blunts_31, b_X2_blunts_35, b_X2_blunts_36, mf18, u_st0, u_st1, u_st2, u_st3, u_st4, u_st5, u_st6, u_st7, u_st8, u_st9, u_st10, u_st11, q0, q1, q2, q3, q4, q5, q6, q7, q8, Option.bind_some, bd2, b01, if_true, if_false, not_true_eq_false, not_false_eq_true, Bool.false_eq_true, eq_self, Int32.reduceAdd, Int32.reduceMul, Int32.reduceLE, Int32.reduceLT, reduceIte, Int32.add_assoc, ie_0_1, ie_0_2, ie_0_3, ie_0_4, ie_0_5, ie_0_6, ie_0_7, ie_0_8, ie_0_9, ie_1_0, ie_1_2, ie_1_3, ie_1_4, ie_1_5, ie_1_6, ie_1_7, ie_1_8, ie_1_9, ie_2_0, ie_2_1, ie_2_3, ie_2_4, ie_2_5, ie_2_6, ie_2_7, ie_2_8, ie_2_9, ie_3_0, ie_3_1, ie_3_2, ie_3_4, ie_3_5, ie_3_6, ie_3_7, ie_3_8, ie_3_9, ie_4_0, ie_4_1, ie_4_2, ie_4_3, ie_4_5, ie_4_6, ie_4_7, ie_4_8, ie_4_9, ie_5_0, ie_5_1, ie_5_2, ie_5_3, ie_5_4, ie_5_6, ie_5_7, ie_5_8, ie_5_9, ie_6_0, ie_6_1, ie_6_2, ie_6_3, ie_6_4, ie_6_5, ie_6_7, ie_6_8, ie_6_9, ie_7_0, ie_7_1, ie_7_2, ie_7_3, ie_7_4, ie_7_5, ie_7_6, ie_7_8, ie_7_9, ie_8_0, ie_8_1, ie_8_2, ie_8_3, ie_8_4, ie_8_5, ie_8_6, ie_8_7, ie_8_9, ie_9_0, ie_9_1, ie_9_2, ie_9_3, ie_9_4, ie_9_5, ie_9_6, ie_9_7, ie_9_8, nI_1, nI_pred, setC_21, setS_21, wI_same, Int32.reduceSub]
  refine congrArg (fun y => b_X2_blunts_43 fu ev (mem ev y) (ev.1 + 966) x1) (F_ext (fun i hi => ?_) (fun _ _ => rfl))
  match i, hi with
  | 0, _ => rfl
  | 1, _ => rfl
  | 2, _ => rfl
  | 3, _ => rfl
  | 4, _ => rfl
  | 5, _ => rfl
  | 6, _ => rfl
  | 7, _ => rfl
  | 8, _ => rfl
  | 9, _ => rfl
  | 10, _ => rfl
  | 11, _ => rfl
theorem X2_blunts_N (hf : 13 ≤ fu) (hK : K < 26) {N : Nat} (hE : EndB (iB (sl w K)) N) (hN : N < fu) : ∃ f' : Nat → Int64, f_X2_blunts fu ev (mem ev w) (ev.1 + 966) (nI K) = some (nI N, mem ev (setF w f' (itB N (iB (sl w K))))) := by
  obtain ⟨f', e⟩ := blm_l (ev := ev) (w := w) (fu := fu) (K := K) (by omega) hK N fu 0 f0F (iB (sl w K)) HF_0 (fun j hj => twb_0 hj) hE hN
  refine ⟨f', ?_⟩
  have e0 := X2_fill (ev := ev) (w := w) (f := w.1 975) (t := w.1 976) (x1 := nI K) hf
  rw [F_self] at e0
  rw [e0]
  unfold b_X2_blunts_43
  rw [mis, Option.bind_some, X2_greatest_t (by omega) hK]
  show L_X2_blunts_51 fu ev fu _ _ _ _ _ = _
  rw [F_ext (w := w) (fun _ _ => rfl) (fun j hj => twb_0 (v := sl w K) hj), shF_ext (fun j hj => twb_0 (v := sl w K) hj) 5 1 0 (by decide) (by decide)]
  rw [Nat.zero_add] at e
  exact e
end XFL
