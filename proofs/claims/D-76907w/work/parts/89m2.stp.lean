/-! ONE STEP UPON WHOLE NUMBERS -/
def E6 (g f : Nat → Int) : Prop := ∀ i : Nat, i < 6 → g i = f i
def Stq (f g : Nat → Int) : Prop := (A1 f ∧ E6 g (B1 f)) ∨ (¬ A1 f ∧ A2 f ∧ E6 g (B2 f)) ∨ (¬ A1 f ∧ ¬ A2 f ∧ A3 f ∧ E6 g (B3 f)) ∨ (¬ A1 f ∧ ¬ A2 f ∧ ¬ A3 f ∧ A4 f ∧ E6 g (B4 f)) ∨ (¬ A1 f ∧ ¬ A2 f ∧ ¬ A3 f ∧ ¬ A4 f ∧ A5 f ∧ E6 g (B5 f)) ∨ (¬ A1 f ∧ ¬ A2 f ∧ ¬ A3 f ∧ ¬ A4 f ∧ ¬ A5 f ∧ A6 f ∧ E6 g (B6 f)) ∨ (¬ A1 f ∧ ¬ A2 f ∧ ¬ A3 f ∧ ¬ A4 f ∧ ¬ A5 f ∧ ¬ A6 f ∧ A7 f ∧ E6 g (B7 f)) ∨ (¬ A1 f ∧ ¬ A2 f ∧ ¬ A3 f ∧ ¬ A4 f ∧ ¬ A5 f ∧ ¬ A6 f ∧ ¬ A7 f ∧ A8 f ∧ E6 g (B8 f))
theorem goV_stq {v : Nat → Int64} (h : GdV v) (hn : stV v ≠ 0) : Stq (I6 v) (I6 (goV v)) := by
  have hs := Sm_of h
  by_cases a1 : ap1 v = true
  · have e : goV v = go1 v := by simp only [goV, a1, if_true, if_false, Bool.false_eq_true]
    rw [e]
    exact (Or.inl ⟨(ap1_i hs).mp a1, fun i hi => ((go1_i v) i hi).symm⟩)
  by_cases a2 : ap2 v = true
  · have e : goV v = go2 v := by simp only [goV, a1, a2, if_true, if_false, Bool.false_eq_true]
    rw [e]
    exact (Or.inr (Or.inl ⟨fun z => a1 ((ap1_i hs).mpr z), (ap2_i hs).mp a2, fun i hi => ((go2_i v) i hi).symm⟩))
  by_cases a3 : ap3 v = true
  · have e : goV v = go3 v := by simp only [goV, a1, a2, a3, if_true, if_false, Bool.false_eq_true]
    rw [e]
    exact (Or.inr (Or.inr (Or.inl ⟨fun z => a1 ((ap1_i hs).mpr z), fun z => a2 ((ap2_i hs).mpr z), ap3_i.mp a3, fun i hi => ((go3_i hs a3) i hi).symm⟩)))
  by_cases a4 : ap4 v = true
  · have e : goV v = go4 v := by simp only [goV, a1, a2, a3, a4, if_true, if_false, Bool.false_eq_true]
    rw [e]
    exact (Or.inr (Or.inr (Or.inr (Or.inl ⟨fun z => a1 ((ap1_i hs).mpr z), fun z => a2 ((ap2_i hs).mpr z), fun z => a3 (ap3_i.mpr z), ap4_i.mp a4, fun i hi => ((go4_i hs a4) i hi).symm⟩))))
  by_cases a5 : ap5 v = true
  · have e : goV v = go5 v := by simp only [goV, a1, a2, a3, a4, a5, if_true, if_false, Bool.false_eq_true]
    rw [e]
    exact (Or.inr (Or.inr (Or.inr (Or.inr (Or.inl ⟨fun z => a1 ((ap1_i hs).mpr z), fun z => a2 ((ap2_i hs).mpr z), fun z => a3 (ap3_i.mpr z), fun z => a4 (ap4_i.mpr z), (ap5_i hs).mp a5, fun i hi => ((go5_i hs) i hi).symm⟩)))))
  by_cases a6 : ap6 v = true
  · have e : goV v = go6 v := by simp only [goV, a1, a2, a3, a4, a5, a6, if_true, if_false, Bool.false_eq_true]
    rw [e]
    exact (Or.inr (Or.inr (Or.inr (Or.inr (Or.inr (Or.inl ⟨fun z => a1 ((ap1_i hs).mpr z), fun z => a2 ((ap2_i hs).mpr z), fun z => a3 (ap3_i.mpr z), fun z => a4 (ap4_i.mpr z), fun z => a5 ((ap5_i hs).mpr z), (ap6_i hs).mp a6, fun i hi => ((go6_i hs) i hi).symm⟩))))))
  by_cases a7 : ap7 v = true
  · have e : goV v = go7 v := by simp only [goV, a1, a2, a3, a4, a5, a6, a7, if_true, if_false, Bool.false_eq_true]
    rw [e]
    exact (Or.inr (Or.inr (Or.inr (Or.inr (Or.inr (Or.inr (Or.inl ⟨fun z => a1 ((ap1_i hs).mpr z), fun z => a2 ((ap2_i hs).mpr z), fun z => a3 (ap3_i.mpr z), fun z => a4 (ap4_i.mpr z), fun z => a5 ((ap5_i hs).mpr z), fun z => a6 ((ap6_i hs).mpr z), (ap7_i hs).mp a7, fun i hi => ((go7_i hs) i hi).symm⟩)))))))
  by_cases a8 : ap8 v = true
  · have e : goV v = go8 v := by simp only [goV, a1, a2, a3, a4, a5, a6, a7, a8, if_true, if_false, Bool.false_eq_true]
    rw [e]
    exact (Or.inr (Or.inr (Or.inr (Or.inr (Or.inr (Or.inr (Or.inr ⟨fun z => a1 ((ap1_i hs).mpr z), fun z => a2 ((ap2_i hs).mpr z), fun z => a3 (ap3_i.mpr z), fun z => a4 (ap4_i.mpr z), fun z => a5 ((ap5_i hs).mpr z), fun z => a6 ((ap6_i hs).mpr z), fun z => a7 ((ap7_i hs).mpr z), (ap8_i hs).mp a8, fun i hi => ((go8_i h) i hi).symm⟩)))))))
  exact absurd (by simp only [stV, a1, a2, a3, a4, a5, a6, a7, a8, if_false, Bool.false_eq_true]) hn
theorem Stq_le {f g : Nat → Int} {B : Int} (h : Stq f g) (h0 : f 0 ≤ B) (h1 : f 1 ≤ B) (h2 : f 2 ≤ B) : g 0 ≤ B ∧ g 1 ≤ B ∧ g 2 ≤ B := by
  rcases h with h | h | h | h | h | h | h | h
  · obtain ⟨a, e⟩ := h
    rw [e 0 (by decide), e 1 (by decide), e 2 (by decide)]
    simp only [B1, mk6]
    omega
  · obtain ⟨-, a, e⟩ := h
    rw [e 0 (by decide), e 1 (by decide), e 2 (by decide)]
    simp only [B2, mk6]
    omega
  · obtain ⟨-, -, a, e⟩ := h
    rw [e 0 (by decide), e 1 (by decide), e 2 (by decide)]
    simp only [B3, mk6]
    omega
  · obtain ⟨-, -, -, a, e⟩ := h
    rw [e 0 (by decide), e 1 (by decide), e 2 (by decide)]
    simp only [B4, mk6]
    omega
  · obtain ⟨-, -, -, -, a, e⟩ := h
    rw [e 0 (by decide), e 1 (by decide), e 2 (by decide)]
    simp only [B5, mk6, le1]
    simp only [A5, Ov] at a
    split <;> omega
  · obtain ⟨-, -, -, -, -, a, e⟩ := h
    rw [e 0 (by decide), e 1 (by decide), e 2 (by decide)]
    simp only [B6, mk6, le1]
    simp only [A6, Ov] at a
    split <;> omega
  · obtain ⟨-, -, -, -, -, -, a, e⟩ := h
    rw [e 0 (by decide), e 1 (by decide), e 2 (by decide)]
    simp only [B7, mk6, le1]
    simp only [A7, Ov] at a
    split <;> omega
  · obtain ⟨-, -, -, -, -, -, -, a, e⟩ := h
    rw [e 0 (by decide), e 1 (by decide), e 2 (by decide)]
    simp only [B8, mk6]
    simp only [A8] at a
    omega
