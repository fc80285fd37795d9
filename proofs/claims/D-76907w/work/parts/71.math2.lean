/-! WHAT FALLS AT EVERY STEP -/
theorem PD_3 {f : Nat → Int} (h : PD f) (h3 : A3 f) : PD (B3 f) := by
  have key : ∀ {s1 s2 s3 : Int}, (s1 = 1 ∨ s1 = -1) → (s2 = 1 ∨ s2 = -1) → (s3 = 1 ∨ s3 = -1) → s2 * s3 * f 3 = (f 3).natAbs → s1 * s3 * f 4 = (f 4).natAbs → s1 * s2 * f 5 = (f 5).natAbs → PD (B3 f) := by
    intro s1 s2 s3 e1 e2 e3 g1 g2 g3
    have := PD_s h e1 e2 e3
    rw [g1, g2, g3] at this
    exact this
  rcases h3 with ⟨a, b, c⟩ | ⟨a, b, c⟩ | ⟨a, b, c⟩
  · exact key (s1 := -1) (s2 := 1) (s3 := 1) (by decide) (by decide) (by decide) (by omega) (by omega) (by omega)
  · exact key (s1 := 1) (s2 := -1) (s3 := 1) (by decide) (by decide) (by decide) (by omega) (by omega) (by omega)
  · exact key (s1 := 1) (s2 := 1) (s3 := -1) (by decide) (by decide) (by decide) (by omega) (by omega) (by omega)
theorem PD_4 {f : Nat → Int} (h : PD f) (h4 : A4 f) : PD (B4 f) := by
  have key : ∀ {s1 s2 s3 : Int}, (s1 = 1 ∨ s1 = -1) → (s2 = 1 ∨ s2 = -1) → (s3 = 1 ∨ s3 = -1) → s2 * s3 * f 3 = -(f 3).natAbs → s1 * s3 * f 4 = -(f 4).natAbs → s1 * s2 * f 5 = -(f 5).natAbs → PD (B4 f) := by
    intro s1 s2 s3 e1 e2 e3 g1 g2 g3
    have := PD_s h e1 e2 e3
    rw [g1, g2, g3] at this
    exact this
  unfold A4 A3 at h4
  by_cases c1 : (f 3 ≤ 0 ∧ f 4 ≤ 0 ∧ f 5 ≤ 0)
  · omega
  by_cases c2 : (f 3 ≤ 0 ∧ 0 ≤ f 4 ∧ 0 ≤ f 5)
  · exact key (s1 := -1) (s2 := 1) (s3 := 1) (by decide) (by decide) (by decide) (by omega) (by omega) (by omega)
  by_cases c3 : (0 ≤ f 3 ∧ f 4 ≤ 0 ∧ 0 ≤ f 5)
  · exact key (s1 := 1) (s2 := -1) (s3 := 1) (by decide) (by decide) (by decide) (by omega) (by omega) (by omega)
  by_cases c4 : (0 ≤ f 3 ∧ 0 ≤ f 4 ∧ f 5 ≤ 0)
  · exact key (s1 := 1) (s2 := 1) (s3 := -1) (by decide) (by decide) (by decide) (by omega) (by omega) (by omega)
  · exfalso
    omega
def lx (m1 m2 m3 m4 m5 : Nat) : Nat := (((m1 * 100000000000 + m2) * 100000000000 + m3) * 100000000000 + m4) * 2 + m5
def sb (f : Nat → Int) : Nat := if (0 < f 3 ∧ 0 < f 4 ∧ 0 < f 5) ∨ (f 3 ≤ 0 ∧ f 4 ≤ 0 ∧ f 5 ≤ 0) then 0 else 1
def mfall (f : Nat → Int) : Nat := lx (f 0 + f 1 + f 2).toNat (2 * (f 0 + f 1 + f 2) - ((f 3).natAbs + (f 4).natAbs + (f 5).natAbs)).toNat (3 * f 0 + 2 * f 1 + f 2).toNat (3 * (f 3).natAbs + 2 * (f 4).natAbs + (f 5).natAbs) (sb f)
def Gd (f : Nat → Int) : Prop := PD f ∧ f 0 ≤ 1000000000 ∧ f 1 ≤ 1000000000 ∧ f 2 ≤ 1000000000
theorem lx_1 {m1 m2 m3 m4 m5 n1 n2 n3 n4 n5 : Nat} (h : n1 < m1) (b2 : n2 < 100000000000) (b3 : n3 < 100000000000) (b4 : n4 < 100000000000) (b5 : n5 < 2) : lx n1 n2 n3 n4 n5 < lx m1 m2 m3 m4 m5 := by unfold lx; omega
theorem lx_2 {m1 m2 m3 m4 m5 n1 n2 n3 n4 n5 : Nat} (h1 : n1 = m1) (h : n2 < m2) (b3 : n3 < 100000000000) (b4 : n4 < 100000000000) (b5 : n5 < 2) : lx n1 n2 n3 n4 n5 < lx m1 m2 m3 m4 m5 := by unfold lx; omega
theorem lx_3 {m1 m2 m3 m4 m5 n1 n2 n3 n4 n5 : Nat} (h1 : n1 = m1) (h2 : n2 = m2) (h : n3 < m3) (b4 : n4 < 100000000000) (b5 : n5 < 2) : lx n1 n2 n3 n4 n5 < lx m1 m2 m3 m4 m5 := by unfold lx; omega
theorem lx_4 {m1 m2 m3 m4 m5 n1 n2 n3 n4 n5 : Nat} (h1 : n1 = m1) (h2 : n2 = m2) (h3 : n3 = m3) (h : n4 < m4) (b5 : n5 < 2) : lx n1 n2 n3 n4 n5 < lx m1 m2 m3 m4 m5 := by unfold lx; omega
theorem lx_5 {m1 m2 m3 m4 m5 n1 n2 n3 n4 n5 : Nat} (h1 : n1 = m1) (h2 : n2 = m2) (h3 : n3 = m3) (h4 : n4 = m4) (h : n5 < m5) : lx n1 n2 n3 n4 n5 < lx m1 m2 m3 m4 m5 := by unfold lx; omega
theorem sb_2 (f : Nat → Int) : sb f < 2 := by unfold sb; split <;> omega
theorem Gd_1 {f : Nat → Int} (h : Gd f) (a : A1 f) : Gd (B1 f) ∧ mfall (B1 f) < mfall f := by
  obtain ⟨hp, h0, h1, h2⟩ := h
  have q := PD_pos hp
  have r := PD_abs hp
  refine ⟨⟨PD_1 hp, h1, h0, h2⟩, ?_⟩
  unfold A1 at a
  have e0 : B1 f 0 = f 1 := rfl
  have e1 : B1 f 1 = f 0 := rfl
  have e2 : B1 f 2 = f 2 := rfl
  have e3 : B1 f 3 = f 4 := rfl
  have e4 : B1 f 4 = f 3 := rfl
  have e5 : B1 f 5 = f 5 := rfl
  have s := sb_2 (B1 f)
  unfold mfall
  rw [e0, e1, e2, e3, e4, e5]
  rcases a with a | ⟨a, b⟩
  · exact lx_3 (by omega) (by omega) (by omega) (by omega) s
  · exact lx_4 (by omega) (by omega) (by omega) (by omega) s
theorem Gd_2 {f : Nat → Int} (h : Gd f) (a : A2 f) : Gd (B2 f) ∧ mfall (B2 f) < mfall f := by
  obtain ⟨hp, h0, h1, h2⟩ := h
  have q := PD_pos hp
  have r := PD_abs hp
  refine ⟨⟨PD_2 hp, h0, h2, h1⟩, ?_⟩
  unfold A2 at a
  have e0 : B2 f 0 = f 0 := rfl
  have e1 : B2 f 1 = f 2 := rfl
  have e2 : B2 f 2 = f 1 := rfl
  have e3 : B2 f 3 = f 3 := rfl
  have e4 : B2 f 4 = f 5 := rfl
  have e5 : B2 f 5 = f 4 := rfl
  have s := sb_2 (B2 f)
  unfold mfall
  rw [e0, e1, e2, e3, e4, e5]
  rcases a with a | ⟨a, b⟩
  · exact lx_3 (by omega) (by omega) (by omega) (by omega) s
  · exact lx_4 (by omega) (by omega) (by omega) (by omega) s
theorem Gd_3 {f : Nat → Int} (h : Gd f) (a : A3 f) : Gd (B3 f) ∧ mfall (B3 f) < mfall f := by
  obtain ⟨hp, h0, h1, h2⟩ := h
  refine ⟨⟨PD_3 hp a, h0, h1, h2⟩, ?_⟩
  unfold A3 at a
  have e0 : B3 f 0 = f 0 := rfl
  have e1 : B3 f 1 = f 1 := rfl
  have e2 : B3 f 2 = f 2 := rfl
  have e3 : B3 f 3 = (f 3).natAbs := rfl
  have e4 : B3 f 4 = (f 4).natAbs := rfl
  have e5 : B3 f 5 = (f 5).natAbs := rfl
  have s1 : sb (B3 f) = 0 := by unfold sb; rw [e3, e4, e5, if_pos (by omega)]
  have s2 : sb f = 1 := by unfold sb; rw [if_neg (by omega)]
  unfold mfall
  rw [e0, e1, e2, e3, e4, e5, s1, s2]
  exact lx_5 rfl (by omega) rfl (by omega) (by omega)
theorem Gd_4 {f : Nat → Int} (h : Gd f) (a : A4 f) : Gd (B4 f) ∧ mfall (B4 f) < mfall f := by
  obtain ⟨hp, h0, h1, h2⟩ := h
  refine ⟨⟨PD_4 hp a, h0, h1, h2⟩, ?_⟩
  unfold A4 A3 at a
  have e0 : B4 f 0 = f 0 := rfl
  have e1 : B4 f 1 = f 1 := rfl
  have e2 : B4 f 2 = f 2 := rfl
  have e3 : B4 f 3 = -(f 3).natAbs := rfl
  have e4 : B4 f 4 = -(f 4).natAbs := rfl
  have e5 : B4 f 5 = -(f 5).natAbs := rfl
  have s1 : sb (B4 f) = 0 := by unfold sb; rw [e3, e4, e5, if_pos (by omega)]
  have s2 : sb f = 1 := by unfold sb; rw [if_neg (by omega)]
  unfold mfall
  rw [e0, e1, e2, e3, e4, e5, s1, s2]
  exact lx_5 rfl (by omega) rfl (by omega) (by omega)
theorem Gd_5 {f : Nat → Int} (h : Gd f) (so : So f) (si : Si f) (a : A5 f) : Gd (B5 f) ∧ mfall (B5 f) < mfall f := by
  obtain ⟨hp, h0, h1, h2⟩ := h
  have q := PD_pos hp
  have hp' := PD_5 hp
  have q' := PD_pos hp'
  have r := PD_abs hp
  have r' := PD_abs hp'
  have s := sb_2 (B5 f)
  unfold A5 Ov at a
  unfold So at so
  unfold Si at si
  by_cases k : 0 < f 3
  · have e0 : B5 f 0 = f 0 := rfl
    have e1 : B5 f 1 = f 1 := rfl
    have e2 : B5 f 2 = f 2 - f 3 + f 1 := by show f 2 + le1 (f 3) * f 3 + f 1 = _; unfold le1; rw [if_pos k]; omega
    have e3 : B5 f 3 = f 3 - 2 * f 1 := by show f 3 + 2 * le1 (f 3) * f 1 = _; unfold le1; rw [if_pos k]; omega
    have e4 : B5 f 4 = f 4 - f 5 := by show f 4 + le1 (f 3) * f 5 = _; unfold le1; rw [if_pos k]; omega
    have e5 : B5 f 5 = f 5 := rfl
    rw [e0, e1, e2] at q'
    rw [e0, e1, e2, e3, e4, e5] at r'
    refine ⟨⟨hp', by rw [e0]; omega, by rw [e1]; omega, by rw [e2]; omega⟩, ?_⟩
    unfold mfall
    rw [e0, e1, e2, e3, e4, e5]
    by_cases c : f 3 = f 1
    · exact lx_2 (by omega) (by omega) (by omega) (by omega) s
    · exact lx_1 (by omega) (by omega) (by omega) (by omega) s
  · have e0 : B5 f 0 = f 0 := rfl
    have e1 : B5 f 1 = f 1 := rfl
    have e2 : B5 f 2 = f 2 + f 3 + f 1 := by show f 2 + le1 (f 3) * f 3 + f 1 = _; unfold le1; rw [if_neg k]; omega
    have e3 : B5 f 3 = f 3 + 2 * f 1 := by show f 3 + 2 * le1 (f 3) * f 1 = _; unfold le1; rw [if_neg k]; omega
    have e4 : B5 f 4 = f 4 + f 5 := by show f 4 + le1 (f 3) * f 5 = _; unfold le1; rw [if_neg k]; omega
    have e5 : B5 f 5 = f 5 := rfl
    rw [e0, e1, e2] at q'
    rw [e0, e1, e2, e3, e4, e5] at r'
    refine ⟨⟨hp', by rw [e0]; omega, by rw [e1]; omega, by rw [e2]; omega⟩, ?_⟩
    unfold mfall
    rw [e0, e1, e2, e3, e4, e5]
    by_cases c : f 3 = -f 1
    · exact lx_2 (by omega) (by omega) (by omega) (by omega) s
    · exact lx_1 (by omega) (by omega) (by omega) (by omega) s
theorem Gd_6 {f : Nat → Int} (h : Gd f) (so : So f) (si : Si f) (a : A6 f) : Gd (B6 f) ∧ mfall (B6 f) < mfall f := by
  obtain ⟨hp, h0, h1, h2⟩ := h
  have q := PD_pos hp
  have hp' := PD_6 hp
  have q' := PD_pos hp'
  have r := PD_abs hp
  have r' := PD_abs hp'
  have s := sb_2 (B6 f)
  unfold A6 Ov at a
  unfold So at so
  unfold Si at si
  by_cases k : 0 < f 4
  · have e0 : B6 f 0 = f 0 := rfl
    have e1 : B6 f 1 = f 1 := rfl
    have e2 : B6 f 2 = f 2 - f 4 + f 0 := by show f 2 + le1 (f 4) * f 4 + f 0 = _; unfold le1; rw [if_pos k]; omega
    have e3 : B6 f 3 = f 3 - f 5 := by show f 3 + le1 (f 4) * f 5 = _; unfold le1; rw [if_pos k]; omega
    have e4 : B6 f 4 = f 4 - 2 * f 0 := by show f 4 + 2 * le1 (f 4) * f 0 = _; unfold le1; rw [if_pos k]; omega
    have e5 : B6 f 5 = f 5 := rfl
    rw [e0, e1, e2] at q'
    rw [e0, e1, e2, e3, e4, e5] at r'
    refine ⟨⟨hp', by rw [e0]; omega, by rw [e1]; omega, by rw [e2]; omega⟩, ?_⟩
    unfold mfall
    rw [e0, e1, e2, e3, e4, e5]
    by_cases c : f 4 = f 0
    · exact lx_2 (by omega) (by omega) (by omega) (by omega) s
    · exact lx_1 (by omega) (by omega) (by omega) (by omega) s
  · have e0 : B6 f 0 = f 0 := rfl
    have e1 : B6 f 1 = f 1 := rfl
    have e2 : B6 f 2 = f 2 + f 4 + f 0 := by show f 2 + le1 (f 4) * f 4 + f 0 = _; unfold le1; rw [if_neg k]; omega
    have e3 : B6 f 3 = f 3 + f 5 := by show f 3 + le1 (f 4) * f 5 = _; unfold le1; rw [if_neg k]; omega
    have e4 : B6 f 4 = f 4 + 2 * f 0 := by show f 4 + 2 * le1 (f 4) * f 0 = _; unfold le1; rw [if_neg k]; omega
    have e5 : B6 f 5 = f 5 := rfl
    rw [e0, e1, e2] at q'
    rw [e0, e1, e2, e3, e4, e5] at r'
    refine ⟨⟨hp', by rw [e0]; omega, by rw [e1]; omega, by rw [e2]; omega⟩, ?_⟩
    unfold mfall
    rw [e0, e1, e2, e3, e4, e5]
    by_cases c : f 4 = -f 0
    · exact lx_2 (by omega) (by omega) (by omega) (by omega) s
    · exact lx_1 (by omega) (by omega) (by omega) (by omega) s
theorem Gd_7 {f : Nat → Int} (h : Gd f) (so : So f) (si : Si f) (a : A7 f) : Gd (B7 f) ∧ mfall (B7 f) < mfall f := by
  obtain ⟨hp, h0, h1, h2⟩ := h
  have q := PD_pos hp
  have hp' := PD_7 hp
  have q' := PD_pos hp'
  have r := PD_abs hp
  have r' := PD_abs hp'
  have s := sb_2 (B7 f)
  unfold A7 Ov at a
  unfold So at so
  unfold Si at si
  by_cases k : 0 < f 5
  · have e0 : B7 f 0 = f 0 := rfl
    have e1 : B7 f 1 = f 1 - f 5 + f 0 := by show f 1 + le1 (f 5) * f 5 + f 0 = _; unfold le1; rw [if_pos k]; omega
    have e2 : B7 f 2 = f 2 := rfl
    have e3 : B7 f 3 = f 3 - f 4 := by show f 3 + le1 (f 5) * f 4 = _; unfold le1; rw [if_pos k]; omega
    have e4 : B7 f 4 = f 4 := rfl
    have e5 : B7 f 5 = f 5 - 2 * f 0 := by show f 5 + 2 * le1 (f 5) * f 0 = _; unfold le1; rw [if_pos k]; omega
    rw [e0, e1, e2] at q'
    rw [e0, e1, e2, e3, e4, e5] at r'
    refine ⟨⟨hp', by rw [e0]; omega, by rw [e1]; omega, by rw [e2]; omega⟩, ?_⟩
    unfold mfall
    rw [e0, e1, e2, e3, e4, e5]
    by_cases c : f 5 = f 0
    · exact lx_2 (by omega) (by omega) (by omega) (by omega) s
    · exact lx_1 (by omega) (by omega) (by omega) (by omega) s
  · have e0 : B7 f 0 = f 0 := rfl
    have e1 : B7 f 1 = f 1 + f 5 + f 0 := by show f 1 + le1 (f 5) * f 5 + f 0 = _; unfold le1; rw [if_neg k]; omega
    have e2 : B7 f 2 = f 2 := rfl
    have e3 : B7 f 3 = f 3 + f 4 := by show f 3 + le1 (f 5) * f 4 = _; unfold le1; rw [if_neg k]; omega
    have e4 : B7 f 4 = f 4 := rfl
    have e5 : B7 f 5 = f 5 + 2 * f 0 := by show f 5 + 2 * le1 (f 5) * f 0 = _; unfold le1; rw [if_neg k]; omega
    rw [e0, e1, e2] at q'
    rw [e0, e1, e2, e3, e4, e5] at r'
    refine ⟨⟨hp', by rw [e0]; omega, by rw [e1]; omega, by rw [e2]; omega⟩, ?_⟩
    unfold mfall
    rw [e0, e1, e2, e3, e4, e5]
    by_cases c : f 5 = -f 0
    · exact lx_2 (by omega) (by omega) (by omega) (by omega) s
    · exact lx_1 (by omega) (by omega) (by omega) (by omega) s
theorem Gd_8 {f : Nat → Int} (h : Gd f) (so : So f) (si : Si f) (a : A8 f) : Gd (B8 f) ∧ mfall (B8 f) < mfall f := by
  obtain ⟨hp, h0, h1, h2⟩ := h
  have q := PD_pos hp
  have hp' := PD_8 hp
  have q' := PD_pos hp'
  have r := PD_abs hp
  have r' := PD_abs hp'
  have s := sb_2 (B8 f)
  unfold A8 at a
  unfold So at so
  unfold Si at si
  have e0 : B8 f 0 = f 0 := rfl
  have e1 : B8 f 1 = f 1 := rfl
  have e2 : B8 f 2 = f 2 + f 3 + f 4 + f 5 + f 0 + f 1 := rfl
  have e3 : B8 f 3 = f 3 + f 5 + 2 * f 1 := rfl
  have e4 : B8 f 4 = f 4 + f 5 + 2 * f 0 := rfl
  have e5 : B8 f 5 = f 5 := rfl
  rw [e0, e1, e2] at q'
  rw [e0, e1, e2, e3, e4, e5] at r'
  refine ⟨⟨hp', by rw [e0]; omega, by rw [e1]; omega, by rw [e2]; omega⟩, ?_⟩
  unfold mfall
  rw [e0, e1, e2, e3, e4, e5]
  rcases a with a | ⟨a, b⟩
  · exact lx_1 (by omega) (by omega) (by omega) (by omega) s
  · exact lx_4 (by omega) (by omega) (by omega) (by omega) s
