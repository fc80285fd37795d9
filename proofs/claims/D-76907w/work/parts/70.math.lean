/-! FORMS OF INTEGERS: a b c x y z at 0..5; steps; what stays; what falls -/
def Qf (f : Nat → Int) (p q r : Int) : Int := f 0 * (p * p) + f 1 * (q * q) + f 2 * (r * r) + f 3 * (q * r) + f 4 * (p * r) + f 5 * (p * q)
def PD (f : Nat → Int) : Prop := ∀ p q r : Int, (p ≠ 0 ∨ q ≠ 0 ∨ r ≠ 0) → 0 < Qf f p q r
def mk6 (a b c x y z : Int) : Nat → Int := fun i => match i with
  | 0 => a
  | 1 => b
  | 2 => c
  | 3 => x
  | 4 => y
  | _ => z
def A1 (f : Nat → Int) : Prop := f 1 < f 0 ∨ (f 0 = f 1 ∧ (f 4).natAbs < (f 3).natAbs)
def A2 (f : Nat → Int) : Prop := f 2 < f 1 ∨ (f 1 = f 2 ∧ (f 5).natAbs < (f 4).natAbs)
def A3 (f : Nat → Int) : Prop := (0 < f 3 ∧ f 4 < 0 ∧ f 5 < 0) ∨ (f 3 < 0 ∧ 0 < f 4 ∧ f 5 < 0) ∨ (f 3 < 0 ∧ f 4 < 0 ∧ 0 < f 5)
def A4 (f : Nat → Int) : Prop := (0 < f 3 ∨ 0 < f 4 ∨ 0 < f 5) ∧ ¬ (0 < f 3 ∧ 0 < f 4 ∧ 0 < f 5) ∧ ¬ A3 f
def Ov (n s one oth : Int) : Prop := s < n.natAbs ∨ (n = s ∧ 2 * one < oth) ∨ (n = -s ∧ oth < 0)
def A5 (f : Nat → Int) : Prop := Ov (f 3) (f 1) (f 4) (f 5)
def A6 (f : Nat → Int) : Prop := Ov (f 4) (f 0) (f 3) (f 5)
def A7 (f : Nat → Int) : Prop := Ov (f 5) (f 0) (f 3) (f 4)
def A8 (f : Nat → Int) : Prop := f 3 + f 4 + f 5 + f 0 + f 1 < 0 ∨ (f 3 + f 4 + f 5 + f 0 + f 1 = 0 ∧ 0 < 2 * (f 0 + f 4) + f 5)
def le1 (x : Int) : Int := if 0 < x then -1 else 1
def B1 (f : Nat → Int) : Nat → Int := mk6 (f 1) (f 0) (f 2) (f 4) (f 3) (f 5)
def B2 (f : Nat → Int) : Nat → Int := mk6 (f 0) (f 2) (f 1) (f 3) (f 5) (f 4)
def B3 (f : Nat → Int) : Nat → Int := mk6 (f 0) (f 1) (f 2) (f 3).natAbs (f 4).natAbs (f 5).natAbs
def B4 (f : Nat → Int) : Nat → Int := mk6 (f 0) (f 1) (f 2) (-(f 3).natAbs) (-(f 4).natAbs) (-(f 5).natAbs)
def B5 (f : Nat → Int) : Nat → Int := let k := le1 (f 3); mk6 (f 0) (f 1) (f 2 + k * f 3 + f 1) (f 3 + 2 * k * f 1) (f 4 + k * f 5) (f 5)
def B6 (f : Nat → Int) : Nat → Int := let k := le1 (f 4); mk6 (f 0) (f 1) (f 2 + k * f 4 + f 0) (f 3 + k * f 5) (f 4 + 2 * k * f 0) (f 5)
def B7 (f : Nat → Int) : Nat → Int := let k := le1 (f 5); mk6 (f 0) (f 1 + k * f 5 + f 0) (f 2) (f 3 + k * f 4) (f 4) (f 5 + 2 * k * f 0)
def B8 (f : Nat → Int) : Nat → Int := mk6 (f 0) (f 1) (f 2 + f 3 + f 4 + f 5 + f 0 + f 1) (f 3 + f 5 + 2 * f 1) (f 4 + f 5 + 2 * f 0) (f 5)
/-- nothing ahead applies: sorted, signs alike -/
def So (f : Nat → Int) : Prop := f 0 ≤ f 1 ∧ f 1 ≤ f 2
def Si (f : Nat → Int) : Prop := (0 < f 3 ∧ 0 < f 4 ∧ 0 < f 5) ∨ (f 3 ≤ 0 ∧ f 4 ≤ 0 ∧ f 5 ≤ 0)
theorem So_of {f : Nat → Int} (h1 : ¬ A1 f) (h2 : ¬ A2 f) : So f := by
  unfold A1 at h1; unfold A2 at h2; unfold So; omega
theorem Si_of {f : Nat → Int} (h3 : ¬ A3 f) (h4 : ¬ A4 f) : Si f := by
  unfold A4 at h4; unfold A3 at h3 h4; unfold Si; omega
theorem PD_pos {f : Nat → Int} (h : PD f) : 0 < f 0 ∧ 0 < f 1 ∧ 0 < f 2 := by
  have h1 := h 1 0 0 (by decide)
  have h2 := h 0 1 0 (by decide)
  have h3 := h 0 0 1 (by decide)
  unfold Qf at h1 h2 h3
  omega
theorem PD_abs {f : Nat → Int} (h : PD f) : ((f 3).natAbs : Int) < f 1 + f 2 ∧ ((f 4).natAbs : Int) < f 0 + f 2 ∧ ((f 5).natAbs : Int) < f 0 + f 1 := by
  have h1 := h 0 1 1 (by decide)
  have h2 := h 0 1 (-1) (by decide)
  have h3 := h 1 0 1 (by decide)
  have h4 := h 1 0 (-1) (by decide)
  have h5 := h 1 1 0 (by decide)
  have h6 := h 1 (-1) 0 (by decide)
  unfold Qf at h1 h2 h3 h4 h5 h6
  omega
/-! positive stays positive -/
theorem PD_sub {f g : Nat → Int} (h : PD f) (s : Int → Int → Int → Int × Int × Int) (hs : ∀ p q r : Int, Qf g p q r = Qf f (s p q r).1 (s p q r).2.1 (s p q r).2.2) (hz : ∀ p q r : Int, (s p q r).1 = 0 → (s p q r).2.1 = 0 → (s p q r).2.2 = 0 → p = 0 ∧ q = 0 ∧ r = 0) : PD g := by
  intro p q r hne
  rw [hs p q r]
  refine h _ _ _ ?_
  apply Classical.byContradiction
  intro hn
  have h1 : (s p q r).1 = 0 := Classical.byContradiction fun z => hn (Or.inl z)
  have h2 : (s p q r).2.1 = 0 := Classical.byContradiction fun z => hn (Or.inr (Or.inl z))
  have h3 : (s p q r).2.2 = 0 := Classical.byContradiction fun z => hn (Or.inr (Or.inr z))
  have := hz p q r h1 h2 h3
  omega
theorem PD_1 {f : Nat → Int} (h : PD f) : PD (B1 f) := by
  refine PD_sub h (fun p q r => (q, p, r)) (fun p q r => ?_) (fun p q r h1 h2 h3 => ⟨h2, h1, h3⟩)
  simp only [Qf, B1, mk6]
  grind
theorem PD_2 {f : Nat → Int} (h : PD f) : PD (B2 f) := by
  refine PD_sub h (fun p q r => (p, r, q)) (fun p q r => ?_) (fun p q r h1 h2 h3 => ⟨h1, h3, h2⟩)
  simp only [Qf, B2, mk6]
  grind
theorem le1_sq (x : Int) : le1 x = 1 ∨ le1 x = -1 := by
  unfold le1; split <;> omega
theorem PD_5 {f : Nat → Int} (h : PD f) : PD (B5 f) := by
  rcases le1_sq (f 3) with e | e
  · refine PD_sub h (fun p q r => (p, q + r, r)) (fun p q r => ?_) (fun p q r h1 h2 h3 => by simp only at h1 h2 h3; omega)
    simp only [Qf, B5, mk6, e]
    grind
  · refine PD_sub h (fun p q r => (p, q - r, r)) (fun p q r => ?_) (fun p q r h1 h2 h3 => by simp only at h1 h2 h3; omega)
    simp only [Qf, B5, mk6, e]
    grind
theorem PD_6 {f : Nat → Int} (h : PD f) : PD (B6 f) := by
  rcases le1_sq (f 4) with e | e
  · refine PD_sub h (fun p q r => (p + r, q, r)) (fun p q r => ?_) (fun p q r h1 h2 h3 => by simp only at h1 h2 h3; omega)
    simp only [Qf, B6, mk6, e]
    grind
  · refine PD_sub h (fun p q r => (p - r, q, r)) (fun p q r => ?_) (fun p q r h1 h2 h3 => by simp only at h1 h2 h3; omega)
    simp only [Qf, B6, mk6, e]
    grind
theorem PD_7 {f : Nat → Int} (h : PD f) : PD (B7 f) := by
  rcases le1_sq (f 5) with e | e
  · refine PD_sub h (fun p q r => (p + q, q, r)) (fun p q r => ?_) (fun p q r h1 h2 h3 => by simp only at h1 h2 h3; omega)
    simp only [Qf, B7, mk6, e]
    grind
  · refine PD_sub h (fun p q r => (p - q, q, r)) (fun p q r => ?_) (fun p q r h1 h2 h3 => by simp only at h1 h2 h3; omega)
    simp only [Qf, B7, mk6, e]
    grind
theorem PD_8 {f : Nat → Int} (h : PD f) : PD (B8 f) := by
  refine PD_sub h (fun p q r => (p + r, q + r, r)) (fun p q r => ?_) (fun p q r h1 h2 h3 => by simp only at h1 h2 h3; omega)
  simp only [Qf, B8, mk6]
  grind
/-- signs of two of three change -/
theorem PD_s {f : Nat → Int} (h : PD f) {s1 s2 s3 : Int} (h1 : s1 = 1 ∨ s1 = -1) (h2 : s2 = 1 ∨ s2 = -1) (h3 : s3 = 1 ∨ s3 = -1) : PD (mk6 (f 0) (f 1) (f 2) (s2 * s3 * f 3) (s1 * s3 * f 4) (s1 * s2 * f 5)) := by
  refine PD_sub h (fun p q r => (s1 * p, s2 * q, s3 * r)) (fun p q r => ?_) (fun p q r e1 e2 e3 => ?_)
  · simp only [Qf, mk6]
    rcases h1 with rfl | rfl <;> rcases h2 with rfl | rfl <;> rcases h3 with rfl | rfl <;> grind
  · simp only at e1 e2 e3
    rcases h1 with rfl | rfl <;> rcases h2 with rfl | rfl <;> rcases h3 with rfl | rfl <;> omega
