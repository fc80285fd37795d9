/-! FOUR VECTORS: the loop ends (the sum of the four squares falls) -/
def iBZ (f : Nat → Int) : Nat → Int := fun i => match i with
  | 0 => f 3
  | 1 => f 4
  | 2 => f 5
  | 3 => -2 * f 0 - f 4 - f 5
  | 4 => -2 * f 1 - f 5 - f 3
  | _ => -2 * f 2 - f 3 - f 4
def s4 (f : Nat → Int) : Int := 2 * (f 0 + f 1 + f 2) + f 3 + f 4 + f 5
def cB (f : Nat → Int) : Nat → (Nat → Int)
  | 0 => mk6 (f 0 + f 1 + f 5) (f 1) (f 2) (-f 3) (f 3 + f 4) (-2 * f 1 - f 5)
  | 1 => mk6 (f 0) (f 0 + f 1 + f 5) (f 2) (f 3 + f 4) (-f 4) (-2 * f 0 - f 5)
  | 2 => mk6 (f 0) (f 1) (f 0 + f 2 + f 4) (f 3 + f 5) (-2 * f 0 - f 4) (-f 5)
  | 3 => mk6 (f 0) (f 0 + f 1 + f 5) (f 0 + f 2 + f 4) (2 * f 0 + f 3 + f 4 + f 5) (-2 * f 0 - f 4) (-2 * f 0 - f 5)
  | 4 => mk6 (f 0 + f 1 + f 5) (f 1) (f 1 + f 2 + f 3) (-2 * f 1 - f 3) (2 * f 1 + f 3 + f 4 + f 5) (-2 * f 1 - f 5)
  | _ => mk6 (f 0 + f 2 + f 4) (f 1 + f 2 + f 3) (f 2) (-2 * f 2 - f 3) (-2 * f 2 - f 4) (2 * f 2 + f 3 + f 4 + f 5)
theorem cB_PD {f : Nat → Int} (h : PD f) : ∀ k : Nat, k < 6 → PD (cB f k) := by
  intro k hk
  match k, hk with
  | 0, _ => exact PD_sub h (fun p q r => (p, p - q, r)) (fun p q r => by simp only [Qf, cB, mk6]; grind) (fun p q r h1 h2 h3 => by simp only [] at h1 h2 h3; omega)
  | 1, _ => exact PD_sub h (fun p q r => (q - p, q, r)) (fun p q r => by simp only [Qf, cB, mk6]; grind) (fun p q r h1 h2 h3 => by simp only [] at h1 h2 h3; omega)
  | 2, _ => exact PD_sub h (fun p q r => (r - p, q, r)) (fun p q r => by simp only [Qf, cB, mk6]; grind) (fun p q r h1 h2 h3 => by simp only [] at h1 h2 h3; omega)
  | 3, _ => exact PD_sub h (fun p q r => (q + r - p, q, r)) (fun p q r => by simp only [Qf, cB, mk6]; grind) (fun p q r h1 h2 h3 => by simp only [] at h1 h2 h3; omega)
  | 4, _ => exact PD_sub h (fun p q r => (p, p - q + r, r)) (fun p q r => by simp only [Qf, cB, mk6]; grind) (fun p q r h1 h2 h3 => by simp only [] at h1 h2 h3; omega)
  | 5, _ => exact PD_sub h (fun p q r => (p, q, p + q - r)) (fun p q r => by simp only [Qf, cB, mk6]; grind) (fun p q r h1 h2 h3 => by simp only [] at h1 h2 h3; omega)
theorem cB_s4 {f : Nat → Int} : ∀ k : Nat, k < 6 → s4 (cB f k) = s4 f - iBZ f k := by
  intro k hk
  match k, hk with
  | 0, _ => simp only [s4, cB, mk6, iBZ]; omega
  | 1, _ => simp only [s4, cB, mk6, iBZ]; omega
  | 2, _ => simp only [s4, cB, mk6, iBZ]; omega
  | 3, _ => simp only [s4, cB, mk6, iBZ]; omega
  | 4, _ => simp only [s4, cB, mk6, iBZ]; omega
  | 5, _ => simp only [s4, cB, mk6, iBZ]; omega
theorem iBZ_le {f : Nat → Int} (h : PD f) : 0 < s4 f ∧ ∀ i : Nat, i < 6 → -s4 f ≤ iBZ f i ∧ iBZ f i ≤ s4 f := by
  have q := PD_pos h
  have d0 := h 1 1 1 (by decide)
  have a1 := h 0 1 1 (by decide)
  have a2 := h 0 1 (-1) (by decide)
  have b1 := h 1 0 1 (by decide)
  have b2 := h 1 0 (-1) (by decide)
  have c1 := h 1 1 0 (by decide)
  have c2 := h 1 (-1) 0 (by decide)
  have e1 := h 2 1 1 (by decide)
  have e2 := h 1 2 1 (by decide)
  have e3 := h 1 1 2 (by decide)
  unfold Qf at d0 a1 a2 b1 b2 c1 c2 e1 e2 e3
  refine ⟨by unfold s4; omega, fun i hi => ?_⟩
  match i, hi with
  | 0, _ => simp only [s4, iBZ]; omega
  | 1, _ => simp only [s4, iBZ]; omega
  | 2, _ => simp only [s4, iBZ]; omega
  | 3, _ => simp only [s4, iBZ]; omega
  | 4, _ => simp only [s4, iBZ]; omega
  | 5, _ => simp only [s4, iBZ]; omega
def HB (b : Nat → Int64) (f : Nat → Int) : Prop := PD f ∧ s4 f ≤ 10000000000 ∧ ∀ i : Nat, i < 6 → (b i).toInt = iBZ f i
theorem HB_go {b : Nat → Int64} {f : Nat → Int} (h : HB b f) : ∀ k : Nat, k < 6 → 0 < b k → HB (blG b k) (cB f k) ∧ s4 (cB f k) < s4 f := by
  intro k hk hp
  obtain ⟨p, s, e⟩ := h
  have L := (iBZ_le p).2
  have hk' : 0 < iBZ f k := by
    have := j_lt.mp hp
    rw [e k hk] at this
    exact this
  have s' := cB_s4 (f := f) k hk
  refine ⟨⟨cB_PD p k hk, by omega, ?_⟩, by omega⟩
  have L0 := L 0 (by decide)
  have L1 := L 1 (by decide)
  have L2 := L 2 (by decide)
  have L3 := L 3 (by decide)
  have L4 := L 4 (by decide)
  have L5 := L 5 (by decide)
  have e0 := e 0 (by decide)
  have e1 := e 1 (by decide)
  have e2 := e 2 (by decide)
  have e3 := e 3 (by decide)
  have e4 := e 4 (by decide)
  have e5 := e 5 (by decide)
  intro i hi
  match k, hk, i, hi with
  | 0, _, 0, _ => show (-b 0).toInt = iBZ (cB f 0) 0; rw [jn (a := b 0) (by omega) (by omega)]; simp only [iBZ, cB, mk6] at *; omega
  | 0, _, 1, _ => show (b 1 + b 0).toInt = iBZ (cB f 0) 1; rw [ja (a := b 1) (b := b 0) (by omega) (by omega)]; simp only [iBZ, cB, mk6] at *; omega
  | 0, _, 2, _ => show (b 0 + b 4).toInt = iBZ (cB f 0) 2; rw [ja (a := b 0) (b := b 4) (by omega) (by omega)]; simp only [iBZ, cB, mk6] at *; omega
  | 0, _, 3, _ => show (b 3 - b 0).toInt = iBZ (cB f 0) 3; rw [js (a := b 3) (b := b 0) (by omega) (by omega)]; simp only [iBZ, cB, mk6] at *; omega
  | 0, _, 4, _ => show (b 0 + b 2).toInt = iBZ (cB f 0) 4; rw [ja (a := b 0) (b := b 2) (by omega) (by omega)]; simp only [iBZ, cB, mk6] at *; omega
  | 0, _, 5, _ => show (b 5 + b 0).toInt = iBZ (cB f 0) 5; rw [ja (a := b 5) (b := b 0) (by omega) (by omega)]; simp only [iBZ, cB, mk6] at *; omega
  | 1, _, 0, _ => show (b 0 + b 1).toInt = iBZ (cB f 1) 0; rw [ja (a := b 0) (b := b 1) (by omega) (by omega)]; simp only [iBZ, cB, mk6] at *; omega
  | 1, _, 1, _ => show (-b 1).toInt = iBZ (cB f 1) 1; rw [jn (a := b 1) (by omega) (by omega)]; simp only [iBZ, cB, mk6] at *; omega
  | 1, _, 2, _ => show (b 1 + b 3).toInt = iBZ (cB f 1) 2; rw [ja (a := b 1) (b := b 3) (by omega) (by omega)]; simp only [iBZ, cB, mk6] at *; omega
  | 1, _, 3, _ => show (b 1 + b 2).toInt = iBZ (cB f 1) 3; rw [ja (a := b 1) (b := b 2) (by omega) (by omega)]; simp only [iBZ, cB, mk6] at *; omega
  | 1, _, 4, _ => show (b 4 - b 1).toInt = iBZ (cB f 1) 4; rw [js (a := b 4) (b := b 1) (by omega) (by omega)]; simp only [iBZ, cB, mk6] at *; omega
  | 1, _, 5, _ => show (b 5 + b 1).toInt = iBZ (cB f 1) 5; rw [ja (a := b 5) (b := b 1) (by omega) (by omega)]; simp only [iBZ, cB, mk6] at *; omega
  | 2, _, 0, _ => show (b 0 + b 2).toInt = iBZ (cB f 2) 0; rw [ja (a := b 0) (b := b 2) (by omega) (by omega)]; simp only [iBZ, cB, mk6] at *; omega
  | 2, _, 1, _ => show (b 2 + b 3).toInt = iBZ (cB f 2) 1; rw [ja (a := b 2) (b := b 3) (by omega) (by omega)]; simp only [iBZ, cB, mk6] at *; omega
  | 2, _, 2, _ => show (-b 2).toInt = iBZ (cB f 2) 2; rw [jn (a := b 2) (by omega) (by omega)]; simp only [iBZ, cB, mk6] at *; omega
  | 2, _, 3, _ => show (b 2 + b 1).toInt = iBZ (cB f 2) 3; rw [ja (a := b 2) (b := b 1) (by omega) (by omega)]; simp only [iBZ, cB, mk6] at *; omega
  | 2, _, 4, _ => show (b 4 + b 2).toInt = iBZ (cB f 2) 4; rw [ja (a := b 4) (b := b 2) (by omega) (by omega)]; simp only [iBZ, cB, mk6] at *; omega
  | 2, _, 5, _ => show (b 5 - b 2).toInt = iBZ (cB f 2) 5; rw [js (a := b 5) (b := b 2) (by omega) (by omega)]; simp only [iBZ, cB, mk6] at *; omega
  | 3, _, 0, _ => show (b 0 - b 3).toInt = iBZ (cB f 3) 0; rw [js (a := b 0) (b := b 3) (by omega) (by omega)]; simp only [iBZ, cB, mk6] at *; omega
  | 3, _, 1, _ => show (b 3 + b 2).toInt = iBZ (cB f 3) 1; rw [ja (a := b 3) (b := b 2) (by omega) (by omega)]; simp only [iBZ, cB, mk6] at *; omega
  | 3, _, 2, _ => show (b 3 + b 1).toInt = iBZ (cB f 3) 2; rw [ja (a := b 3) (b := b 1) (by omega) (by omega)]; simp only [iBZ, cB, mk6] at *; omega
  | 3, _, 3, _ => show (-b 3).toInt = iBZ (cB f 3) 3; rw [jn (a := b 3) (by omega) (by omega)]; simp only [iBZ, cB, mk6] at *; omega
  | 3, _, 4, _ => show (b 4 + b 3).toInt = iBZ (cB f 3) 4; rw [ja (a := b 4) (b := b 3) (by omega) (by omega)]; simp only [iBZ, cB, mk6] at *; omega
  | 3, _, 5, _ => show (b 5 + b 3).toInt = iBZ (cB f 3) 5; rw [ja (a := b 5) (b := b 3) (by omega) (by omega)]; simp only [iBZ, cB, mk6] at *; omega
  | 4, _, 0, _ => show (b 4 + b 2).toInt = iBZ (cB f 4) 0; rw [ja (a := b 4) (b := b 2) (by omega) (by omega)]; simp only [iBZ, cB, mk6] at *; omega
  | 4, _, 1, _ => show (b 1 - b 4).toInt = iBZ (cB f 4) 1; rw [js (a := b 1) (b := b 4) (by omega) (by omega)]; simp only [iBZ, cB, mk6] at *; omega
  | 4, _, 2, _ => show (b 4 + b 0).toInt = iBZ (cB f 4) 2; rw [ja (a := b 4) (b := b 0) (by omega) (by omega)]; simp only [iBZ, cB, mk6] at *; omega
  | 4, _, 3, _ => show (b 3 + b 4).toInt = iBZ (cB f 4) 3; rw [ja (a := b 3) (b := b 4) (by omega) (by omega)]; simp only [iBZ, cB, mk6] at *; omega
  | 4, _, 4, _ => show (-b 4).toInt = iBZ (cB f 4) 4; rw [jn (a := b 4) (by omega) (by omega)]; simp only [iBZ, cB, mk6] at *; omega
  | 4, _, 5, _ => show (b 5 + b 4).toInt = iBZ (cB f 4) 5; rw [ja (a := b 5) (b := b 4) (by omega) (by omega)]; simp only [iBZ, cB, mk6] at *; omega
  | 5, _, 0, _ => show (b 5 + b 1).toInt = iBZ (cB f 5) 0; rw [ja (a := b 5) (b := b 1) (by omega) (by omega)]; simp only [iBZ, cB, mk6] at *; omega
  | 5, _, 1, _ => show (b 5 + b 0).toInt = iBZ (cB f 5) 1; rw [ja (a := b 5) (b := b 0) (by omega) (by omega)]; simp only [iBZ, cB, mk6] at *; omega
  | 5, _, 2, _ => show (b 2 - b 5).toInt = iBZ (cB f 5) 2; rw [js (a := b 2) (b := b 5) (by omega) (by omega)]; simp only [iBZ, cB, mk6] at *; omega
  | 5, _, 3, _ => show (b 3 + b 5).toInt = iBZ (cB f 5) 3; rw [ja (a := b 3) (b := b 5) (by omega) (by omega)]; simp only [iBZ, cB, mk6] at *; omega
  | 5, _, 4, _ => show (b 4 + b 5).toInt = iBZ (cB f 5) 4; rw [ja (a := b 4) (b := b 5) (by omega) (by omega)]; simp only [iBZ, cB, mk6] at *; omega
  | 5, _, 5, _ => show (-b 5).toInt = iBZ (cB f 5) 5; rw [jn (a := b 5) (by omega) (by omega)]; simp only [iBZ, cB, mk6] at *; omega
theorem EndB_ex : ∀ (n : Nat) (b : Nat → Int64) (f : Nat → Int), HB b f → s4 f ≤ n → ∃ N : Nat, N ≤ n ∧ EndB b N := by
  intro n
  induction n with
  | zero =>
    intro b f h hs
    have := (iBZ_le h.1).1
    omega
  | succ n ih =>
    intro b f h hs
    by_cases z : b (shF b 5 1 0) ≤ 0
    · exact ⟨0, by omega, fun i hi => absurd hi (by omega), z⟩
    · have h6 : shF b 5 1 0 < 6 := shF_lt 5 1 0 (by decide) (by decide)
      obtain ⟨h1, h2⟩ := HB_go h _ h6 (Int64.not_le.mp z)
      obtain ⟨N, hN, E1, E2⟩ := ih _ _ h1 (by omega)
      refine ⟨N + 1, by omega, fun i hi => ?_, E2⟩
      match i with
      | 0 => exact z
      | i + 1 => exact E1 i (by omega)
theorem iB_HB {v : Nat → Int64} (h : OkV v) : HB (iB v) (I6 v) ∧ s4 (I6 v) ≤ 2000000 := by
  obtain ⟨g, a0, a1, a2⟩ := h
  obtain ⟨b0, b1, b2, b3, b4, b5⟩ := GdV_b g
  have q := PD_abs g.1
  have r : s4 (I6 v) ≤ 2000000 := by
    simp only [s4, I6] at q ⊢
    omega
  have n2 : (-2 : Int64).toInt = -2 := by decide
  refine ⟨⟨g.1, by omega, fun i hi => ?_⟩, r⟩
  match i, hi with
  | 0, _ => rfl
  | 1, _ => rfl
  | 2, _ => rfl
  | 3, _ =>
    have m := jm (a := -2) (b := v 0) (by rw [n2]; omega) (by rw [n2]; omega)
    rw [n2] at m
    have m1 := js (a := -2 * v 0) (b := v 4) (by omega) (by omega)
    have m2 := js (a := -2 * v 0 - v 4) (b := v 5) (by omega) (by omega)
    show (-2 * v 0 - v 4 - v 5).toInt = -2 * (v 0).toInt - (v 4).toInt - (v 5).toInt
    omega
  | 4, _ =>
    have m := jm (a := -2) (b := v 1) (by rw [n2]; omega) (by rw [n2]; omega)
    rw [n2] at m
    have m1 := js (a := -2 * v 1) (b := v 5) (by omega) (by omega)
    have m2 := js (a := -2 * v 1 - v 5) (b := v 3) (by omega) (by omega)
    show (-2 * v 1 - v 5 - v 3).toInt = -2 * (v 1).toInt - (v 5).toInt - (v 3).toInt
    omega
  | 5, _ =>
    have m := jm (a := -2) (b := v 2) (by rw [n2]; omega) (by rw [n2]; omega)
    rw [n2] at m
    have m1 := js (a := -2 * v 2) (b := v 3) (by omega) (by omega)
    have m2 := js (a := -2 * v 2 - v 3) (b := v 4) (by omega) (by omega)
    show (-2 * v 2 - v 3 - v 4).toInt = -2 * (v 2).toInt - (v 3).toInt - (v 4).toInt
    omega
theorem Ok_EndB {v : Nat → Int64} (h : OkV v) : ∃ N : Nat, N ≤ 2000000 ∧ EndB (iB v) N := by
  obtain ⟨a, b⟩ := iB_HB h
  exact EndB_ex 2000000 _ _ a b
