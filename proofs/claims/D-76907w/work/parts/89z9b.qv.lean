/-! THE SQUARE OF WHAT IS PUT TOGETHER -/
def qV (v u : Nat → Int64) : Int64 := u 0 * u 0 * v 0 + u 1 * u 1 * v 1 + u 2 * u 2 * v 2 + u 1 * u 2 * v 3 + u 0 * u 2 * v 4 + u 0 * u 1 * v 5
def qI (a b c x y z p q r : Int) : Int := p * p * a + q * q * b + r * r * c + q * r * x + p * r * y + p * q * z
theorem tw_two {v u : Nat → Int64} : twV v u u = 2 * qV v u := by unfold twV qV; grind
theorem mb {a b : Int} {A B : Nat} (h1 : a.natAbs ≤ A) (h2 : b.natAbs ≤ B) : (a * b).natAbs ≤ A * B := by
  rw [Int.natAbs_mul]
  exact Nat.mul_le_mul h1 h2
theorem jmb {a b : Int64} {A B : Nat} (h1 : a.toInt.natAbs ≤ A) (h2 : b.toInt.natAbs ≤ B) (h : A * B < 9223372036854775808) : (a * b).toInt = a.toInt * b.toInt ∧ (a * b).toInt.natAbs ≤ A * B := by
  have m := mb h1 h2
  have e := jm (a := a) (b := b) (by omega) (by omega)
  rw [e]
  exact ⟨rfl, m⟩
theorem jab {a b : Int64} {A B : Nat} (h1 : a.toInt.natAbs ≤ A) (h2 : b.toInt.natAbs ≤ B) (h : A + B < 9223372036854775808) : (a + b).toInt = a.toInt + b.toInt ∧ (a + b).toInt.natAbs ≤ A + B := by
  have e := ja (a := a) (b := b) (by omega) (by omega)
  rw [e]
  exact ⟨rfl, by omega⟩
theorem qV_i {v u : Nat → Int64} (hu : ∀ i : Nat, i < 3 → (u i).toInt.natAbs ≤ 40) (hv : ∀ i : Nat, i < 6 → (v i).toInt.natAbs ≤ 2000000000) : (qV v u).toInt = qI (v 0).toInt (v 1).toInt (v 2).toInt (v 3).toInt (v 4).toInt (v 5).toInt (u 0).toInt (u 1).toInt (u 2).toInt ∧ (qV v u).toInt.natAbs ≤ 19200000000000 := by
  have p : ∀ i j k : Nat, i < 3 → j < 3 → k < 6 → (u i * u j * v k).toInt = (u i).toInt * (u j).toInt * (v k).toInt ∧ (u i * u j * v k).toInt.natAbs ≤ 3200000000000 := by
    intro i j k hi hj hk
    obtain ⟨a1, a2⟩ := jmb (hu i hi) (hu j hj) (by decide)
    obtain ⟨b1, b2⟩ := jmb a2 (hv k hk) (by decide)
    exact ⟨by rw [b1, a1], b2⟩
  obtain ⟨a0, b0⟩ := p 0 0 0 (by decide) (by decide) (by decide)
  obtain ⟨a1, b1⟩ := p 1 1 1 (by decide) (by decide) (by decide)
  obtain ⟨a2, b2⟩ := p 2 2 2 (by decide) (by decide) (by decide)
  obtain ⟨a3, b3⟩ := p 1 2 3 (by decide) (by decide) (by decide)
  obtain ⟨a4, b4⟩ := p 0 2 4 (by decide) (by decide) (by decide)
  obtain ⟨a5, b5⟩ := p 0 1 5 (by decide) (by decide) (by decide)
  obtain ⟨c1, d1⟩ := jab b0 b1 (by decide)
  obtain ⟨c2, d2⟩ := jab d1 b2 (by decide)
  obtain ⟨c3, d3⟩ := jab d2 b3 (by decide)
  obtain ⟨c4, d4⟩ := jab d3 b4 (by decide)
  obtain ⟨c5, d5⟩ := jab d4 b5 (by decide)
  unfold qV qI
  exact ⟨by rw [c5, c4, c3, c2, c1, a0, a1, a2, a3, a4, a5], d5⟩
theorem half {q : Int64} (h : q.toInt.natAbs ≤ 19200000000000) : 2 * q / 2 = q := by
  have e := (jmb (a := 2) (b := q) (A := 2) (by decide) h (by decide)).1
  rw [show (2 : Int64).toInt = 2 from by decide] at e
  apply Int64.toInt_inj.mp
  rw [Int64.toInt_div, e, show (2 : Int64).toInt = 2 from by decide, Int.mul_tdiv_cancel_left _ (by decide)]
  apply Int.bmod_eq_of_le <;> omega
theorem OkV_abs {v : Nat → Int64} (h : OkV v) : ∀ i : Nat, i < 6 → (v i).toInt.natAbs ≤ 200000 := by
  obtain ⟨h0, h1, h2, h3, h4, h5⟩ := OkV_b h
  intro i hi
  match i, hi with
  | 0, _ => omega
  | 1, _ => omega
  | 2, _ => omega
  | 3, _ => omega
  | 4, _ => omega
  | 5, _ => omega
theorem fg_abs : ∀ a : Nat, a < 27 → ∀ i : Nat, i < 3 → (fg a i).toInt.natAbs ≤ 40 := by decide +kernel
/-- half of twice is a number just if it is so before -/
theorem half_iff {v u : Nat → Int64} (hu : ∀ i : Nat, i < 3 → (u i).toInt.natAbs ≤ 40) (hv : ∀ i : Nat, i < 6 → (v i).toInt.natAbs ≤ 2000000000) {s : Int64} : twV v u u / 2 = s ↔ twV v u u = 2 * s ∧ s = qV v u := by
  have b := (qV_i hu hv).2
  rw [tw_two, half b]
  constructor
  · intro h
    rw [h]
    exact ⟨rfl, rfl⟩
  · intro h
    exact h.2.symm
