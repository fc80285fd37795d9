/-! WHAT mayBe TAKES IS GOOD -/
theorem syl {a b c x y z : Int} (ha : 0 < a) (hd : 0 < 4 * a * b - z * z) (hv : 0 < 4 * a * b * c + x * y * z - a * x * x - b * y * y - c * z * z) : PD (mk6 a b c x y z) := by
  intro p q r hn
  show 0 < a * (p * p) + b * (q * q) + c * (r * r) + x * (q * r) + y * (p * r) + z * (p * q)
  obtain ⟨Q, hQ⟩ : ∃ Q, Q = a * (p * p) + b * (q * q) + c * (r * r) + x * (q * r) + y * (p * r) + z * (p * q) := ⟨_, rfl⟩
  obtain ⟨D, hD⟩ : ∃ D, D = 4 * a * b - z * z := ⟨_, rfl⟩
  obtain ⟨V, hV⟩ : ∃ V, V = 4 * a * b * c + x * y * z - a * x * x - b * y * y - c * z * z := ⟨_, rfl⟩
  rw [← hQ]
  rw [← hD] at hd
  rw [← hV] at hv
  obtain ⟨L, hL⟩ : ∃ L, L = 2 * a * p + z * q + y * r := ⟨_, rfl⟩
  obtain ⟨E, hE⟩ : ∃ E, E = 2 * a * x - y * z := ⟨_, rfl⟩
  obtain ⟨F, hF⟩ : ∃ F, F = 4 * a * c - y * y := ⟨_, rfl⟩
  have i1 : 4 * a * Q = L * L + (D * (q * q) + F * (r * r) + 2 * E * (q * r)) := by rw [hQ, hL, hD, hF, hE]; grind
  have i2 : D * (D * (q * q) + F * (r * r) + 2 * E * (q * r)) = (D * q + E * r) * (D * q + E * r) + (D * F - E * E) * (r * r) := by grind
  have i3 : D * F - E * E = 4 * a * V := by rw [hD, hF, hE, hV]; grind
  have sq : ∀ t : Int, 0 ≤ t * t := fun t => by
    rcases Int.le_total 0 t with h | h
    · exact Int.mul_nonneg h h
    · exact Int.mul_nonneg_of_nonpos_of_nonpos h h
  have sqp : ∀ t : Int, t ≠ 0 → 0 < t * t := fun t ht => by
    rcases Int.lt_or_gt_of_ne ht with h | h
    · exact Int.mul_pos_of_neg_of_neg h h
    · exact Int.mul_pos h h
  have h4 : 0 < 4 * a := by omega
  have hm : 0 < 4 * a * V := Int.mul_pos h4 hv
  have pos : 0 < D * (4 * a * Q) := by
    rw [i1, Int.mul_add, i2, i3]
    have n1 : 0 ≤ D * (L * L) := Int.mul_nonneg (Int.le_of_lt hd) (sq L)
    have n2 : 0 ≤ (D * q + E * r) * (D * q + E * r) := sq _
    have n3 : 0 ≤ 4 * a * V * (r * r) := Int.mul_nonneg (Int.le_of_lt hm) (sq r)
    by_cases hr : r = 0
    · subst hr
      by_cases hq : q = 0
      · subst hq
        have hp : p ≠ 0 := by omega
        have hl : L ≠ 0 := by
          rw [hL]
          intro z0
          have : 2 * a * p = 0 := by omega
          rcases Int.mul_eq_zero.mp this with h | h
          · omega
          · exact hp h
        have := Int.mul_pos hd (sqp L hl)
        omega
      · have hx : D * q + E * 0 ≠ 0 := by
          rw [Int.mul_zero, Int.add_zero]
          intro z0
          rcases Int.mul_eq_zero.mp z0 with h | h
          · omega
          · exact hq h
        have := sqp _ hx
        omega
    · have := Int.mul_pos hm (sqp r hr)
      omega
  have p1 : 0 < 4 * a * Q := by
    apply Classical.byContradiction
    intro hneg
    have : D * (4 * a * Q) ≤ 0 := Int.mul_nonpos_of_nonneg_of_nonpos (Int.le_of_lt hd) (by omega)
    omega
  apply Classical.byContradiction
  intro hneg
  have : 4 * a * Q ≤ 0 := Int.mul_nonpos_of_nonneg_of_nonpos (Int.le_of_lt h4) (by omega)
  omega
theorem tri3 {a b c : Int} {A B C : Int} (ha : -A ≤ a ∧ a ≤ A) (hb : -B ≤ b ∧ b ≤ B) (hc : -C ≤ c ∧ c ≤ C) (hA : 0 ≤ A) (hB : 0 ≤ B) (hC : 0 ≤ C) : -(A * B * C) ≤ a * b * c ∧ a * b * c ≤ A * B * C := by
  have key : ∀ {s t S T : Int}, (-S ≤ s ∧ s ≤ S) → (-T ≤ t ∧ t ≤ T) → 0 ≤ S → 0 ≤ T → -(S * T) ≤ s * t ∧ s * t ≤ S * T := by
    intro s t S T hs ht hS hT
    have e1 := Int.mul_nonneg (show 0 ≤ S - s by omega) (show 0 ≤ T + t by omega)
    have e2 := Int.mul_nonneg (show 0 ≤ S + s by omega) (show 0 ≤ T - t by omega)
    have e3 := Int.mul_nonneg (show 0 ≤ S + s by omega) (show 0 ≤ T + t by omega)
    have e4 := Int.mul_nonneg (show 0 ≤ S - s by omega) (show 0 ≤ T - t by omega)
    rw [Int.sub_mul, Int.mul_add, Int.mul_add] at e1
    rw [Int.add_mul, Int.mul_sub, Int.mul_sub] at e2
    rw [Int.add_mul, Int.mul_add, Int.mul_add] at e3
    rw [Int.sub_mul, Int.mul_sub, Int.mul_sub] at e4
    omega
  exact key (key ha hb hA hB) hc (Int.mul_nonneg hA hB) hC
theorem vol_i {v : Nat → Int64} (h0 : 1 ≤ (v 0).toInt ∧ (v 0).toInt ≤ 100000) (h1 : 1 ≤ (v 1).toInt ∧ (v 1).toInt ≤ 100000) (h2 : 1 ≤ (v 2).toInt ∧ (v 2).toInt ≤ 100000) (h3 : -200000 ≤ (v 3).toInt ∧ (v 3).toInt ≤ 200000) (h4 : -200000 ≤ (v 4).toInt ∧ (v 4).toInt ≤ 200000) (h5 : -200000 ≤ (v 5).toInt ∧ (v 5).toInt ≤ 200000) :
    (sVol v).toInt = 4 * (v 0).toInt * (v 1).toInt * (v 2).toInt + (v 3).toInt * (v 4).toInt * (v 5).toInt - (v 0).toInt * (v 3).toInt * (v 3).toInt - (v 1).toInt * (v 4).toInt * (v 4).toInt - (v 2).toInt * (v 5).toInt * (v 5).toInt := by
  have a01 := four_ h0 h1
  have m01 := mulb h0.1 h0.2 h1.1 h1.2
  have t012 := tri3 (a := (v 0).toInt) (b := (v 1).toInt) (c := (v 2).toInt) (A := 100000) (B := 100000) (C := 100000) (by omega) (by omega) (by omega) (by decide) (by decide) (by decide)
  have t345 := tri3 (a := (v 3).toInt) (b := (v 4).toInt) (c := (v 5).toInt) (A := 200000) (B := 200000) (C := 200000) (by omega) (by omega) (by omega) (by decide) (by decide) (by decide)
  have t033 := tri3 (a := (v 0).toInt) (b := (v 3).toInt) (c := (v 3).toInt) (A := 100000) (B := 200000) (C := 200000) (by omega) (by omega) (by omega) (by decide) (by decide) (by decide)
  have t144 := tri3 (a := (v 1).toInt) (b := (v 4).toInt) (c := (v 4).toInt) (A := 100000) (B := 200000) (C := 200000) (by omega) (by omega) (by omega) (by decide) (by decide) (by decide)
  have t255 := tri3 (a := (v 2).toInt) (b := (v 5).toInt) (c := (v 5).toInt) (A := 100000) (B := 200000) (C := 200000) (by omega) (by omega) (by omega) (by decide) (by decide) (by decide)
  have t34 := tri3 (a := (v 3).toInt) (b := (v 4).toInt) (c := 1) (A := 200000) (B := 200000) (C := 1) (by omega) (by omega) (by decide) (by decide) (by decide) (by decide)
  have t03 := tri3 (a := (v 0).toInt) (b := (v 3).toInt) (c := 1) (A := 100000) (B := 200000) (C := 1) (by omega) (by omega) (by decide) (by decide) (by decide) (by decide)
  have t14 := tri3 (a := (v 1).toInt) (b := (v 4).toInt) (c := 1) (A := 100000) (B := 200000) (C := 1) (by omega) (by omega) (by decide) (by decide) (by decide) (by decide)
  have t25 := tri3 (a := (v 2).toInt) (b := (v 5).toInt) (c := 1) (A := 100000) (B := 200000) (C := 1) (by omega) (by omega) (by decide) (by decide) (by decide) (by decide)
  rw [Int.mul_one] at t34 t03 t14 t25
  have e1 : (4 * v 0 * v 1 * v 2).toInt = 4 * ((v 0).toInt * (v 1).toInt * (v 2).toInt) := by
    rw [jm (by rw [a01, Int.mul_assoc]; omega) (by rw [a01, Int.mul_assoc]; omega), a01, Int.mul_assoc]
  have e34 : (v 3 * v 4).toInt = (v 3).toInt * (v 4).toInt := jm (by omega) (by omega)
  have e345 : (v 3 * v 4 * v 5).toInt = (v 3).toInt * (v 4).toInt * (v 5).toInt := by rw [jm (by rw [e34]; omega) (by rw [e34]; omega), e34]
  have e03 : (v 0 * v 3).toInt = (v 0).toInt * (v 3).toInt := jm (by omega) (by omega)
  have e033 : (v 0 * v 3 * v 3).toInt = (v 0).toInt * (v 3).toInt * (v 3).toInt := by rw [jm (by rw [e03]; omega) (by rw [e03]; omega), e03]
  have e14 : (v 1 * v 4).toInt = (v 1).toInt * (v 4).toInt := jm (by omega) (by omega)
  have e144 : (v 1 * v 4 * v 4).toInt = (v 1).toInt * (v 4).toInt * (v 4).toInt := by rw [jm (by rw [e14]; omega) (by rw [e14]; omega), e14]
  have e25 : (v 2 * v 5).toInt = (v 2).toInt * (v 5).toInt := jm (by omega) (by omega)
  have e255 : (v 2 * v 5 * v 5).toInt = (v 2).toInt * (v 5).toInt * (v 5).toInt := by rw [jm (by rw [e25]; omega) (by rw [e25]; omega), e25]
  have s1 : (4 * v 0 * v 1 * v 2 + v 3 * v 4 * v 5).toInt = 4 * ((v 0).toInt * (v 1).toInt * (v 2).toInt) + (v 3).toInt * (v 4).toInt * (v 5).toInt := by rw [ja (by rw [e1, e345]; omega) (by rw [e1, e345]; omega), e1, e345]
  have s2 : (4 * v 0 * v 1 * v 2 + v 3 * v 4 * v 5 - v 0 * v 3 * v 3).toInt = 4 * ((v 0).toInt * (v 1).toInt * (v 2).toInt) + (v 3).toInt * (v 4).toInt * (v 5).toInt - (v 0).toInt * (v 3).toInt * (v 3).toInt := by rw [js (by rw [s1, e033]; omega) (by rw [s1, e033]; omega), s1, e033]
  have s3 : (4 * v 0 * v 1 * v 2 + v 3 * v 4 * v 5 - v 0 * v 3 * v 3 - v 1 * v 4 * v 4).toInt = 4 * ((v 0).toInt * (v 1).toInt * (v 2).toInt) + (v 3).toInt * (v 4).toInt * (v 5).toInt - (v 0).toInt * (v 3).toInt * (v 3).toInt - (v 1).toInt * (v 4).toInt * (v 4).toInt := by rw [js (by rw [s2, e144]; omega) (by rw [s2, e144]; omega), s2, e144]
  unfold sVol
  rw [js (by rw [s3, e255]; omega) (by rw [s3, e255]; omega), s3, e255]
  rw [show 4 * (v 0).toInt * (v 1).toInt * (v 2).toInt = 4 * ((v 0).toInt * (v 1).toInt * (v 2).toInt) by rw [Int.mul_assoc 4, Int.mul_assoc 4]]
theorem may_good {v : Nat → Int64} (h : mayV v = true) : GdV v ∧ (v 0).toInt ≤ 100000 ∧ (v 1).toInt ≤ 100000 ∧ (v 2).toInt ≤ 100000 := by
  unfold mayV at h
  simp only [Bool.and_eq_true, decide_eq_true_eq] at h
  obtain ⟨⟨r0, r3, r1, r4, r2, r5⟩, ⟨c3, c4, c5⟩, cv⟩ := h
  have h0 := inJ_1 r0
  have h1 := inJ_1 r1
  have h2 := inJ_1 r2
  have h3 := inJ_2 r3
  have h4 := inJ_2 r4
  have h5 := inJ_2 r5
  have m5 := of_decide_eq_true ((may_c h0 h1 h5).symm.trans (decide_eq_true c5))
  have d5 := j_lt.mp m5
  rw [(sq_ h5).1, four_ h0 h1] at d5
  have dv := j_lt.mp cv
  rw [j0, vol_i h0 h1 h2 h3 h4 h5] at dv
  have hp := syl (a := (v 0).toInt) (b := (v 1).toInt) (c := (v 2).toInt) (x := (v 3).toInt) (y := (v 4).toInt) (z := (v 5).toInt) (by omega) (by rw [Int.mul_assoc]; omega) dv
  refine ⟨⟨PD_ext (fun i hi => ?_) hp, ?_, ?_, ?_⟩, h0.2, h1.2, h2.2⟩
  · match i, hi with
    | 0, _ => rfl
    | 1, _ => rfl
    | 2, _ => rfl
    | 3, _ => rfl
    | 4, _ => rfl
    | 5, _ => rfl
  · show (v 0).toInt ≤ _; omega
  · show (v 1).toInt ≤ _; omega
  · show (v 2).toInt ≤ _; omega
