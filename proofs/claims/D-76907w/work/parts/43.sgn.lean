/-! Long.signum -/
def sgn (x : Int64) : Int32 := if 0 < x then 1 else if x = 0 then 0 else -1
theorem j_cond (x : Int64) : x.toInt = if 2 * x.toBitVec.toNat < 2 ^ 64 then (x.toBitVec.toNat : Int) else (x.toBitVec.toNat : Int) - (2 ^ 64 : Nat) := BitVec.toInt_eq_toNat_cond x.toBitVec
theorem sg_A (x : Int64) : x >>> ((63 : Int32).toInt64 &&& 63) = if x < 0 then -1 else 0 := by
  apply Int64.toInt_inj.mp
  have e : (x >>> ((63 : Int32).toInt64 &&& 63)).toInt = x.toInt >>> 63 := by
    show (x.toBitVec.sshiftRight (((63 : Int32).toInt64 &&& 63).toBitVec.smod 64).toNat).toInt = _
    rw [show (((63 : Int32).toInt64 &&& 63).toBitVec.smod 64).toNat = 63 from by decide, BitVec.toInt_sshiftRight]
    rfl
  rw [e, Int.shiftRight_eq_div_pow]
  have hN := x.toBitVec.isLt
  have hc := j_cond x
  have h0 : (0 : Int64).toInt = 0 := by decide
  have h1 : (-1 : Int64).toInt = -1 := by decide
  by_cases h : x < 0
  · rw [if_pos h, h1]
    have := Int64.lt_iff_toInt_lt.mp h
    rw [h0] at this
    split at hc <;> omega
  · rw [if_neg h, h0]
    have : ¬ x.toInt < 0 := fun q => h (Int64.lt_iff_toInt_lt.mpr (by rw [h0]; exact q))
    split at hc <;> omega
theorem sg_B (x : Int64) : (((-x).toUInt64 >>> ((63 : Int32).toInt64.toUInt64 &&& Int64.toUInt64 63)).toInt64 = 0 ∨ ((-x).toUInt64 >>> ((63 : Int32).toInt64.toUInt64 &&& Int64.toUInt64 63)).toInt64 = 1) ∧ (0 < x → ((-x).toUInt64 >>> ((63 : Int32).toInt64.toUInt64 &&& Int64.toUInt64 63)).toInt64 = 1) ∧ (x = 0 → ((-x).toUInt64 >>> ((63 : Int32).toInt64.toUInt64 &&& Int64.toUInt64 63)).toInt64 = 0) := by
  have e : ((-x).toUInt64 >>> ((63 : Int32).toInt64.toUInt64 &&& Int64.toUInt64 63)).toInt64.toBitVec = (-x).toBitVec >>> 63 := by
    have := UInt64.toBitVec_shiftRight (-x).toUInt64 ((63 : Int32).toInt64.toUInt64 &&& Int64.toUInt64 63)
    exact this
  have en : ((-x).toBitVec >>> 63).toNat = (-x).toBitVec.toNat / 2 ^ 63 := by rw [BitVec.toNat_ushiftRight, Nat.shiftRight_eq_div_pow]
  have hl := (-x).toBitVec.isLt
  have one : ∀ y : Int64, y.toBitVec.toNat = 1 → y = 1 := fun y hy => Int64.toBitVec_inj.mp (BitVec.eq_of_toNat_eq (by rw [hy]; decide))
  have zero : ∀ y : Int64, y.toBitVec.toNat = 0 → y = 0 := fun y hy => Int64.toBitVec_inj.mp (BitVec.eq_of_toNat_eq (by rw [hy]; decide))
  refine ⟨?_, fun h => ?_, fun h => ?_⟩
  · have hq : (-x).toBitVec.toNat / 2 ^ 63 = 0 ∨ (-x).toBitVec.toNat / 2 ^ 63 = 1 := by omega
    rcases hq with hq | hq
    · exact Or.inl (zero _ (by rw [e, en, hq]))
    · exact Or.inr (one _ (by rw [e, en, hq]))
  · refine one _ ?_
    rw [e, en]
    have hc := j_cond x
    have hx := Int64.lt_iff_toInt_lt.mp h
    rw [show (0 : Int64).toInt = 0 from by decide] at hx
    have hN := x.toBitVec.isLt
    have hn : (-x).toBitVec.toNat = (2 ^ 64 - x.toBitVec.toNat) % 2 ^ 64 := BitVec.toNat_neg x.toBitVec
    split at hc <;> omega
  · subst h
    decide
theorem sgn_ok (x : Int64) : ((x >>> (((63 : Int32)).toInt64 &&& 63)) ||| (((-x).toUInt64 >>> ((63 : Int32).toInt64.toUInt64 &&& Int64.toUInt64 63)).toInt64)).toInt32 = sgn x := by
  obtain ⟨h1, h2, h3⟩ := sg_B x
  rw [sg_A x]
  unfold sgn
  by_cases p : 0 < x
  · have n : ¬ x < 0 := fun q => absurd (Int64.lt_trans p q) Int64.lt_irrefl
    rw [if_pos p, if_neg n, h2 p]
    decide
  · rw [if_neg p]
    by_cases z : x = 0
    · rw [if_pos z, h3 z]
      subst z
      decide
    · have n : x < 0 := by
        rcases Int64.lt_or_lt_of_ne z with h | h
        · exact h
        · exact absurd h p
      rw [if_neg z, if_pos n]
      rcases h1 with h | h <;> rw [h] <;> decide
theorem J31_sgn {fu : Nat} {ev : Ev} {σ : Mm} {x : Int64} : f_J31_signum fu ev σ x = some (sgn x, σ) := by
  show some ((_ : Int64).toInt32, σ) = _
  rw [sgn_ok x]
/-- bits of a condition -/
def inJ (x l m : Int64) : Bool := decide (l ≤ x) && decide (x ≤ m)
theorem X0_isIn {fu : Nat} {ev : Ev} {σ : Mm} {x l m : Int64} : f_X0_isIn fu ev σ x l m = some (if inJ x l m = true then 1 else 0, σ) := by
  simp only [f_X0_isIn, b_X0_isIn_0, b_X0_isIn_6, b_X0_isIn_13, b_X0_isIn_17, b_X0_isIn_18, zb1, zb0, Option.bind_some, inJ, Bool.and_eq_true, decide_eq_true_eq]
  by_cases h1 : x < l
  · rw [if_pos h1, if_neg (fun z : l ≤ x ∧ x ≤ m => absurd (Int64.lt_of_lt_of_le h1 z.1) Int64.lt_irrefl)]
  · rw [if_neg h1]
    by_cases h2 : m < x
    · rw [if_pos h2, if_neg (fun z : l ≤ x ∧ x ≤ m => absurd (Int64.lt_of_lt_of_le h2 z.2) Int64.lt_irrefl)]
    · rw [if_neg h2, if_pos ⟨Int64.not_lt.mp h1, Int64.not_lt.mp h2⟩]
theorem b01 {P : Prop} [Decidable P] : ((if P then (1 : Int32) else 0) = 0) = ¬ P := by
  by_cases h : P <;> simp [h]
theorem zb_ite {P : Prop} [Decidable P] : zbI (if P then (1 : Int32) else 0) = some () := by
  by_cases h : P <;> simp [h, zbI]
