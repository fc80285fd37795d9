/-! THE LOWEST BIT -/
theorem lo_bit {X k : Nat} (h1 : X.testBit k = true) (h0 : ∀ i : Nat, i < k → X.testBit i = false) : X = 2 ^ (k + 1) * (X / 2 ^ (k + 1)) + 2 ^ k := by
  have e : X % 2 ^ (k + 1) = 2 ^ k := by
    apply Nat.eq_of_testBit_eq
    intro i
    rw [Nat.testBit_mod_two_pow, Nat.testBit_two_pow]
    rcases Nat.lt_trichotomy i k with h | h | h
    · rw [h0 i h, Bool.and_false, decide_eq_false (by omega)]
    · subst h
      rw [h1, decide_eq_true (by omega), decide_eq_true rfl]
      rfl
    · rw [decide_eq_false (show ¬ i < k + 1 by omega), Bool.false_and, decide_eq_false (by omega)]
  have := Nat.div_add_mod X (2 ^ (k + 1))
  omega
theorem lo_pred {X k : Nat} (h1 : X.testBit k = true) (h0 : ∀ i : Nat, i < k → X.testBit i = false) (i : Nat) : (!X.testBit i && (X - 1).testBit i) = decide (i < k) := by
  have e := lo_bit h1 h0
  obtain ⟨m, hm⟩ : ∃ m, m = X / 2 ^ (k + 1) := ⟨_, rfl⟩
  rw [← hm] at e
  have hp : 0 < 2 ^ k := Nat.two_pow_pos k
  have hs : 2 ^ (k + 1) = 2 * 2 ^ k := by rw [Nat.pow_succ, Nat.mul_comm]
  have e1 : X - 1 = 2 ^ (k + 1) * m + (2 ^ k - 1) := by omega
  have b1 : X.testBit i = if i < k + 1 then (2 ^ k).testBit i else m.testBit (i - (k + 1)) := by
    rw [e]
    exact Nat.testBit_two_pow_mul_add m (show 2 ^ k < 2 ^ (k + 1) by omega) i
  have b2 : (X - 1).testBit i = if i < k + 1 then (2 ^ k - 1).testBit i else m.testBit (i - (k + 1)) := by
    rw [e1]
    exact Nat.testBit_two_pow_mul_add m (show 2 ^ k - 1 < 2 ^ (k + 1) by omega) i
  rw [b1, b2, Nat.testBit_two_pow, Nat.testBit_two_pow_sub_one]
  rcases Nat.lt_trichotomy i k with h | h | h
  · rw [if_pos (by omega), if_pos (by omega), decide_eq_false (show ¬ k = i by omega), decide_eq_true h]
    rfl
  · subst h
    rw [if_pos (by omega), if_pos (by omega), decide_eq_true rfl, decide_eq_false (Nat.lt_irrefl _)]
    rfl
  · rw [if_neg (by omega), if_neg (by omega), decide_eq_false (show ¬ i < k by omega)]
    cases m.testBit (i - (k + 1)) <;> rfl
section XNT
variable {fu k : Nat} {ev : Ev} {σ : Mm} {x : Int32} {y : Int64}
theorem lo_32 (hk : k < 32) (h1 : x.toBitVec.getLsbD k = true) (h0 : ∀ i : Nat, i < k → x.toBitVec.getLsbD i = false) : (x ^^^ (-1 : Int32)) &&& (x - (1 : Int32)) = nI (2 ^ k - 1) := by
  apply Int32.toBitVec_inj.mp
  have hX : 1 ≤ x.toBitVec.toNat := by
    rcases Nat.eq_zero_or_pos x.toBitVec.toNat with e | e
    · have : x.toBitVec.toNat.testBit k = true := h1
      rw [e, Nat.zero_testBit] at this
      exact absurd this (by decide)
    · exact e
  apply BitVec.eq_of_getLsbD_eq
  intro i hi
  rw [Int32.toBitVec_and, Int32.toBitVec_xor, Int32.toBitVec_sub, BitVec.getLsbD_and, BitVec.getLsbD_xor]
  have a1 : (-1 : Int32).toBitVec.getLsbD i = true := by
    rw [show (-1 : Int32).toBitVec = BitVec.allOnes 32 from by decide, BitVec.getLsbD_allOnes, decide_eq_true hi]
  have a2 : (x.toBitVec - (1 : Int32).toBitVec).getLsbD i = (x.toBitVec.toNat - 1).testBit i := by
    show (x.toBitVec - (1 : Int32).toBitVec).toNat.testBit i = _
    rw [BitVec.toNat_sub_of_le (by rw [BitVec.le_def]; exact hX)]
    rfl
  have a3 : (nI (2 ^ k - 1)).toBitVec.getLsbD i = decide (i < k) := by
    show (BitVec.ofNat 32 (2 ^ k - 1)).toNat.testBit i = _
    rw [BitVec.toNat_ofNat, Nat.testBit_mod_two_pow, decide_eq_true hi, Bool.true_and, Nat.testBit_two_pow_sub_one]
  rw [a1, a2, a3, Bool.xor_true]
  exact lo_pred h1 h0 i
theorem ntz_k : ∀ k : Nat, k < 32 → (if 0 < nI (2 ^ k - 1) then b_J32_numberOfTrailingZeros_17 fu ev σ (nI (2 ^ k - 1)) else b_J32_numberOfTrailingZeros_12 fu ev σ (nI (2 ^ k - 1))) = some (nI k, σ) := by
  intro k hk
  match k, hk with
  | 0, _ => rfl
  | 1, _ => rfl
  | 2, _ => rfl
  | 3, _ => rfl
  | 4, _ => rfl
  | 5, _ => rfl
  | 6, _ => rfl
  | 7, _ => rfl
  | 8, _ => rfl
  | 9, _ => rfl
  | 10, _ => rfl
  | 11, _ => rfl
  | 12, _ => rfl
  | 13, _ => rfl
  | 14, _ => rfl
  | 15, _ => rfl
  | 16, _ => rfl
  | 17, _ => rfl
  | 18, _ => rfl
  | 19, _ => rfl
  | 20, _ => rfl
  | 21, _ => rfl
  | 22, _ => rfl
  | 23, _ => rfl
  | 24, _ => rfl
  | 25, _ => rfl
  | 26, _ => rfl
  | 27, _ => rfl
  | 28, _ => rfl
  | 29, _ => rfl
  | 30, _ => rfl
  | 31, _ => rfl
  | k + 32, h => exact absurd h (by omega)
theorem ntz_32 (hk : k < 32) (h1 : x.toBitVec.getLsbD k = true) (h0 : ∀ i : Nat, i < k → x.toBitVec.getLsbD i = false) : f_J32_numberOfTrailingZeros fu ev σ x = some (nI k, σ) := by
  rw [← ntz_k (fu := fu) (ev := ev) (σ := σ) k hk, ← lo_32 hk h1 h0]
  rfl
theorem lo_i (i : Nat) (hi : i < 32) : y.toInt32.toBitVec.getLsbD i = y.toBitVec.getLsbD i := by
  show (y.toBitVec.signExtend 32).getLsbD i = _
  rw [BitVec.signExtend_eq_setWidth_of_le _ (by decide), BitVec.getLsbD_setWidth, decide_eq_true hi, Bool.true_and]
theorem hi_i (i : Nat) (hi : i < 32) : (((y.toUInt64 >>> ((32 : Int32).toInt64.toUInt64 &&& Int64.toUInt64 63)).toInt64).toInt32).toBitVec.getLsbD i = y.toBitVec.getLsbD (32 + i) := by
  rw [lo_i i hi]
  show (y.toUInt64 >>> ((32 : Int32).toInt64.toUInt64 &&& Int64.toUInt64 63)).toBitVec.getLsbD i = _
  rw [show ((32 : Int32).toInt64.toUInt64 &&& Int64.toUInt64 63) = (32 : UInt64) from by decide, UInt64.toBitVec_shiftRight]
  show (y.toBitVec >>> ((32 : UInt64).toBitVec % 64)).getLsbD i = _
  rw [BitVec.ushiftRight_eq', BitVec.getLsbD_ushiftRight]
  rfl
theorem ntz_64 (hk : k < 64) (h1 : y.toBitVec.getLsbD k = true) (h0 : ∀ i : Nat, i < k → y.toBitVec.getLsbD i = false) : f_J31_numberOfTrailingZeros fu ev σ y = some (nI k, σ) := by
  show b_J31_numberOfTrailingZeros_0 fu ev σ y = _
  unfold b_J31_numberOfTrailingZeros_0
  by_cases e : k < 32
  · have ne : ¬ y.toInt32 = 0 := by
      intro z
      have := lo_i (y := y) k e
      rw [z, h1] at this
      rw [show (0 : Int32).toBitVec = 0#32 from rfl, BitVec.getLsbD_zero] at this
      exact absurd this (by decide)
    rw [if_neg ne]
    unfold b_J31_numberOfTrailingZeros_21
    rw [ntz_32 e (by rw [lo_i k e]; exact h1) (fun i hi => by rw [lo_i i (by omega)]; exact h0 i hi)]
    rfl
  · have z : y.toInt32 = 0 := by
      apply Int32.toBitVec_inj.mp
      apply BitVec.eq_of_getLsbD_eq
      intro i hi
      rw [lo_i i hi, h0 i (by omega)]
      rw [show (0 : Int32).toBitVec = 0#32 from rfl, BitVec.getLsbD_zero]
    rw [if_pos z]
    unfold b_J31_numberOfTrailingZeros_7
    rw [ntz_32 (k := k - 32) (by omega) (by rw [hi_i _ (by omega), show 32 + (k - 32) = k by omega]; exact h1) (fun i hi => by rw [hi_i i (by omega)]; exact h0 _ (by omega))]
    show some ((32 : Int32) + nI (k - 32), σ) = _
    rw [show (32 : Int32) = nI 32 from rfl, nI_add, show 32 + (k - 32) = k by omega]
end XNT
