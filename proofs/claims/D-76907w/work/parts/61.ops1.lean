/-! FIRST OPERATIONS -/
/-- a cell's number -/
def isc (x : Int32) (M : Nat) : Bool := inJ x.toInt64 0 (nI M - 1).toInt64
def isv (x : Int32) : Bool := inJ x.toInt64 0 2
theorem i_l (x : Int32) : x.toInt64.toInt = x.toInt := by
  show (x.toBitVec.signExtend 64).toInt = x.toBitVec.toInt
  rw [BitVec.toInt_signExtend_of_le (by decide)]
theorem inJ_iff {x l m : Int64} : inJ x l m = true ↔ l.toInt ≤ x.toInt ∧ x.toInt ≤ m.toInt := by
  unfold inJ
  rw [Bool.and_eq_true, decide_eq_true_eq, decide_eq_true_eq, Int64.le_iff_toInt_le, Int64.le_iff_toInt_le]
theorem isc_of {x : Int32} {M : Nat} (hM : M ≤ 6) (h : isc x M = true) : ∃ k : Nat, k < M ∧ x = nI k := by
  have h1 := inJ_iff.mp h
  rw [i_l, i_l, show (nI M - 1 : Int32) = nI M - nI 1 from rfl, pk_sub_toInt (by omega) (by omega), show (0 : Int64).toInt = 0 from by decide] at h1
  refine ⟨x.toInt.toNat, by omega, Int32.toInt_inj.mp ?_⟩
  rw [nI_toInt (by omega)]
  omega
theorem isv_of {x : Int32} (h : isv x = true) : x = 0 ∨ x = 1 ∨ x = 2 := by
  have h1 := inJ_iff.mp h
  rw [i_l, show (0 : Int64).toInt = 0 from by decide, show (2 : Int64).toInt = 2 from by decide] at h1
  have h0 : (0 : Int32).toInt = 0 := by decide
  have h2 : (1 : Int32).toInt = 1 := by decide
  have h3 : (2 : Int32).toInt = 2 := by decide
  have hx : x.toInt = 0 ∨ x.toInt = 1 ∨ x.toInt = 2 := by omega
  rcases hx with h | h | h
  · exact Or.inl (Int32.toInt_inj.mp (h.trans h0.symm))
  · exact Or.inr (Or.inl (Int32.toInt_inj.mp (h.trans h2.symm)))
  · exact Or.inr (Or.inr (Int32.toInt_inj.mp (h.trans h3.symm)))
section XO1
variable {ev : Ev} {w : Wd} {fu M : Nat} {x y z : Int32}
theorem X0_isCell (hM : w.2.1 0 1 = nI M) : f_X0_isCell fu ev (mem ev w) ev.1 x = some (if isc x M = true then 1 else 0, mem ev w) := by
  simp only [b_X0_isCell_0, f_X0_isCell, xi1, hM, Option.bind_some, bd2, X0_isIn, zb_ite]
  rfl
theorem X2_isCell (hM : w.2.1 966 2 = nI M) : f_X2_isCell fu ev (mem ev w) (ev.1 + 966) x = some (if isc x M = true then 1 else 0, mem ev w) := by
  simp only [b_X2_isCell_0, f_X2_isCell, mi2, hM, Option.bind_some, bd2, X2_isIn, zb_ite]
  rfl
theorem X0_isVector {σ : Mm} : f_X0_isVector fu ev σ x = some (if isv x = true then 1 else 0, σ) := by
  simp only [b_X0_isVector_0, f_X0_isVector, Option.bind_some, bd2, X0_isIn, zb_ite]
  rfl
theorem X2_isVector {σ : Mm} : f_X2_isVector fu ev σ x = some (if isv x = true then 1 else 0, σ) := by
  simp only [b_X2_isVector_0, f_X2_isVector, Option.bind_some, bd2, X2_isIn, zb_ite]
  rfl
end XO1
