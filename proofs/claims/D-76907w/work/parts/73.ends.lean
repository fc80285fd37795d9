/-! GOOD FORMS STAY GOOD, AND COME TO AN END -/
theorem PD_ext {f g : Nat → Int} (h : ∀ i : Nat, i < 6 → f i = g i) (hf : PD f) : PD g := by
  intro p q r hn
  have := hf p q r hn
  unfold Qf at this ⊢
  rwa [h 0 (by decide), h 1 (by decide), h 2 (by decide), h 3 (by decide), h 4 (by decide), h 5 (by decide)] at this
theorem Gd_ext {f g : Nat → Int} (h : ∀ i : Nat, i < 6 → f i = g i) (hf : Gd f) : Gd g := ⟨PD_ext h hf.1, by rw [← h 0 (by decide)]; exact hf.2.1, by rw [← h 1 (by decide)]; exact hf.2.2.1, by rw [← h 2 (by decide)]; exact hf.2.2.2⟩
theorem mfall_ext {f g : Nat → Int} (h : ∀ i : Nat, i < 6 → f i = g i) : mfall f = mfall g := by
  unfold mfall sb
  rw [h 0 (by decide), h 1 (by decide), h 2 (by decide), h 3 (by decide), h 4 (by decide), h 5 (by decide)]
def GdV (v : Nat → Int64) : Prop := Gd (I6 v)
theorem GdV_b {v : Nat → Int64} (h : GdV v) : (0 < (v 0).toInt ∧ (v 0).toInt ≤ 1000000000) ∧ (0 < (v 1).toInt ∧ (v 1).toInt ≤ 1000000000) ∧ (0 < (v 2).toInt ∧ (v 2).toInt ≤ 1000000000) ∧ (-2000000000 < (v 3).toInt ∧ (v 3).toInt < 2000000000) ∧ (-2000000000 < (v 4).toInt ∧ (v 4).toInt < 2000000000) ∧ (-2000000000 < (v 5).toInt ∧ (v 5).toInt < 2000000000) := by
  have q := PD_pos h.1
  have r := PD_abs h.1
  obtain ⟨-, h0, h1, h2⟩ := h
  unfold I6 at q r h0 h1 h2
  omega
theorem Sm_of {v : Nat → Int64} (h : GdV v) : Sm v := by
  have b := GdV_b h
  intro i hi
  match i, hi with
  | 0, _ => omega
  | 1, _ => omega
  | 2, _ => omega
  | 3, _ => omega
  | 4, _ => omega
  | 5, _ => omega
theorem go1_i (v : Nat → Int64) : ∀ i : Nat, i < 6 → B1 (I6 v) i = I6 (go1 v) i := by
  intro i hi
  match i, hi with
  | 0, _ => rfl
  | 1, _ => rfl
  | 2, _ => rfl
  | 3, _ => show (v 4).toInt = (-(-(v 4))).toInt; rw [Int64.neg_neg]
  | 4, _ => show (v 3).toInt = (-(-(v 3))).toInt; rw [Int64.neg_neg]
  | 5, _ => show (v 5).toInt = (-(-(v 5))).toInt; rw [Int64.neg_neg]
theorem go2_i (v : Nat → Int64) : ∀ i : Nat, i < 6 → B2 (I6 v) i = I6 (go2 v) i := by
  intro i hi
  match i, hi with
  | 0, _ => rfl
  | 1, _ => rfl
  | 2, _ => rfl
  | 3, _ => show (v 3).toInt = (-(-(v 3))).toInt; rw [Int64.neg_neg]
  | 4, _ => show (v 5).toInt = (-(-(v 5))).toInt; rw [Int64.neg_neg]
  | 5, _ => show (v 4).toInt = (-(-(v 4))).toInt; rw [Int64.neg_neg]
theorem go3_i {v : Nat → Int64} (h : Sm v) (ha : ap3 v = true) : ∀ i : Nat, i < 6 → B3 (I6 v) i = I6 (go3 v) i := by
  have hA := ap3_i.mp ha
  have b3 := h 3 (by decide)
  have b4 := h 4 (by decide)
  have b5 := h 5 (by decide)
  unfold A3 I6 at hA
  rcases tri (v 3) with s0 | s0 | s0 <;> rcases tri (v 4) with s1 | s1 | s1 <;> rcases tri (v 5) with s2 | s2 | s2
  · exfalso; have i0 := iP s0; have i1 := iP s1; have i2 := iP s2; omega
  · exfalso; have i0 := iP s0; have i1 := iP s1; have i2 := iZ s2; omega
  · exfalso; have i0 := iP s0; have i1 := iP s1; have i2 := iN s2; omega
  · exfalso; have i0 := iP s0; have i1 := iZ s1; have i2 := iP s2; omega
  · exfalso; have i0 := iP s0; have i1 := iZ s1; have i2 := iZ s2; omega
  · exfalso; have i0 := iP s0; have i1 := iZ s1; have i2 := iN s2; omega
  · exfalso; have i0 := iP s0; have i1 := iN s1; have i2 := iP s2; omega
  · exfalso; have i0 := iP s0; have i1 := iN s1; have i2 := iZ s2; omega
  · have i0 := iP s0; have i1 := iN s1; have i2 := iN s2
    have hz : go3 v = tu3 v false true true := by simp only [go3, tu4, (sgnP s0).1, (sgnP s0).2.1, (sgnP s0).2.2.1, (sgnP s0).2.2.2, (sgnN s1).1, (sgnN s1).2.1, (sgnN s1).2.2.1, (sgnN s1).2.2.2, (sgnN s2).1, (sgnN s2).2.1, (sgnN s2).2.2.1, (sgnN s2).2.2.2, decide_true, decide_false, Bool.not_true, Bool.not_false, Bool.and_true, Bool.true_and, Bool.and_false, Bool.false_and, Bool.or_true, Bool.true_or, Bool.or_false, Bool.false_or, Bool.or_self, Bool.and_self]
    intro i hi
    rw [hz]
    match i, hi with
    | 0, _ => rfl
    | 1, _ => rfl
    | 2, _ => rfl
    | 3, _ => show ((v 3).toInt.natAbs : Int) = (-(-(v 3))).toInt; rw [Int64.neg_neg]; omega
    | 4, _ => show ((v 4).toInt.natAbs : Int) = (-(v 4)).toInt; rw [jn (by omega) (by omega)]; omega
    | 5, _ => show ((v 5).toInt.natAbs : Int) = (-(v 5)).toInt; rw [jn (by omega) (by omega)]; omega
  · exfalso; have i0 := iZ s0; have i1 := iP s1; have i2 := iP s2; omega
  · exfalso; have i0 := iZ s0; have i1 := iP s1; have i2 := iZ s2; omega
  · exfalso; have i0 := iZ s0; have i1 := iP s1; have i2 := iN s2; omega
  · exfalso; have i0 := iZ s0; have i1 := iZ s1; have i2 := iP s2; omega
  · exfalso; have i0 := iZ s0; have i1 := iZ s1; have i2 := iZ s2; omega
  · exfalso; have i0 := iZ s0; have i1 := iZ s1; have i2 := iN s2; omega
  · exfalso; have i0 := iZ s0; have i1 := iN s1; have i2 := iP s2; omega
  · exfalso; have i0 := iZ s0; have i1 := iN s1; have i2 := iZ s2; omega
  · exfalso; have i0 := iZ s0; have i1 := iN s1; have i2 := iN s2; omega
  · exfalso; have i0 := iN s0; have i1 := iP s1; have i2 := iP s2; omega
  · exfalso; have i0 := iN s0; have i1 := iP s1; have i2 := iZ s2; omega
  · have i0 := iN s0; have i1 := iP s1; have i2 := iN s2
    have hz : go3 v = tu3 v true false true := by simp only [go3, tu4, (sgnN s0).1, (sgnN s0).2.1, (sgnN s0).2.2.1, (sgnN s0).2.2.2, (sgnP s1).1, (sgnP s1).2.1, (sgnP s1).2.2.1, (sgnP s1).2.2.2, (sgnN s2).1, (sgnN s2).2.1, (sgnN s2).2.2.1, (sgnN s2).2.2.2, decide_true, decide_false, Bool.not_true, Bool.not_false, Bool.and_true, Bool.true_and, Bool.and_false, Bool.false_and, Bool.or_true, Bool.true_or, Bool.or_false, Bool.false_or, Bool.or_self, Bool.and_self]
    intro i hi
    rw [hz]
    match i, hi with
    | 0, _ => rfl
    | 1, _ => rfl
    | 2, _ => rfl
    | 3, _ => show ((v 3).toInt.natAbs : Int) = (-(v 3)).toInt; rw [jn (by omega) (by omega)]; omega
    | 4, _ => show ((v 4).toInt.natAbs : Int) = (-(-(v 4))).toInt; rw [Int64.neg_neg]; omega
    | 5, _ => show ((v 5).toInt.natAbs : Int) = (-(v 5)).toInt; rw [jn (by omega) (by omega)]; omega
  · exfalso; have i0 := iN s0; have i1 := iZ s1; have i2 := iP s2; omega
  · exfalso; have i0 := iN s0; have i1 := iZ s1; have i2 := iZ s2; omega
  · exfalso; have i0 := iN s0; have i1 := iZ s1; have i2 := iN s2; omega
  · have i0 := iN s0; have i1 := iN s1; have i2 := iP s2
    have hz : go3 v = tu3 v true true false := by simp only [go3, tu4, (sgnN s0).1, (sgnN s0).2.1, (sgnN s0).2.2.1, (sgnN s0).2.2.2, (sgnN s1).1, (sgnN s1).2.1, (sgnN s1).2.2.1, (sgnN s1).2.2.2, (sgnP s2).1, (sgnP s2).2.1, (sgnP s2).2.2.1, (sgnP s2).2.2.2, decide_true, decide_false, Bool.not_true, Bool.not_false, Bool.and_true, Bool.true_and, Bool.and_false, Bool.false_and, Bool.or_true, Bool.true_or, Bool.or_false, Bool.false_or, Bool.or_self, Bool.and_self]
    intro i hi
    rw [hz]
    match i, hi with
    | 0, _ => rfl
    | 1, _ => rfl
    | 2, _ => rfl
    | 3, _ => show ((v 3).toInt.natAbs : Int) = (-(v 3)).toInt; rw [jn (by omega) (by omega)]; omega
    | 4, _ => show ((v 4).toInt.natAbs : Int) = (-(v 4)).toInt; rw [jn (by omega) (by omega)]; omega
    | 5, _ => show ((v 5).toInt.natAbs : Int) = (-(-(v 5))).toInt; rw [Int64.neg_neg]; omega
  · exfalso; have i0 := iN s0; have i1 := iN s1; have i2 := iZ s2; omega
  · exfalso; have i0 := iN s0; have i1 := iN s1; have i2 := iN s2; omega
theorem go4_i {v : Nat → Int64} (h : Sm v) (ha : ap4 v = true) : ∀ i : Nat, i < 6 → B4 (I6 v) i = I6 (go4 v) i := by
  have hA := ap4_i.mp ha
  have b3 := h 3 (by decide)
  have b4 := h 4 (by decide)
  have b5 := h 5 (by decide)
  unfold A4 A3 I6 at hA
  rcases tri (v 3) with s0 | s0 | s0 <;> rcases tri (v 4) with s1 | s1 | s1 <;> rcases tri (v 5) with s2 | s2 | s2
  · exfalso; have i0 := iP s0; have i1 := iP s1; have i2 := iP s2; omega
  · have i0 := iP s0; have i1 := iP s1; have i2 := iZ s2
    have hz : go4 v = tu3 v true true false := by simp only [go4, tu4, (sgnP s0).1, (sgnP s0).2.1, (sgnP s0).2.2.1, (sgnP s0).2.2.2, (sgnP s1).1, (sgnP s1).2.1, (sgnP s1).2.2.1, (sgnP s1).2.2.2, (sgnZ s2).1, (sgnZ s2).2.1, (sgnZ s2).2.2.1, (sgnZ s2).2.2.2, decide_true, decide_false, Bool.not_true, Bool.not_false, Bool.and_true, Bool.true_and, Bool.and_false, Bool.false_and, Bool.or_true, Bool.true_or, Bool.or_false, Bool.false_or, Bool.or_self, Bool.and_self]
    intro i hi
    rw [hz]
    match i, hi with
    | 0, _ => rfl
    | 1, _ => rfl
    | 2, _ => rfl
    | 3, _ => show -((v 3).toInt.natAbs : Int) = (-(v 3)).toInt; rw [jn (by omega) (by omega)]; omega
    | 4, _ => show -((v 4).toInt.natAbs : Int) = (-(v 4)).toInt; rw [jn (by omega) (by omega)]; omega
    | 5, _ => show -((v 5).toInt.natAbs : Int) = (-(-(v 5))).toInt; rw [Int64.neg_neg]; omega
  · have i0 := iP s0; have i1 := iP s1; have i2 := iN s2
    have hz : go4 v = tu3 v true true false := by simp only [go4, tu4, (sgnP s0).1, (sgnP s0).2.1, (sgnP s0).2.2.1, (sgnP s0).2.2.2, (sgnP s1).1, (sgnP s1).2.1, (sgnP s1).2.2.1, (sgnP s1).2.2.2, (sgnN s2).1, (sgnN s2).2.1, (sgnN s2).2.2.1, (sgnN s2).2.2.2, decide_true, decide_false, Bool.not_true, Bool.not_false, Bool.and_true, Bool.true_and, Bool.and_false, Bool.false_and, Bool.or_true, Bool.true_or, Bool.or_false, Bool.false_or, Bool.or_self, Bool.and_self]
    intro i hi
    rw [hz]
    match i, hi with
    | 0, _ => rfl
    | 1, _ => rfl
    | 2, _ => rfl
    | 3, _ => show -((v 3).toInt.natAbs : Int) = (-(v 3)).toInt; rw [jn (by omega) (by omega)]; omega
    | 4, _ => show -((v 4).toInt.natAbs : Int) = (-(v 4)).toInt; rw [jn (by omega) (by omega)]; omega
    | 5, _ => show -((v 5).toInt.natAbs : Int) = (-(-(v 5))).toInt; rw [Int64.neg_neg]; omega
  · have i0 := iP s0; have i1 := iZ s1; have i2 := iP s2
    have hz : go4 v = tu3 v true false true := by simp only [go4, tu4, (sgnP s0).1, (sgnP s0).2.1, (sgnP s0).2.2.1, (sgnP s0).2.2.2, (sgnZ s1).1, (sgnZ s1).2.1, (sgnZ s1).2.2.1, (sgnZ s1).2.2.2, (sgnP s2).1, (sgnP s2).2.1, (sgnP s2).2.2.1, (sgnP s2).2.2.2, decide_true, decide_false, Bool.not_true, Bool.not_false, Bool.and_true, Bool.true_and, Bool.and_false, Bool.false_and, Bool.or_true, Bool.true_or, Bool.or_false, Bool.false_or, Bool.or_self, Bool.and_self]
    intro i hi
    rw [hz]
    match i, hi with
    | 0, _ => rfl
    | 1, _ => rfl
    | 2, _ => rfl
    | 3, _ => show -((v 3).toInt.natAbs : Int) = (-(v 3)).toInt; rw [jn (by omega) (by omega)]; omega
    | 4, _ => show -((v 4).toInt.natAbs : Int) = (-(-(v 4))).toInt; rw [Int64.neg_neg]; omega
    | 5, _ => show -((v 5).toInt.natAbs : Int) = (-(v 5)).toInt; rw [jn (by omega) (by omega)]; omega
  · have i0 := iP s0; have i1 := iZ s1; have i2 := iZ s2
    have hz : go4 v = tu3 v true false true := by simp only [go4, tu4, (sgnP s0).1, (sgnP s0).2.1, (sgnP s0).2.2.1, (sgnP s0).2.2.2, (sgnZ s1).1, (sgnZ s1).2.1, (sgnZ s1).2.2.1, (sgnZ s1).2.2.2, (sgnZ s2).1, (sgnZ s2).2.1, (sgnZ s2).2.2.1, (sgnZ s2).2.2.2, decide_true, decide_false, Bool.not_true, Bool.not_false, Bool.and_true, Bool.true_and, Bool.and_false, Bool.false_and, Bool.or_true, Bool.true_or, Bool.or_false, Bool.false_or, Bool.or_self, Bool.and_self]
    intro i hi
    rw [hz]
    match i, hi with
    | 0, _ => rfl
    | 1, _ => rfl
    | 2, _ => rfl
    | 3, _ => show -((v 3).toInt.natAbs : Int) = (-(v 3)).toInt; rw [jn (by omega) (by omega)]; omega
    | 4, _ => show -((v 4).toInt.natAbs : Int) = (-(-(v 4))).toInt; rw [Int64.neg_neg]; omega
    | 5, _ => show -((v 5).toInt.natAbs : Int) = (-(v 5)).toInt; rw [jn (by omega) (by omega)]; omega
  · have i0 := iP s0; have i1 := iZ s1; have i2 := iN s2
    have hz : go4 v = tu3 v true true false := by simp only [go4, tu4, (sgnP s0).1, (sgnP s0).2.1, (sgnP s0).2.2.1, (sgnP s0).2.2.2, (sgnZ s1).1, (sgnZ s1).2.1, (sgnZ s1).2.2.1, (sgnZ s1).2.2.2, (sgnN s2).1, (sgnN s2).2.1, (sgnN s2).2.2.1, (sgnN s2).2.2.2, decide_true, decide_false, Bool.not_true, Bool.not_false, Bool.and_true, Bool.true_and, Bool.and_false, Bool.false_and, Bool.or_true, Bool.true_or, Bool.or_false, Bool.false_or, Bool.or_self, Bool.and_self]
    intro i hi
    rw [hz]
    match i, hi with
    | 0, _ => rfl
    | 1, _ => rfl
    | 2, _ => rfl
    | 3, _ => show -((v 3).toInt.natAbs : Int) = (-(v 3)).toInt; rw [jn (by omega) (by omega)]; omega
    | 4, _ => show -((v 4).toInt.natAbs : Int) = (-(v 4)).toInt; rw [jn (by omega) (by omega)]; omega
    | 5, _ => show -((v 5).toInt.natAbs : Int) = (-(-(v 5))).toInt; rw [Int64.neg_neg]; omega
  · have i0 := iP s0; have i1 := iN s1; have i2 := iP s2
    have hz : go4 v = tu3 v true false true := by simp only [go4, tu4, (sgnP s0).1, (sgnP s0).2.1, (sgnP s0).2.2.1, (sgnP s0).2.2.2, (sgnN s1).1, (sgnN s1).2.1, (sgnN s1).2.2.1, (sgnN s1).2.2.2, (sgnP s2).1, (sgnP s2).2.1, (sgnP s2).2.2.1, (sgnP s2).2.2.2, decide_true, decide_false, Bool.not_true, Bool.not_false, Bool.and_true, Bool.true_and, Bool.and_false, Bool.false_and, Bool.or_true, Bool.true_or, Bool.or_false, Bool.false_or, Bool.or_self, Bool.and_self]
    intro i hi
    rw [hz]
    match i, hi with
    | 0, _ => rfl
    | 1, _ => rfl
    | 2, _ => rfl
    | 3, _ => show -((v 3).toInt.natAbs : Int) = (-(v 3)).toInt; rw [jn (by omega) (by omega)]; omega
    | 4, _ => show -((v 4).toInt.natAbs : Int) = (-(-(v 4))).toInt; rw [Int64.neg_neg]; omega
    | 5, _ => show -((v 5).toInt.natAbs : Int) = (-(v 5)).toInt; rw [jn (by omega) (by omega)]; omega
  · have i0 := iP s0; have i1 := iN s1; have i2 := iZ s2
    have hz : go4 v = tu3 v true false true := by simp only [go4, tu4, (sgnP s0).1, (sgnP s0).2.1, (sgnP s0).2.2.1, (sgnP s0).2.2.2, (sgnN s1).1, (sgnN s1).2.1, (sgnN s1).2.2.1, (sgnN s1).2.2.2, (sgnZ s2).1, (sgnZ s2).2.1, (sgnZ s2).2.2.1, (sgnZ s2).2.2.2, decide_true, decide_false, Bool.not_true, Bool.not_false, Bool.and_true, Bool.true_and, Bool.and_false, Bool.false_and, Bool.or_true, Bool.true_or, Bool.or_false, Bool.false_or, Bool.or_self, Bool.and_self]
    intro i hi
    rw [hz]
    match i, hi with
    | 0, _ => rfl
    | 1, _ => rfl
    | 2, _ => rfl
    | 3, _ => show -((v 3).toInt.natAbs : Int) = (-(v 3)).toInt; rw [jn (by omega) (by omega)]; omega
    | 4, _ => show -((v 4).toInt.natAbs : Int) = (-(-(v 4))).toInt; rw [Int64.neg_neg]; omega
    | 5, _ => show -((v 5).toInt.natAbs : Int) = (-(v 5)).toInt; rw [jn (by omega) (by omega)]; omega
  · exfalso; have i0 := iP s0; have i1 := iN s1; have i2 := iN s2; omega
  · have i0 := iZ s0; have i1 := iP s1; have i2 := iP s2
    have hz : go4 v = tu3 v false true true := by simp only [go4, tu4, (sgnZ s0).1, (sgnZ s0).2.1, (sgnZ s0).2.2.1, (sgnZ s0).2.2.2, (sgnP s1).1, (sgnP s1).2.1, (sgnP s1).2.2.1, (sgnP s1).2.2.2, (sgnP s2).1, (sgnP s2).2.1, (sgnP s2).2.2.1, (sgnP s2).2.2.2, decide_true, decide_false, Bool.not_true, Bool.not_false, Bool.and_true, Bool.true_and, Bool.and_false, Bool.false_and, Bool.or_true, Bool.true_or, Bool.or_false, Bool.false_or, Bool.or_self, Bool.and_self]
    intro i hi
    rw [hz]
    match i, hi with
    | 0, _ => rfl
    | 1, _ => rfl
    | 2, _ => rfl
    | 3, _ => show -((v 3).toInt.natAbs : Int) = (-(-(v 3))).toInt; rw [Int64.neg_neg]; omega
    | 4, _ => show -((v 4).toInt.natAbs : Int) = (-(v 4)).toInt; rw [jn (by omega) (by omega)]; omega
    | 5, _ => show -((v 5).toInt.natAbs : Int) = (-(v 5)).toInt; rw [jn (by omega) (by omega)]; omega
  · have i0 := iZ s0; have i1 := iP s1; have i2 := iZ s2
    have hz : go4 v = tu3 v false true true := by simp only [go4, tu4, (sgnZ s0).1, (sgnZ s0).2.1, (sgnZ s0).2.2.1, (sgnZ s0).2.2.2, (sgnP s1).1, (sgnP s1).2.1, (sgnP s1).2.2.1, (sgnP s1).2.2.2, (sgnZ s2).1, (sgnZ s2).2.1, (sgnZ s2).2.2.1, (sgnZ s2).2.2.2, decide_true, decide_false, Bool.not_true, Bool.not_false, Bool.and_true, Bool.true_and, Bool.and_false, Bool.false_and, Bool.or_true, Bool.true_or, Bool.or_false, Bool.false_or, Bool.or_self, Bool.and_self]
    intro i hi
    rw [hz]
    match i, hi with
    | 0, _ => rfl
    | 1, _ => rfl
    | 2, _ => rfl
    | 3, _ => show -((v 3).toInt.natAbs : Int) = (-(-(v 3))).toInt; rw [Int64.neg_neg]; omega
    | 4, _ => show -((v 4).toInt.natAbs : Int) = (-(v 4)).toInt; rw [jn (by omega) (by omega)]; omega
    | 5, _ => show -((v 5).toInt.natAbs : Int) = (-(v 5)).toInt; rw [jn (by omega) (by omega)]; omega
  · have i0 := iZ s0; have i1 := iP s1; have i2 := iN s2
    have hz : go4 v = tu3 v true true false := by simp only [go4, tu4, (sgnZ s0).1, (sgnZ s0).2.1, (sgnZ s0).2.2.1, (sgnZ s0).2.2.2, (sgnP s1).1, (sgnP s1).2.1, (sgnP s1).2.2.1, (sgnP s1).2.2.2, (sgnN s2).1, (sgnN s2).2.1, (sgnN s2).2.2.1, (sgnN s2).2.2.2, decide_true, decide_false, Bool.not_true, Bool.not_false, Bool.and_true, Bool.true_and, Bool.and_false, Bool.false_and, Bool.or_true, Bool.true_or, Bool.or_false, Bool.false_or, Bool.or_self, Bool.and_self]
    intro i hi
    rw [hz]
    match i, hi with
    | 0, _ => rfl
    | 1, _ => rfl
    | 2, _ => rfl
    | 3, _ => show -((v 3).toInt.natAbs : Int) = (-(v 3)).toInt; rw [jn (by omega) (by omega)]; omega
    | 4, _ => show -((v 4).toInt.natAbs : Int) = (-(v 4)).toInt; rw [jn (by omega) (by omega)]; omega
    | 5, _ => show -((v 5).toInt.natAbs : Int) = (-(-(v 5))).toInt; rw [Int64.neg_neg]; omega
  · have i0 := iZ s0; have i1 := iZ s1; have i2 := iP s2
    have hz : go4 v = tu3 v false true true := by simp only [go4, tu4, (sgnZ s0).1, (sgnZ s0).2.1, (sgnZ s0).2.2.1, (sgnZ s0).2.2.2, (sgnZ s1).1, (sgnZ s1).2.1, (sgnZ s1).2.2.1, (sgnZ s1).2.2.2, (sgnP s2).1, (sgnP s2).2.1, (sgnP s2).2.2.1, (sgnP s2).2.2.2, decide_true, decide_false, Bool.not_true, Bool.not_false, Bool.and_true, Bool.true_and, Bool.and_false, Bool.false_and, Bool.or_true, Bool.true_or, Bool.or_false, Bool.false_or, Bool.or_self, Bool.and_self]
    intro i hi
    rw [hz]
    match i, hi with
    | 0, _ => rfl
    | 1, _ => rfl
    | 2, _ => rfl
    | 3, _ => show -((v 3).toInt.natAbs : Int) = (-(-(v 3))).toInt; rw [Int64.neg_neg]; omega
    | 4, _ => show -((v 4).toInt.natAbs : Int) = (-(v 4)).toInt; rw [jn (by omega) (by omega)]; omega
    | 5, _ => show -((v 5).toInt.natAbs : Int) = (-(v 5)).toInt; rw [jn (by omega) (by omega)]; omega
  · exfalso; have i0 := iZ s0; have i1 := iZ s1; have i2 := iZ s2; omega
  · exfalso; have i0 := iZ s0; have i1 := iZ s1; have i2 := iN s2; omega
  · have i0 := iZ s0; have i1 := iN s1; have i2 := iP s2
    have hz : go4 v = tu3 v true false true := by simp only [go4, tu4, (sgnZ s0).1, (sgnZ s0).2.1, (sgnZ s0).2.2.1, (sgnZ s0).2.2.2, (sgnN s1).1, (sgnN s1).2.1, (sgnN s1).2.2.1, (sgnN s1).2.2.2, (sgnP s2).1, (sgnP s2).2.1, (sgnP s2).2.2.1, (sgnP s2).2.2.2, decide_true, decide_false, Bool.not_true, Bool.not_false, Bool.and_true, Bool.true_and, Bool.and_false, Bool.false_and, Bool.or_true, Bool.true_or, Bool.or_false, Bool.false_or, Bool.or_self, Bool.and_self]
    intro i hi
    rw [hz]
    match i, hi with
    | 0, _ => rfl
    | 1, _ => rfl
    | 2, _ => rfl
    | 3, _ => show -((v 3).toInt.natAbs : Int) = (-(v 3)).toInt; rw [jn (by omega) (by omega)]; omega
    | 4, _ => show -((v 4).toInt.natAbs : Int) = (-(-(v 4))).toInt; rw [Int64.neg_neg]; omega
    | 5, _ => show -((v 5).toInt.natAbs : Int) = (-(v 5)).toInt; rw [jn (by omega) (by omega)]; omega
  · exfalso; have i0 := iZ s0; have i1 := iN s1; have i2 := iZ s2; omega
  · exfalso; have i0 := iZ s0; have i1 := iN s1; have i2 := iN s2; omega
  · have i0 := iN s0; have i1 := iP s1; have i2 := iP s2
    have hz : go4 v = tu3 v false true true := by simp only [go4, tu4, (sgnN s0).1, (sgnN s0).2.1, (sgnN s0).2.2.1, (sgnN s0).2.2.2, (sgnP s1).1, (sgnP s1).2.1, (sgnP s1).2.2.1, (sgnP s1).2.2.2, (sgnP s2).1, (sgnP s2).2.1, (sgnP s2).2.2.1, (sgnP s2).2.2.2, decide_true, decide_false, Bool.not_true, Bool.not_false, Bool.and_true, Bool.true_and, Bool.and_false, Bool.false_and, Bool.or_true, Bool.true_or, Bool.or_false, Bool.false_or, Bool.or_self, Bool.and_self]
    intro i hi
    rw [hz]
    match i, hi with
    | 0, _ => rfl
    | 1, _ => rfl
    | 2, _ => rfl
    | 3, _ => show -((v 3).toInt.natAbs : Int) = (-(-(v 3))).toInt; rw [Int64.neg_neg]; omega
    | 4, _ => show -((v 4).toInt.natAbs : Int) = (-(v 4)).toInt; rw [jn (by omega) (by omega)]; omega
    | 5, _ => show -((v 5).toInt.natAbs : Int) = (-(v 5)).toInt; rw [jn (by omega) (by omega)]; omega
  · have i0 := iN s0; have i1 := iP s1; have i2 := iZ s2
    have hz : go4 v = tu3 v false true true := by simp only [go4, tu4, (sgnN s0).1, (sgnN s0).2.1, (sgnN s0).2.2.1, (sgnN s0).2.2.2, (sgnP s1).1, (sgnP s1).2.1, (sgnP s1).2.2.1, (sgnP s1).2.2.2, (sgnZ s2).1, (sgnZ s2).2.1, (sgnZ s2).2.2.1, (sgnZ s2).2.2.2, decide_true, decide_false, Bool.not_true, Bool.not_false, Bool.and_true, Bool.true_and, Bool.and_false, Bool.false_and, Bool.or_true, Bool.true_or, Bool.or_false, Bool.false_or, Bool.or_self, Bool.and_self]
    intro i hi
    rw [hz]
    match i, hi with
    | 0, _ => rfl
    | 1, _ => rfl
    | 2, _ => rfl
    | 3, _ => show -((v 3).toInt.natAbs : Int) = (-(-(v 3))).toInt; rw [Int64.neg_neg]; omega
    | 4, _ => show -((v 4).toInt.natAbs : Int) = (-(v 4)).toInt; rw [jn (by omega) (by omega)]; omega
    | 5, _ => show -((v 5).toInt.natAbs : Int) = (-(v 5)).toInt; rw [jn (by omega) (by omega)]; omega
  · exfalso; have i0 := iN s0; have i1 := iP s1; have i2 := iN s2; omega
  · have i0 := iN s0; have i1 := iZ s1; have i2 := iP s2
    have hz : go4 v = tu3 v false true true := by simp only [go4, tu4, (sgnN s0).1, (sgnN s0).2.1, (sgnN s0).2.2.1, (sgnN s0).2.2.2, (sgnZ s1).1, (sgnZ s1).2.1, (sgnZ s1).2.2.1, (sgnZ s1).2.2.2, (sgnP s2).1, (sgnP s2).2.1, (sgnP s2).2.2.1, (sgnP s2).2.2.2, decide_true, decide_false, Bool.not_true, Bool.not_false, Bool.and_true, Bool.true_and, Bool.and_false, Bool.false_and, Bool.or_true, Bool.true_or, Bool.or_false, Bool.false_or, Bool.or_self, Bool.and_self]
    intro i hi
    rw [hz]
    match i, hi with
    | 0, _ => rfl
    | 1, _ => rfl
    | 2, _ => rfl
    | 3, _ => show -((v 3).toInt.natAbs : Int) = (-(-(v 3))).toInt; rw [Int64.neg_neg]; omega
    | 4, _ => show -((v 4).toInt.natAbs : Int) = (-(v 4)).toInt; rw [jn (by omega) (by omega)]; omega
    | 5, _ => show -((v 5).toInt.natAbs : Int) = (-(v 5)).toInt; rw [jn (by omega) (by omega)]; omega
  · exfalso; have i0 := iN s0; have i1 := iZ s1; have i2 := iZ s2; omega
  · exfalso; have i0 := iN s0; have i1 := iZ s1; have i2 := iN s2; omega
  · exfalso; have i0 := iN s0; have i1 := iN s1; have i2 := iP s2; omega
  · exfalso; have i0 := iN s0; have i1 := iN s1; have i2 := iZ s2; omega
  · exfalso; have i0 := iN s0; have i1 := iN s1; have i2 := iN s2; omega
theorem go5_i {v : Nat → Int64} (h : Sm v) : ∀ i : Nat, i < 6 → B5 (I6 v) i = I6 (go5 v) i := by
  obtain ⟨e, hk⟩ := lessV_i (v 3)
  have L1 := lin (k := lessV (v 3)) (a := v 2) (x := v 3) (b := v 1) hk (h 2 (by decide)) (h 3 (by decide)) (h 1 (by decide))
  have L2 := lin (k := lessV (v 3)) (a := v 4) (x := v 5) (b := v 1) hk (h 4 (by decide)) (h 5 (by decide)) (h 1 (by decide))
  have L3 := lin (k := lessV (v 3)) (a := v 3) (x := v 3) (b := v 1) hk (h 3 (by decide)) (h 3 (by decide)) (h 1 (by decide))
  intro q hq
  match q, hq with
  | 0, _ => rfl
  | 1, _ => rfl
  | 2, _ => show (v 2).toInt + le1 (v 3).toInt * (v 3).toInt + (v 1).toInt = (v 2 + lessV (v 3) * v 3 + lessV (v 3) * lessV (v 3) * v 1).toInt; rw [L1.2.2.1, e]
  | 3, _ => show (v 3).toInt + 2 * le1 (v 3).toInt * (v 1).toInt = (v 3 + 2 * lessV (v 3) * v 1).toInt; rw [L3.2.2.2, e]
  | 4, _ => show (v 4).toInt + le1 (v 3).toInt * (v 5).toInt = (v 4 + lessV (v 3) * v 5).toInt; rw [L2.2.1, e]
  | 5, _ => rfl
theorem go6_i {v : Nat → Int64} (h : Sm v) : ∀ i : Nat, i < 6 → B6 (I6 v) i = I6 (go6 v) i := by
  obtain ⟨e, hk⟩ := lessV_i (v 4)
  have L1 := lin (k := lessV (v 4)) (a := v 2) (x := v 4) (b := v 0) hk (h 2 (by decide)) (h 4 (by decide)) (h 0 (by decide))
  have L2 := lin (k := lessV (v 4)) (a := v 3) (x := v 5) (b := v 0) hk (h 3 (by decide)) (h 5 (by decide)) (h 0 (by decide))
  have L3 := lin (k := lessV (v 4)) (a := v 4) (x := v 4) (b := v 0) hk (h 4 (by decide)) (h 4 (by decide)) (h 0 (by decide))
  intro q hq
  match q, hq with
  | 0, _ => rfl
  | 1, _ => rfl
  | 2, _ => show (v 2).toInt + le1 (v 4).toInt * (v 4).toInt + (v 0).toInt = (v 2 + lessV (v 4) * v 4 + lessV (v 4) * lessV (v 4) * v 0).toInt; rw [L1.2.2.1, e]
  | 3, _ => show (v 3).toInt + le1 (v 4).toInt * (v 5).toInt = (v 3 + lessV (v 4) * v 5).toInt; rw [L2.2.1, e]
  | 4, _ => show (v 4).toInt + 2 * le1 (v 4).toInt * (v 0).toInt = (v 4 + 2 * lessV (v 4) * v 0).toInt; rw [L3.2.2.2, e]
  | 5, _ => rfl
theorem go7_i {v : Nat → Int64} (h : Sm v) : ∀ i : Nat, i < 6 → B7 (I6 v) i = I6 (go7 v) i := by
  obtain ⟨e, hk⟩ := lessV_i (v 5)
  have L1 := lin (k := lessV (v 5)) (a := v 1) (x := v 5) (b := v 0) hk (h 1 (by decide)) (h 5 (by decide)) (h 0 (by decide))
  have L2 := lin (k := lessV (v 5)) (a := v 3) (x := v 4) (b := v 0) hk (h 3 (by decide)) (h 4 (by decide)) (h 0 (by decide))
  have L3 := lin (k := lessV (v 5)) (a := v 5) (x := v 5) (b := v 0) hk (h 5 (by decide)) (h 5 (by decide)) (h 0 (by decide))
  intro q hq
  match q, hq with
  | 0, _ => rfl
  | 1, _ => show (v 1).toInt + le1 (v 5).toInt * (v 5).toInt + (v 0).toInt = (v 1 + lessV (v 5) * v 5 + lessV (v 5) * lessV (v 5) * v 0).toInt; rw [L1.2.2.1, e]
  | 2, _ => rfl
  | 3, _ => show (v 3).toInt + le1 (v 5).toInt * (v 4).toInt = (v 3 + lessV (v 5) * v 4).toInt; rw [L2.2.1, e]
  | 4, _ => rfl
  | 5, _ => show (v 5).toInt + 2 * le1 (v 5).toInt * (v 0).toInt = (v 5 + 2 * lessV (v 5) * v 0).toInt; rw [L3.2.2.2, e]
theorem go8_i {v : Nat → Int64} (h : GdV v) : ∀ i : Nat, i < 6 → B8 (I6 v) i = I6 (go8 v) i := by
  have hs := Sm_of h
  have b := GdV_b h
  have p := p1_i
  have hk : (1 : Int64).toInt = 1 ∨ (1 : Int64).toInt = -1 := Or.inl p1_i
  have L1 := lin (k := 1) (a := v 2) (x := v 4) (b := v 0) hk (hs 2 (by decide)) (hs 4 (by decide)) (hs 0 (by decide))
  have L2 := lin (k := 1) (a := v 3) (x := v 5) (b := v 0) hk (hs 3 (by decide)) (hs 5 (by decide)) (hs 0 (by decide))
  have L3 := lin (k := 1) (a := v 4) (x := v 4) (b := v 0) hk (hs 4 (by decide)) (hs 4 (by decide)) (hs 0 (by decide))
  obtain ⟨u2, hu2⟩ : ∃ u, u = v 2 + 1 * v 4 + 1 * 1 * v 0 := ⟨_, rfl⟩
  obtain ⟨u3, hu3⟩ : ∃ u, u = v 3 + 1 * v 5 := ⟨_, rfl⟩
  obtain ⟨u4, hu4⟩ : ∃ u, u = v 4 + 2 * 1 * v 0 := ⟨_, rfl⟩
  have e2 : u2.toInt = (v 2).toInt + (v 4).toInt + (v 0).toInt := by rw [hu2, L1.2.2.1, p]; omega
  have e3 : u3.toInt = (v 3).toInt + (v 5).toInt := by rw [hu3, L2.2.1, p]; omega
  have e4 : u4.toInt = (v 4).toInt + 2 * (v 0).toInt := by rw [hu4, L3.2.2.2, p]; omega
  have M1 := lin (k := 1) (a := u2) (x := u3) (b := v 1) hk (by omega) (by omega) (hs 1 (by decide))
  have M2 := lin (k := 1) (a := u4) (x := v 5) (b := v 1) hk (by omega) (hs 5 (by decide)) (hs 1 (by decide))
  have M3 := lin (k := 1) (a := u3) (x := v 5) (b := v 1) hk (by omega) (hs 5 (by decide)) (hs 1 (by decide))
  intro q hq
  match q, hq with
  | 0, _ => rfl
  | 1, _ => rfl
  | 2, _ =>
    have g : go8 v 2 = u2 + 1 * u3 + 1 * 1 * v 1 := by rw [hu2, hu3]; rfl
    show (v 2).toInt + (v 3).toInt + (v 4).toInt + (v 5).toInt + (v 0).toInt + (v 1).toInt = (go8 v 2).toInt
    rw [g, M1.2.2.1, p, e2, e3]
    omega
  | 3, _ =>
    have g : go8 v 3 = u3 + 2 * 1 * v 1 := by rw [hu3]; rfl
    show (v 3).toInt + (v 5).toInt + 2 * (v 1).toInt = (go8 v 3).toInt
    rw [g, M3.2.2.2, p, e3]
    omega
  | 4, _ =>
    have g : go8 v 4 = u4 + 1 * v 5 := by rw [hu4]; rfl
    show (v 4).toInt + (v 5).toInt + 2 * (v 0).toInt = (go8 v 4).toInt
    rw [g, M2.2.1, p, e4]
    omega
  | 5, _ => rfl
theorem goV_good {v : Nat → Int64} (h : GdV v) (hn : stV v ≠ 0) : GdV (goV v) ∧ mfall (I6 (goV v)) < mfall (I6 v) := by
  have hs := Sm_of h
  by_cases a1 : ap1 v = true
  · have e : goV v = go1 v := by simp only [goV, a1, if_true, if_false, Bool.false_eq_true]
    obtain ⟨g1, g2⟩ := Gd_1 h ((ap1_i hs).mp a1)
    rw [e]
    exact ⟨Gd_ext (go1_i v) g1, by rw [← mfall_ext (go1_i v)]; exact g2⟩
  by_cases a2 : ap2 v = true
  · have e : goV v = go2 v := by simp only [goV, a1, a2, if_true, if_false, Bool.false_eq_true]
    obtain ⟨g1, g2⟩ := Gd_2 h ((ap2_i hs).mp a2)
    rw [e]
    exact ⟨Gd_ext (go2_i v) g1, by rw [← mfall_ext (go2_i v)]; exact g2⟩
  by_cases a3 : ap3 v = true
  · have e : goV v = go3 v := by simp only [goV, a1, a2, a3, if_true, if_false, Bool.false_eq_true]
    obtain ⟨g1, g2⟩ := Gd_3 h ((ap3_i).mp a3)
    rw [e]
    exact ⟨Gd_ext (go3_i hs a3) g1, by rw [← mfall_ext (go3_i hs a3)]; exact g2⟩
  by_cases a4 : ap4 v = true
  · have e : goV v = go4 v := by simp only [goV, a1, a2, a3, a4, if_true, if_false, Bool.false_eq_true]
    obtain ⟨g1, g2⟩ := Gd_4 h ((ap4_i).mp a4)
    rw [e]
    exact ⟨Gd_ext (go4_i hs a4) g1, by rw [← mfall_ext (go4_i hs a4)]; exact g2⟩
  by_cases a5 : ap5 v = true
  · have e : goV v = go5 v := by simp only [goV, a1, a2, a3, a4, a5, if_true, if_false, Bool.false_eq_true]
    obtain ⟨g1, g2⟩ := Gd_5 h (So_of (fun z => a1 ((ap1_i hs).mpr z)) (fun z => a2 ((ap2_i hs).mpr z))) (Si_of (fun z => a3 (ap3_i.mpr z)) (fun z => a4 (ap4_i.mpr z))) ((ap5_i hs).mp a5)
    rw [e]
    exact ⟨Gd_ext (go5_i hs) g1, by rw [← mfall_ext (go5_i hs)]; exact g2⟩
  by_cases a6 : ap6 v = true
  · have e : goV v = go6 v := by simp only [goV, a1, a2, a3, a4, a5, a6, if_true, if_false, Bool.false_eq_true]
    obtain ⟨g1, g2⟩ := Gd_6 h (So_of (fun z => a1 ((ap1_i hs).mpr z)) (fun z => a2 ((ap2_i hs).mpr z))) (Si_of (fun z => a3 (ap3_i.mpr z)) (fun z => a4 (ap4_i.mpr z))) ((ap6_i hs).mp a6)
    rw [e]
    exact ⟨Gd_ext (go6_i hs) g1, by rw [← mfall_ext (go6_i hs)]; exact g2⟩
  by_cases a7 : ap7 v = true
  · have e : goV v = go7 v := by simp only [goV, a1, a2, a3, a4, a5, a6, a7, if_true, if_false, Bool.false_eq_true]
    obtain ⟨g1, g2⟩ := Gd_7 h (So_of (fun z => a1 ((ap1_i hs).mpr z)) (fun z => a2 ((ap2_i hs).mpr z))) (Si_of (fun z => a3 (ap3_i.mpr z)) (fun z => a4 (ap4_i.mpr z))) ((ap7_i hs).mp a7)
    rw [e]
    exact ⟨Gd_ext (go7_i hs) g1, by rw [← mfall_ext (go7_i hs)]; exact g2⟩
  by_cases a8 : ap8 v = true
  · have e : goV v = go8 v := by simp only [goV, a1, a2, a3, a4, a5, a6, a7, a8, if_true, if_false, Bool.false_eq_true]
    obtain ⟨g1, g2⟩ := Gd_8 h (So_of (fun z => a1 ((ap1_i hs).mpr z)) (fun z => a2 ((ap2_i hs).mpr z))) (Si_of (fun z => a3 (ap3_i.mpr z)) (fun z => a4 (ap4_i.mpr z))) ((ap8_i hs).mp a8)
    rw [e]
    exact ⟨Gd_ext (go8_i h) g1, by rw [← mfall_ext (go8_i h)]; exact g2⟩
  exact absurd (by simp only [stV, a1, a2, a3, a4, a5, a6, a7, a8, if_false, Bool.false_eq_true]) hn
theorem ends_of : ∀ (n : Nat) (v : Nat → Int64), GdV v → mfall (I6 v) ≤ n → ∃ N : Nat, N ≤ n ∧ Ends v N ∧ ∀ i : Nat, i ≤ N → GdV (itV i v) := by
  intro n
  induction n with
  | zero =>
    intro v h hm
    by_cases hs : stV v = 0
    · exact ⟨0, Nat.le_refl _, ⟨fun i hi => absurd hi (Nat.not_lt_zero i), hs⟩, fun i hi => by cases i with | zero => exact h | succ i => exact absurd hi (by omega)⟩
    · have := (goV_good h hs).2
      omega
  | succ n ih =>
    intro v h hm
    by_cases hs : stV v = 0
    · exact ⟨0, Nat.zero_le _, ⟨fun i hi => absurd hi (Nat.not_lt_zero i), hs⟩, fun i hi => by cases i with | zero => exact h | succ i => exact absurd hi (by omega)⟩
    · obtain ⟨g1, g2⟩ := goV_good h hs
      obtain ⟨N, hN, ⟨e1, e2⟩, e3⟩ := ih (goV v) g1 (by omega)
      refine ⟨N + 1, by omega, ⟨fun i hi => ?_, e2⟩, fun i hi => ?_⟩
      · cases i with
        | zero => exact hs
        | succ i => exact e1 i (by omega)
      · cases i with
        | zero => exact h
        | succ i => exact e3 i (by omega)
theorem mfall_le {f : Nat → Int} (h : Gd f) : mfall f ≤ 10 ^ 46 := by
  have q := PD_pos h.1
  have r := PD_abs h.1
  have s := sb_2 f
  obtain ⟨-, h0, h1, h2⟩ := h
  have m1 : (f 0 + f 1 + f 2).toNat ≤ 3000000000 := by omega
  have m2 : (2 * (f 0 + f 1 + f 2) - ((f 3).natAbs + (f 4).natAbs + (f 5).natAbs)).toNat ≤ 6000000000 := by omega
  have m3 : (3 * f 0 + 2 * f 1 + f 2).toNat ≤ 6000000000 := by omega
  have m4 : 3 * (f 3).natAbs + 2 * (f 4).natAbs + (f 5).natAbs ≤ 12000000000 := by omega
  unfold mfall lx
  omega
/-- the end of a good form -/
theorem good_ends {v : Nat → Int64} (h : GdV v) : ∃ N : Nat, N ≤ 10 ^ 46 ∧ Ends v N ∧ (∀ i : Nat, i ≤ N → GdV (itV i v)) ∧ ∀ i : Nat, i ≤ N → eqM (itV i v) := by
  obtain ⟨N, h1, h2, h3⟩ := ends_of (10 ^ 46) v h (mfall_le h)
  exact ⟨N, h1, h2, h3, fun i hi => eqM_of (Sm_of (h3 i hi))⟩
