/-! SIX NUMBERS IN ORDER: the one of a rank -/
def inD (b : Nat → Int64) (j i : Nat) : Nat := if b j < b i ∨ (b j = b i ∧ j < i) then 1 else 0
def rkB (b : Nat → Int64) (i : Nat) : Nat := S6 (fun j => inD b j i)
def dnB (b : Nat → Int64) (k : Nat) : Nat → Nat → Nat
  | 0, _ => 0
  | d + 1, m => if rkB b d = k then d else dnB b k d m
theorem inD_le {b : Nat → Int64} {i j : Nat} : inD b j i ≤ 1 := by unfold inD; split <;> omega
theorem rk_lt {b : Nat → Int64} {i i' : Nat} (hi : i < 6) (h : b i < b i' ∨ (b i = b i' ∧ i < i')) : rkB b i < rkB b i' := by
  have mono : ∀ j : Nat, inD b j i ≤ inD b j i' := by
    intro j
    unfold inD
    by_cases c : b j < b i ∨ (b j = b i ∧ j < i)
    · rw [if_pos c, if_pos]
      · exact Nat.le_refl _
      · rcases c with c | ⟨c1, c2⟩
        · rcases h with h | ⟨h1, h2⟩
          · exact Or.inl (Int64.lt_trans c h)
          · exact Or.inl (h1 ▸ c)
        · rcases h with h | ⟨h1, h2⟩
          · exact Or.inl (c1 ▸ h)
          · exact Or.inr ⟨c1.trans h1, by omega⟩
    · rw [if_neg c]
      exact Nat.zero_le _
  have z : inD b i i = 0 := by
    unfold inD
    rw [if_neg]
    rintro (c | c)
    · exact Int64.lt_irrefl c
    · omega
  have o : inD b i i' = 1 := by
    unfold inD
    rw [if_pos h]
  have m0 := mono 0
  have m1 := mono 1
  have m2 := mono 2
  have m3 := mono 3
  have m4 := mono 4
  have m5 := mono 5
  show inD b 0 i + inD b 1 i + inD b 2 i + inD b 3 i + inD b 4 i + inD b 5 i < inD b 0 i' + inD b 1 i' + inD b 2 i' + inD b 3 i' + inD b 4 i' + inD b 5 i'
  match i, hi with
  | 0, _ => omega
  | 1, _ => omega
  | 2, _ => omega
  | 3, _ => omega
  | 4, _ => omega
  | 5, _ => omega
theorem rk_6 {b : Nat → Int64} {i : Nat} (hi : i < 6) : rkB b i < 6 := by
  have z : inD b i i = 0 := by
    unfold inD
    rw [if_neg]
    rintro (c | c)
    · exact Int64.lt_irrefl c
    · omega
  have m0 := inD_le (b := b) (j := 0) (i := i)
  have m1 := inD_le (b := b) (j := 1) (i := i)
  have m2 := inD_le (b := b) (j := 2) (i := i)
  have m3 := inD_le (b := b) (j := 3) (i := i)
  have m4 := inD_le (b := b) (j := 4) (i := i)
  have m5 := inD_le (b := b) (j := 5) (i := i)
  show inD b 0 i + inD b 1 i + inD b 2 i + inD b 3 i + inD b 4 i + inD b 5 i < 6
  match i, hi with
  | 0, _ => omega
  | 1, _ => omega
  | 2, _ => omega
  | 3, _ => omega
  | 4, _ => omega
  | 5, _ => omega
theorem rk_inj {b : Nat → Int64} {i i' : Nat} (hi : i < 6) (hi' : i' < 6) (h : rkB b i = rkB b i') : i = i' := by
  apply Classical.byContradiction
  intro hn
  by_cases c : b i < b i'
  · have := rk_lt hi (Or.inl c); omega
  · by_cases c2 : b i' < b i
    · have := rk_lt hi' (Or.inl c2); omega
    · have e : b i = b i' := Int64.le_antisymm (Int64.not_lt.mp c2) (Int64.not_lt.mp c)
      rcases Nat.lt_or_gt_of_ne hn with c3 | c3
      · have := rk_lt hi (Or.inr ⟨e, c3⟩); omega
      · have := rk_lt hi' (Or.inr ⟨e.symm, c3⟩); omega
theorem no_inj : ∀ (n : Nat) (f : Nat → Nat), (∀ i : Nat, i < n + 1 → f i < n) → (∀ i j : Nat, i < n + 1 → j < n + 1 → f i = f j → i = j) → False := by
  intro n
  induction n with
  | zero => intro f h _; exact absurd (h 0 (by omega)) (by omega)
  | succ n ih =>
    intro f h hj
    refine ih (fun i => if f i = n then f (n + 1) else f i) (fun i hi => ?_) (fun i j hi hjj he => ?_)
    · show (if f i = n then f (n + 1) else f i) < n
      have h1 := h i (by omega)
      have h2 := h (n + 1) (by omega)
      by_cases c : f i = n
      · rw [if_pos c]
        have : f (n + 1) ≠ n := fun z => by
          have := hj i (n + 1) (by omega) (by omega) (c.trans z.symm)
          omega
        omega
      · rw [if_neg c]; omega
    · have he : (if f i = n then f (n + 1) else f i) = if f j = n then f (n + 1) else f j := he
      by_cases c : f i = n
      · by_cases c2 : f j = n
        · exact hj i j (by omega) (by omega) (c.trans c2.symm)
        · rw [if_pos c, if_neg c2] at he
          have := hj (n + 1) j (by omega) (by omega) he
          omega
      · by_cases c2 : f j = n
        · rw [if_neg c, if_pos c2] at he
          have := hj i (n + 1) (by omega) (by omega) he
          omega
        · rw [if_neg c, if_neg c2] at he
          exact hj i j (by omega) (by omega) he
theorem rk_ex {b : Nat → Int64} {k : Nat} (hk : k < 6) : ∃ i : Nat, i < 6 ∧ rkB b i = k := by
  apply Classical.byContradiction
  intro hn
  refine no_inj 5 (fun i => if k < rkB b i then rkB b i - 1 else rkB b i) (fun i hi => ?_) (fun i j hi hj he => ?_)
  · show (if k < rkB b i then rkB b i - 1 else rkB b i) < 5
    have h1 := rk_6 (b := b) hi
    have h2 : rkB b i ≠ k := fun z => hn ⟨i, hi, z⟩
    split <;> omega
  · have he : (if k < rkB b i then rkB b i - 1 else rkB b i) = if k < rkB b j then rkB b j - 1 else rkB b j := he
    have h2 : rkB b i ≠ k := fun z => hn ⟨i, hi, z⟩
    have h3 : rkB b j ≠ k := fun z => hn ⟨j, hj, z⟩
    refine rk_inj (b := b) hi hj ?_
    by_cases c : k < rkB b i
    · by_cases c2 : k < rkB b j
      · rw [if_pos c, if_pos c2] at he; omega
      · rw [if_pos c, if_neg c2] at he; omega
    · by_cases c2 : k < rkB b j
      · rw [if_neg c, if_pos c2] at he; omega
      · rw [if_neg c, if_neg c2] at he; omega
theorem dn_at {b : Nat → Int64} {k : Nat} : ∀ d m : Nat, (∃ i : Nat, i < d ∧ rkB b i = k) → dnB b k d m < d ∧ rkB b (dnB b k d m) = k := by
  intro d
  induction d with
  | zero => rintro m ⟨i, hi, -⟩; omega
  | succ d ih =>
    rintro m ⟨i, hi, hr⟩
    show (if rkB b d = k then d else dnB b k d m) < d + 1 ∧ rkB b (if rkB b d = k then d else dnB b k d m) = k
    by_cases c : rkB b d = k
    · rw [if_pos c]; exact ⟨by omega, c⟩
    · rw [if_neg c]
      have hid : i ≠ d := fun z => c (z ▸ hr)
      have := ih m ⟨i, by omega, hr⟩
      exact ⟨by omega, this.2⟩
theorem rk_val {b : Nat → Int64} {q : Nat → Nat} {k d : Nat} (hP : PQ q) (hS : SOq b q 6) (hk : k < 6) (hd : d < 6) (hr : rkB b d = k) : b d = b (q k) := by
  have e := hP.2 (fun j => inD b j d)
  have e2 := hP.2 (fun j => if j = d then 1 else 0)
  have e3 : S6 (fun j => if j = d then 1 else 0) = 1 := by
    match d, hd with
    | 0, _ => rfl
    | 1, _ => rfl
    | 2, _ => rfl
    | 3, _ => rfl
    | 4, _ => rfl
    | 5, _ => rfl
  rw [e3] at e2
  rw [show S6 (fun j => inD b j d) = k from hr] at e
  unfold S6 at e e2
  have e : inD b (q 0) d + inD b (q 1) d + inD b (q 2) d + inD b (q 3) d + inD b (q 4) d + inD b (q 5) d = k := e
  by_cases c : b (q k) < b d
  · exfalso
    have f : ∀ i : Nat, i < 6 → i ≤ k → inD b (q i) d = 1 := by
      intro i hi hik
      unfold inD
      rw [if_pos (Or.inl (Int64.lt_of_le_of_lt (hS i k hik hk) c))]
    have f0 := f 0 (by decide)
    have f1 := f 1 (by decide)
    have f2 := f 2 (by decide)
    have f3 := f 3 (by decide)
    have f4 := f 4 (by decide)
    have f5 := f 5 (by decide)
    match k, hk with
    | 0, _ => have := f0 (by decide); omega
    | 1, _ => have := f0 (by decide); have := f1 (by decide); omega
    | 2, _ => have := f0 (by decide); have := f1 (by decide); have := f2 (by decide); omega
    | 3, _ => have := f0 (by decide); have := f1 (by decide); have := f2 (by decide); have := f3 (by decide); omega
    | 4, _ => have := f0 (by decide); have := f1 (by decide); have := f2 (by decide); have := f3 (by decide); have := f4 (by decide); omega
    | 5, _ => have := f0 (by decide); have := f1 (by decide); have := f2 (by decide); have := f3 (by decide); have := f4 (by decide); have := f5 (by decide); omega
  · by_cases c2 : b d < b (q k)
    · exfalso
      have f : ∀ i : Nat, i < 6 → inD b (q i) d + (if q i = d then 1 else 0) ≤ 1 ∧ (k ≤ i → inD b (q i) d + (if q i = d then 1 else 0) = 0) := by
        intro i hi
        refine ⟨?_, fun hki => ?_⟩
        · by_cases z : q i = d
          · rw [if_pos z, z]
            have : inD b d d = 0 := by
              unfold inD
              rw [if_neg]
              rintro (c | c)
              · exact Int64.lt_irrefl c
              · omega
            omega
          · rw [if_neg z]
            exact inD_le
        · have lt : b d < b (q i) := Int64.lt_of_lt_of_le c2 (hS k i hki hi)
          have z : ¬ q i = d := fun z => by rw [z] at lt; exact Int64.lt_irrefl lt
          rw [if_neg z]
          unfold inD
          rw [if_neg]
          rintro (c | c)
          · exact Int64.lt_irrefl (Int64.lt_trans c lt)
          · rw [c.1] at lt; exact Int64.lt_irrefl lt
      have f0 := f 0 (by decide)
      have f1 := f 1 (by decide)
      have f2 := f 2 (by decide)
      have f3 := f 3 (by decide)
      have f4 := f 4 (by decide)
      have f5 := f 5 (by decide)
      have e2 : (if q 0 = d then 1 else 0) + (if q 1 = d then 1 else 0) + (if q 2 = d then 1 else 0) + (if q 3 = d then 1 else 0) + (if q 4 = d then 1 else 0) + (if q 5 = d then 1 else 0) = 1 := e2
      generalize (if q 0 = d then 1 else 0) = z0 at *
      generalize (if q 1 = d then 1 else 0) = z1 at *
      generalize (if q 2 = d then 1 else 0) = z2 at *
      generalize (if q 3 = d then 1 else 0) = z3 at *
      generalize (if q 4 = d then 1 else 0) = z4 at *
      generalize (if q 5 = d then 1 else 0) = z5 at *
      match k, hk with
      | 0, _ => have := f0.2 (by decide); have := f1.2 (by decide); have := f2.2 (by decide); have := f3.2 (by decide); have := f4.2 (by decide); have := f5.2 (by decide); omega
      | 1, _ => have := f1.2 (by decide); have := f2.2 (by decide); have := f3.2 (by decide); have := f4.2 (by decide); have := f5.2 (by decide); omega
      | 2, _ => have := f2.2 (by decide); have := f3.2 (by decide); have := f4.2 (by decide); have := f5.2 (by decide); omega
      | 3, _ => have := f3.2 (by decide); have := f4.2 (by decide); have := f5.2 (by decide); omega
      | 4, _ => have := f4.2 (by decide); have := f5.2 (by decide); omega
      | 5, _ => have := f5.2 (by decide); omega
    · exact Int64.le_antisymm (Int64.not_lt.mp c) (Int64.not_lt.mp c2)
theorem rk_fin {b : Nat → Int64} {q : Nat → Nat} {k : Nat} (hP : PQ q) (hS : SOq b q 6) (hk : k < 6) : dnB b k 6 0 < 6 ∧ b (dnB b k 6 0) = b (q k) := by
  obtain ⟨h1, h2⟩ := dn_at (b := b) (k := k) 6 0 (rk_ex hk)
  exact ⟨h1, rk_val hP hS hk h1 h2⟩
