/-! SHELLS: counting, and the next square (model) -/
section XCP
variable {A B : Nat → Int64} {P Q R : Int64 → Bool} {n i j c : Nat} {x y : Int64} {v : Nat → Int64}
theorem cpN_le : cpN A P n ≤ n := by
  induction n with
  | zero => exact Nat.le_refl _
  | succ n ih => unfold cpN; split <;> omega
theorem cpN_all (h : ∀ i : Nat, i < n → P (A i) = true) : cpN A P n = n := by
  induction n with
  | zero => rfl
  | succ n ih => unfold cpN; rw [ih (fun i hi => h i (by omega)), if_pos (h n (by omega))]
theorem cpN_pos : ∀ n : Nat, 0 < cpN A P n ↔ ∃ i : Nat, i < n ∧ P (A i) = true := by
  intro n
  induction n with
  | zero => exact ⟨fun h => absurd h (by unfold cpN; omega), fun ⟨i, h, _⟩ => absurd h (by omega)⟩
  | succ n ih =>
    unfold cpN
    by_cases e : P (A n) = true
    · rw [if_pos e]
      exact ⟨fun _ => ⟨n, by omega, e⟩, fun _ => by omega⟩
    · rw [if_neg e, Nat.add_zero, ih]
      exact ⟨fun ⟨i, a, b⟩ => ⟨i, by omega, b⟩, fun ⟨i, a, b⟩ => ⟨i, by rcases Nat.lt_or_ge i n with q | q; exact q; exact absurd ((show i = n by omega) ▸ b) e, b⟩⟩
theorem cpN_add (h : ∀ i : Nat, i < n → (if R (A i) = true then 1 else 0) = (if P (A i) = true then 1 else 0) + (if Q (A i) = true then 1 else 0)) : cpN A R n = cpN A P n + cpN A Q n := by
  induction n with
  | zero => rfl
  | succ n ih =>
    unfold cpN
    rw [ih (fun i hi => h i (by omega)), h n (by omega)]
    omega
theorem cpN_sh : ∀ n : Nat, cpN A P (n + 1) = (if P (A 0) = true then 1 else 0) + cpN (fun i => A (i + 1)) P n := by
  intro n
  induction n with
  | zero => exact Nat.add_comm _ _
  | succ n ih =>
    rw [show cpN A P (n + 1 + 1) = cpN A P (n + 1) + if P (A (n + 1)) = true then 1 else 0 from rfl, ih, show cpN (fun i => A (i + 1)) P (n + 1) = cpN (fun i => A (i + 1)) P n + if P (A (n + 1)) = true then 1 else 0 from rfl]
    omega
theorem cpN_rev : ∀ (n : Nat) (A B : Nat → Int64), (∀ i : Nat, i < n → B i = A (n - 1 - i)) → cpN B P n = cpN A P n := by
  intro n
  induction n with
  | zero => intro A B _; rfl
  | succ n ih =>
    intro A B h
    rw [cpN_sh n, show cpN A P (n + 1) = cpN A P n + if P (A n) = true then 1 else 0 from rfl, h 0 (by omega), ih A (fun i => B (i + 1)) (fun i hi => by show B (i + 1) = _; rw [h (i + 1) (by omega), show n + 1 - 1 - (i + 1) = n - 1 - i by omega])]
    show (if P (A n) = true then 1 else 0) + _ = _
    omega
theorem srt_iff (hs : srt A n) : ∀ m : Nat, m ≤ n → ∀ i : Nat, i < m → (A i ≤ x ↔ i < cpN A (fun z => decide (z ≤ x)) m) := by
  intro m
  induction m with
  | zero => intro _ i hi; omega
  | succ m ih =>
    intro hm i hi
    unfold cpN
    by_cases e : A m ≤ x
    · have al : ∀ i : Nat, i < m → A i ≤ x := fun i hi => Int64.le_trans (hs i m hi (by omega)) e
      rw [if_pos (decide_eq_true e), cpN_all (fun i hi => decide_eq_true (al i hi))]
      refine ⟨fun _ => by omega, fun _ => ?_⟩
      by_cases q : i = m
      · rw [q]; exact e
      · exact al i (by omega)
    · rw [if_neg (fun h => e (of_decide_eq_true h)), Nat.add_zero]
      by_cases q : i = m
      · subst q
        have := cpN_le (A := A) (P := fun z => decide (z ≤ x)) (n := i)
        exact ⟨fun h => absurd h e, fun h => by omega⟩
      · exact ih (by omega) i (by omega)
theorem g4_n : ∀ a : Nat, a < 9 → g4 (8 - a) = -g4 a := by decide
theorem vec_n (hj : j < 729) : ∀ i : Nat, i < 3 → vec (728 - j) i = -vec j i := by
  intro i hi
  match i, hi with
  | 0, _ => show g4 ((728 - j) / 81) = -g4 (j / 81); rw [← g4_n _ (by omega)]; congr 1; omega
  | 1, _ => show g4 ((728 - j) / 9 % 9) = -g4 (j / 9 % 9); rw [← g4_n _ (by omega)]; congr 1; omega
  | 2, _ => show g4 ((728 - j) % 9) = -g4 (j % 9); rw [← g4_n _ (by omega)]; congr 1; omega
theorem sqf_n (hj : j < 729) : sqf v (728 - j) = sqf v j := by
  unfold sqf qV
  rw [vec_n hj 0 (by decide), vec_n hj 1 (by decide), vec_n hj 2 (by decide)]
  grind
theorem sqf_i (hv : OkV v) (hj : j < 729) : (sqf v j).toInt.natAbs ≤ 19200000000000 ∧ (j ≠ 364 → 0 < (sqf v j).toInt) := by
  have hu : ∀ i : Nat, i < 3 → (vec j i).toInt.natAbs ≤ 40 := by
    intro i hi
    match i, hi with
    | 0, _ => show (g4 (j / 81)).toInt.natAbs ≤ 40; have := (g4_a (j / 81) (by omega)).1; omega
    | 1, _ => show (g4 (j / 9 % 9)).toInt.natAbs ≤ 40; have := (g4_a (j / 9 % 9) (by omega)).1; omega
    | 2, _ => show (g4 (j % 9)).toInt.natAbs ≤ 40; have := (g4_a (j % 9) (by omega)).1; omega
  have b := qV_i (v := v) (u := vec j) hu (fun i hi => by have := OkV_abs hv i hi; omega)
  refine ⟨b.2, fun hne => ?_⟩
  show 0 < (qV v (vec j)).toInt
  rw [b.1, show (vec j 0).toInt = ((j / 81 : Nat) : Int) - 4 from (g4_a _ (by omega)).2, show (vec j 1).toInt = ((j / 9 % 9 : Nat) : Int) - 4 from (g4_a _ (by omega)).2, show (vec j 2).toInt = ((j % 9 : Nat) : Int) - 4 from (g4_a _ (by omega)).2]
  have p := hv.1.1 (((j / 81 : Nat) : Int) - 4) (((j / 9 % 9 : Nat) : Int) - 4) (((j % 9 : Nat) : Int) - 4) (by omega)
  have e : ∀ h i l : Int, qI (v 0).toInt (v 1).toInt (v 2).toInt (v 3).toInt (v 4).toInt (v 5).toInt h i l = Qf (I6 v) h i l := by
    intro h i l
    unfold qI Qf I6
    grind
  rw [e]
  exact p
/-- of all but the middle one -/
def cE (A : Nat → Int64) (P : Int64 → Bool) : Nat → Nat
  | 0 => 0
  | n + 1 => cE A P n + if n ≠ 364 ∧ P (A n) = true then 1 else 0
theorem cE_lo : ∀ n : Nat, n ≤ 364 → cE A P n = cpN A P n := by
  intro n
  induction n with
  | zero => intro _; rfl
  | succ n ih =>
    intro hn
    unfold cE cpN
    rw [ih (by omega)]
    by_cases e : P (A n) = true
    · rw [if_pos ⟨by omega, e⟩, if_pos e]
    · rw [if_neg (fun h => e h.2), if_neg e]
theorem cE_hi : ∀ n : Nat, cE A P (365 + n) = cpN A P 364 + cpN (fun i => A (365 + i)) P n := by
  intro n
  induction n with
  | zero =>
    show cE A P 364 + (if 364 ≠ 364 ∧ P (A 364) = true then 1 else 0) = cpN A P 364 + 0
    rw [if_neg (fun h => h.1 rfl), cE_lo 364 (Nat.le_refl _)]
  | succ n ih =>
    show cE A P (365 + n) + (if 365 + n ≠ 364 ∧ P (A (365 + n)) = true then 1 else 0) = _ + (cpN (fun i => A (365 + i)) P n + if P (A (365 + n)) = true then 1 else 0)
    rw [ih]
    by_cases e : P (A (365 + n)) = true
    · rw [if_pos ⟨by omega, e⟩, if_pos e]; omega
    · rw [if_neg (fun h => e h.2), if_neg e]; omega
theorem cE_sq : cE (sqf v) P 729 = 2 * cpN (sqf v) P 364 := by
  rw [show (729 : Nat) = 365 + 364 from rfl, cE_hi, cpN_rev 364 (sqf v) (fun i => sqf v (365 + i)) (fun i hi => by show sqf v (365 + i) = _; rw [← sqf_n (by omega), show 728 - (365 + i) = 364 - 1 - i by omega])]
  omega
end XCP
