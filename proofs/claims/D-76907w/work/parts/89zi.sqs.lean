/-! SHELLS: the squares in order (class) -/
def cpN (A : Nat → Int64) (P : Int64 → Bool) : Nat → Nat
  | 0 => 0
  | n + 1 => cpN A P n + if P (A n) = true then 1 else 0
def g4 (a : Nat) : Int64 := (nI a - 4).toInt64
def vec (j : Nat) : Nat → Int64 := fun i => match i with
  | 0 => g4 (j / 81)
  | 1 => g4 (j / 9 % 9)
  | _ => g4 (j % 9)
def sqf (v : Nat → Int64) (j : Nat) : Int64 := qV v (vec j)
def srt (A : Nat → Int64) (n : Nat) : Prop := ∀ i j : Nat, i < j → j < n → A i ≤ A j
theorem g4_s : ∀ a : Nat, a < 10 → g4 a + 1 = g4 (a + 1) := by decide
theorem g4_lt : ∀ a : Nat, a < 11 → (g4 a < 0 ↔ a < 4) := by decide
theorem g4_le : ∀ a : Nat, a < 11 → (0 ≤ g4 a ↔ 4 ≤ a) := by decide
theorem g4_4 : ∀ a : Nat, a < 11 → (4 < g4 a ↔ 9 ≤ a) := by decide
theorem g4_p : ∀ a : Nat, a < 11 → (0 < g4 a ↔ 5 ≤ a) := by decide
theorem g4_e : ∀ a : Nat, a < 11 → (g4 a = 0 ↔ a = 4) := by decide
theorem g4_a : ∀ a : Nat, a < 9 → (g4 a).toInt.natAbs ≤ 4 ∧ (g4 a).toInt = (a : Int) - 4 := by decide
theorem cp_ext {A B : Nat → Int64} {P : Int64 → Bool} : ∀ n : Nat, (∀ i : Nat, i < n → A i = B i) → cpN A P n = cpN B P n := by
  intro n
  induction n with
  | zero => intro _; rfl
  | succ n ih => intro h; unfold cpN; rw [ih (fun i hi => h i (by omega)), h n (by omega)]
/-- B is A with x put in at p -/
def Ins (A B : Nat → Int64) (n p : Nat) (x : Int64) : Prop := p ≤ n ∧ (∀ i : Nat, i < p → B i = A i) ∧ B p = x ∧ ∀ i : Nat, p ≤ i → i < n → B (i + 1) = A i
theorem Ins_cpN {A B : Nat → Int64} {P : Int64 → Bool} {p : Nat} {x : Int64} : ∀ n : Nat, Ins A B n p x → cpN B P (n + 1) = cpN A P n + if P x = true then 1 else 0 := by
  intro n
  induction n with
  | zero =>
    rintro ⟨h1, h2, h3, h4⟩
    obtain rfl : p = 0 := by omega
    unfold cpN
    rw [h3]
    rfl
  | succ n ih =>
    rintro ⟨h1, h2, h3, h4⟩
    by_cases e : p = n + 1
    · subst e
      rw [show cpN B P (n + 1 + 1) = cpN B P (n + 1) + if P (B (n + 1)) = true then 1 else 0 from rfl, h3, cp_ext (n + 1) h2]
    · have e2 := ih ⟨by omega, h2, h3, fun i a b => h4 i a (by omega)⟩
      rw [show cpN B P (n + 1 + 1) = cpN B P (n + 1) + if P (B (n + 1)) = true then 1 else 0 from rfl, e2, h4 n (by omega) (by omega), show cpN A P (n + 1) = cpN A P n + if P (A n) = true then 1 else 0 from rfl]
      omega
theorem Ins_srt {A B : Nat → Int64} {n p : Nat} {x : Int64} (h : Ins A B n p x) (hs : srt A n) (h1 : ∀ i : Nat, i < p → A i ≤ x) (h2 : ∀ i : Nat, p ≤ i → i < n → x ≤ A i) : srt B (n + 1) := by
  obtain ⟨g1, g2, g3, g4⟩ := h
  intro i j hij hj
  rcases Nat.lt_trichotomy j p with c | c | c
  · rw [g2 i (by omega), g2 j c]
    exact hs i j hij (by omega)
  · subst c
    rw [g3, g2 i hij]
    exact h1 i hij
  · obtain ⟨j', rfl⟩ : ∃ j', j = j' + 1 := ⟨j - 1, by omega⟩
    rw [g4 j' (by omega) (by omega)]
    rcases Nat.lt_trichotomy i p with d | d | d
    · rw [g2 i d]
      exact Int64.le_trans (h1 i d) (h2 j' (by omega) (by omega))
    · subst d
      rw [g3]
      exact h2 j' (by omega) (by omega)
    · obtain ⟨i', rfl⟩ : ∃ i', i = i' + 1 := ⟨i - 1, by omega⟩
      rw [g4 i' (by omega) (by omega)]
      exact hs i' j' (by omega) (by omega)
section XSQ
variable {ev : Ev} {w w0 w' : Wd} {fu k n i j L a b c N M T : Nat} {v : Nat → Int64} {x : Int64} {m u z : Int32} {Kp : Option Nat}
theorem r33 (h : k < 364) : aldJ (mem ev w) (ev.1 + 33) (nI k) = some (w.1 33 k) := rdJ (N := 364) rfl (by decide) (by decide) h
theorem p33 (h : k < 364) : astJ ev (mem ev w) (ev.1 + 33) (nI k) x = some (mem ev (wJ w 33 k x)) := wrJ (N := 364) rfl (by decide) (by decide) h
/-- only the squares differ -/
def O33 (w w' : Wd) : Prop := (∀ q i : Nat, q ≠ 33 → w'.1 q i = w.1 q i) ∧ w'.2 = w.2
theorem O33_Sq (h : O33 w w') : Sq w w' := ⟨fun q i hs => h.1 q i (fun e => hs (by subst e; unfold sJ; omega)), fun q i _ => by rw [h.2], by rw [h.2]⟩
theorem O33_cv (h : O33 w w') (hc : c < 118) : cv w' c = cv w c := by
  funext j
  have := cr_lt hc
  have e : ∀ q i : Nat, q ≠ 33 → w'.1 q i = w.1 q i := h.1
  have hr : ∀ t : Nat, t < 8 → cr c + t ≠ 33 := by
    intro t ht
    unfold cr
    split <;> omega
  simp only [cv]
  rw [e _ _ (hr 1 (by decide)), e _ _ (hr 2 (by decide)), e _ _ (hr 4 (by decide)), e _ _ (hr 5 (by decide)), e _ _ (hr 6 (by decide))]
theorem ins_l {R29 : Mm → Nat → Int32 → Nat → Option (Unit × Mm)} {R43 : Mm → Nat → Int32 → Nat → Option (Unit × Mm)} {R59 : Mm → Nat → Int32 → Nat → Option (Unit × Mm)} {y : Nat} : ∀ (t g : Nat) (w : Wd), t < g → t < 364 → ∃ (w' : Wd) (p : Nat), p ≤ t ∧ O33 w w' ∧ (∀ i : Nat, i < p → w'.1 33 i = w.1 33 i) ∧ w'.1 33 p = x ∧ (∀ i : Nat, p ≤ i → i < t → w'.1 33 (i + 1) = w.1 33 i) ∧ (p = 0 ∨ w.1 33 (p - 1) ≤ x) ∧ (∀ i : Nat, p ≤ i → i < t → x < w.1 33 i) ∧ (∀ i : Nat, t < i → w'.1 33 i = w.1 33 i) ∧ L_X0_findSquares_131 R29 R43 R59 fu ev g (mem ev w) ev.1 m y x (nI t) = b_X0_findSquares_185 R29 R43 R59 fu ev (mem ev w') ev.1 (m + 1) y := by
  intro t
  induction t with
  | zero =>
    intro g w hg ht
    obtain ⟨g, rfl⟩ : ∃ g', g = g' + 1 := ⟨g - 1, by omega⟩
    refine ⟨wJ w 33 0 x, 0, Nat.le_refl _, ⟨fun q i h => ?_, rfl⟩, fun i hi => by omega, ?_, fun i _ hi => by omega, Or.inl rfl, fun i _ hi => by omega, fun i hi => ?_, ?_⟩
    · show (if q = 33 ∧ i = 0 then _ else w.1 q i) = _
      rw [if_neg (fun e => h e.1)]
    · show (if 33 = 33 ∧ 0 = 0 then x else w.1 33 0) = _
      rw [if_pos ⟨rfl, rfl⟩]
    · show (if 33 = 33 ∧ i = 0 then _ else w.1 33 i) = _
      rw [if_neg (by omega)]
    · show b_X0_findSquares_131 _ _ _ _ fu ev _ _ _ _ _ _ = _
      unfold b_X0_findSquares_131
      rw [if_pos (show nI 0 ≤ 0 by decide)]
      simp only [b_X0_findSquares_173, xf11, p33 (show 0 < 364 by decide), Option.bind_some]
  | succ t ih =>
    intro g w hg ht
    obtain ⟨g, rfl⟩ : ∃ g', g = g' + 1 := ⟨g - 1, by omega⟩
    have e1 : nI (t + 1) - 1 = nI t := by rw [show (1 : Int32) = nI 1 from rfl, ← nI_add, Int32.add_sub_cancel]
    have e2 : nI (t + 1) + -1 = nI t := by rw [← Int32.sub_eq_add_neg, e1]
    by_cases hc : w.1 33 t ≤ x
    · refine ⟨wJ w 33 (t + 1) x, t + 1, Nat.le_refl _, ⟨fun q i h => ?_, rfl⟩, fun i hi => ?_, ?_, fun i _ hi => by omega, Or.inr hc, fun i _ hi => by omega, fun i hi => ?_, ?_⟩
      · show (if q = 33 ∧ i = t + 1 then _ else w.1 q i) = _
        rw [if_neg (fun e => h e.1)]
      · show (if 33 = 33 ∧ i = t + 1 then _ else w.1 33 i) = _
        rw [if_neg (by omega)]
      · show (if 33 = 33 ∧ t + 1 = t + 1 then x else w.1 33 (t + 1)) = _
        rw [if_pos ⟨rfl, rfl⟩]
      · show (if 33 = 33 ∧ i = t + 1 then _ else w.1 33 i) = _
        rw [if_neg (by omega)]
      · show b_X0_findSquares_131 _ _ _ _ fu ev _ _ _ _ _ _ = _
        unfold b_X0_findSquares_131 b_X0_findSquares_136
        rw [if_neg (nI_nle (by omega) (by omega))]
        simp only [b_X0_findSquares_173, xf11, e1, r33 (show t < 364 by omega), p33 ht, hc, if_true, Option.bind_some]
    · obtain ⟨w', p, h1, h2, h3, h4, h5, h6, h7, h9, h8⟩ := ih g (wJ w 33 (t + 1) (w.1 33 t)) (by omega) (by omega)
      have q : ∀ i : Nat, i ≤ t → (wJ w 33 (t + 1) (w.1 33 t)).1 33 i = w.1 33 i := by
        intro i hi
        show (if 33 = 33 ∧ i = t + 1 then _ else w.1 33 i) = _
        rw [if_neg (by omega)]
      refine ⟨w', p, by omega, ⟨fun q i h => ?_, h2.2⟩, fun i hi => ?_, h4, fun i a b => ?_, ?_, fun i a b => ?_, fun i hi => ?_, ?_⟩
      · rw [h2.1 q i h]
        show (if q = 33 ∧ i = t + 1 then _ else w.1 q i) = _
        rw [if_neg (fun e => h e.1)]
      · rw [h3 i hi, q i (by omega)]
      · by_cases e : i = t
        · subst e
          rw [h9 (i + 1) (by omega)]
          show (if 33 = 33 ∧ i + 1 = i + 1 then w.1 33 i else w.1 33 (i + 1)) = _
          rw [if_pos ⟨rfl, rfl⟩]
        · rw [h5 i a (by omega), q i (by omega)]
      · rcases h6 with h | h
        · exact Or.inl h
        · rw [q (p - 1) (by omega)] at h
          exact Or.inr h
      · by_cases e : i = t
        · subst e
          exact Int64.not_le.mp hc
        · rw [← q i (by omega)]
          exact h7 i a (by omega)
      · rw [h9 i (by omega)]
        show (if 33 = 33 ∧ i = t + 1 then _ else w.1 33 i) = _
        rw [if_neg (by omega)]
      · rw [← h8]
        show b_X0_findSquares_131 _ _ _ _ fu ev _ _ _ _ _ _ = _
        unfold b_X0_findSquares_131 b_X0_findSquares_136
        rw [if_neg (nI_nle (by omega) (by omega))]
        simp only [b_X0_findSquares_151, xf11, e1, e2, r33 (show t < 364 by omega), p33 ht, hc, if_false, Option.bind_some]
end XSQ
