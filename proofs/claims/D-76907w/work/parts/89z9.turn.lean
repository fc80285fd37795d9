/-! TURNS: what both run through -/
def tun3 (Q : Nat → Bool) (k : Int32) (co : Nat → Int32) : Nat → Nat → Int32 → Int32 ⊕ Int32
  | 0, _, n => .inr n
  | d + 1, c, n => if Q c = true then (if n = k then .inl (co c) else tun3 Q k co d (c + 1) (n + 1)) else tun3 Q k co d (c + 1) n
def tun2 (Q : Nat → Bool) (J : Nat → Int32 → Int32 ⊕ Int32) : Nat → Nat → Int32 → Int32 ⊕ Int32
  | 0, _, n => .inr n
  | d + 1, b, n => if Q b = true then (match J b n with
      | .inl r => .inl r
      | .inr m => tun2 Q J d (b + 1) m) else tun2 Q J d (b + 1) n
def q1V (v : Nat → Int64) (a : Nat) : Bool := decide (twV v (fg a) (fg a) = 2 * v 0)
def q2V (v : Nat → Int64) (a b : Nat) : Bool := decide (twV v (fg b) (fg b) = 2 * v 1) && decide (twV v (fg a) (fg b) = v 5)
def q3V (v : Nat → Int64) (a b c : Nat) : Bool := decide (twV v (fg c) (fg c) = 2 * v 2) && (decide (twV v (fg a) (fg c) = v 4) && decide (twV v (fg b) (fg c) = v 3))
def coV (a b c : Nat) : Int32 := (10000 : Int32) * nI a + (100 : Int32) * nI b + nI c
def tuV (v : Nat → Int64) (k : Int32) : Int32 ⊕ Int32 := tun2 (q1V v) (fun a n => tun2 (q2V v a) (fun b n => tun3 (q3V v a b) k (coV a b) 27 0 n) 27 0 n) 27 0 0
def tuR (v : Nat → Int64) (k : Int32) : Int32 := match tuV v k with
  | .inl r => r
  | .inr n => if k = -1 then n else -2
section XTU
variable {ev : Ev} {w w' : Wd} {fu k n a b c K : Nat} {x m : Int32} {v : Nat → Int64}
theorem tw_ext {v u t u' t' : Nat → Int64} (hu : ∀ i : Nat, i < 3 → u i = u' i) (ht : ∀ i : Nat, i < 3 → t i = t' i) : twV v u t = twV v u' t' := by
  unfold twV
  rw [hu 0 (by decide), hu 1 (by decide), hu 2 (by decide), ht 0 (by decide), ht 1 (by decide), ht 2 (by decide)]
theorem xfig0 : aldA 6 (mem ev w) (ev.1 + 29) (0 : Int32) = some (some (ev.1 + 30)) := by
  have e := ldA (ev := ev) (w := w) (r := 29) (κ := 6) (n := 3) rfl (by decide) (i := nI 0) (vp_in_nI (by decide) (by omega))
  exact e
theorem xfig1 : aldA 6 (mem ev w) (ev.1 + 29) (1 : Int32) = some (some (ev.1 + 31)) := by
  have e := ldA (ev := ev) (w := w) (r := 29) (κ := 6) (n := 3) rfl (by decide) (i := nI 1) (vp_in_nI (by decide) (by omega))
  exact e
theorem xfig2 : aldA 6 (mem ev w) (ev.1 + 29) (2 : Int32) = some (some (ev.1 + 32)) := by
  have e := ldA (ev := ev) (w := w) (r := 29) (κ := 6) (n := 3) rfl (by decide) (i := nI 2) (vp_in_nI (by decide) (by omega))
  exact e
/-! the model -/
theorem col_s {R : Mm → Nat → Int32 → Int32 → Int32 → Int64 → Int32 → Option (Int64 × Mm)} {z D : Int64} {f : Nat} {y i j A B : Int32} (hj : ¬ (3 : Int32) ≤ j) (hA : f_X2_figure fu ev (mem ev w) x i = some (A, mem ev w)) (hB : f_X2_figure fu ev (mem ev w) y j = some (B, mem ev w)) (hC : f_X2_by fu ev (mem ev w) (ev.1 + 966) m i j = some (D, mem ev w)) : L_X2_columns_15 R fu ev (f + 1) (mem ev w) (ev.1 + 966) m x y z i j = L_X2_columns_15 R fu ev f (mem ev w) (ev.1 + 966) m x y (z + (A * B).toInt64 * D) i (j + 1) := by
  show b_X2_columns_15 _ _ fu ev _ _ _ _ _ _ _ _ = _
  unfold b_X2_columns_15
  rw [if_neg hj]
  unfold b_X2_columns_21
  simp only [hA, hB, hC, mis, bd2, Option.bind_some]
theorem col_e {R : Mm → Nat → Int32 → Int32 → Int32 → Int64 → Int32 → Option (Int64 × Mm)} {z : Int64} {f : Nat} {y i j : Int32} (hj : (3 : Int32) ≤ j) : L_X2_columns_15 R fu ev (f + 1) (mem ev w) (ev.1 + 966) m x y z i j = R (mem ev w) (ev.1 + 966) m x y z (i + 1) := by
  show b_X2_columns_15 _ _ fu ev _ _ _ _ _ _ _ _ = _
  unfold b_X2_columns_15
  rw [if_pos hj]
  rfl
theorem X2_columns (h : K < 26) (hf : 4 ≤ fu) (ha : a < 27) (hb : b < 27) : f_X2_columns fu ev (mem ev w) (ev.1 + 966) (nI K) (nI a) (nI b) = some (twV (sl w K) (fg a) (fg b), mem ev w) := by
  obtain ⟨g, hg⟩ : ∃ g, fu = g + 4 := ⟨fu - 4, by omega⟩
  have o : ∀ (f : Nat) (z : Int64) (i : Int32), ¬ (3 : Int32) ≤ i → L_X2_columns_6 fu ev (f + 1) (mem ev w) (ev.1 + 966) (nI K) (nI a) (nI b) z i = L_X2_columns_15 (L_X2_columns_6 fu ev f) fu ev (g + 4) (mem ev w) (ev.1 + 966) (nI K) (nI a) (nI b) z i 0 := by
    intro f z i hi
    show b_X2_columns_6 _ fu ev _ _ _ _ _ _ _ = _
    unfold b_X2_columns_6
    rw [if_neg hi]
    unfold b_X2_columns_12
    rw [← hg]
  have e1 : (0 : Int32) + 1 = 1 := by decide
  have e2 : (1 : Int32) + 1 = 2 := by decide
  have e3 : (2 : Int32) + 1 = 3 := by decide
  have fm := fi_mul a ha b hb
  have n0 : ¬ (3 : Int32) ≤ 0 := by decide
  have n1 : ¬ (3 : Int32) ≤ 1 := by decide
  have n2 : ¬ (3 : Int32) ≤ 2 := by decide
  have st : f_X2_columns fu ev (mem ev w) (ev.1 + 966) (nI K) (nI a) (nI b) = L_X2_columns_6 fu ev (g + 4) (mem ev w) (ev.1 + 966) (nI K) (nI a) (nI b) 0 0 := by
    unfold f_X2_columns b_X2_columns_0
    rw [← hg]
  rw [st, o (g + 3) 0 0 n0, col_s n0 X2_figure_0 X2_figure_0 (X2_by_00 h), e1, col_s n1 X2_figure_0 X2_figure_1 (X2_by_01 h), e2, col_s n2 X2_figure_0 X2_figure_2 (X2_by_02 h), e3, col_e (by decide), e1]
  rw [o (g + 2) _ 1 n1, col_s n0 X2_figure_1 X2_figure_0 (X2_by_10 h), e1, col_s n1 X2_figure_1 X2_figure_1 (X2_by_11 h), e2, col_s n2 X2_figure_1 X2_figure_2 (X2_by_12 h), e3, col_e (by decide), e2]
  rw [o (g + 1) _ 2 n2, col_s n0 X2_figure_2 X2_figure_0 (X2_by_20 h), e1, col_s n1 X2_figure_2 X2_figure_1 (X2_by_21 h), e2, col_s n2 X2_figure_2 X2_figure_2 (X2_by_22 h), e3, col_e (by decide), e3]
  show b_X2_columns_6 _ fu ev _ _ _ _ _ _ _ = _
  unfold b_X2_columns_6
  rw [if_pos (by decide)]
  unfold b_X2_columns_62 twV
  rw [fm 0 (by decide) 0 (by decide), fm 0 (by decide) 1 (by decide), fm 0 (by decide) 2 (by decide), fm 1 (by decide) 0 (by decide), fm 1 (by decide) 1 (by decide), fm 1 (by decide) 2 (by decide), fm 2 (by decide) 0 (by decide), fm 2 (by decide) 1 (by decide), fm 2 (by decide) 2 (by decide)]
theorem Lm_t3 {R13 : Mm → Nat → Int32 → Int32 → Int32 → Option (Int32 × Mm)} {R48 : Mm → Nat → Int32 → Int32 → Int32 → Int32 → Option (Int32 × Mm)} (hf : 4 ≤ fu) (hv : sl w 6 = v) (ha : a < 27) (hb : b < 27) : ∀ (d f c : Nat) (m : Int32), c + d = 27 → d < f → L_X2_turning_105 R13 R48 fu ev f (mem ev w) (ev.1 + 966) x m (nI a) (nI b) (nI c) = match tun3 (q3V v a b) x (coV a b) d c m with
    | .inl r => some (r, mem ev w)
    | .inr m' => R48 (mem ev w) (ev.1 + 966) x m' (nI a) (nI b + 1) := by
  intro d
  induction d with
  | zero =>
    intro f c m hc hf
    obtain ⟨g, rfl⟩ : ∃ g, f = g + 1 := ⟨f - 1, by omega⟩
    obtain rfl : c = 27 := by omega
    show b_X2_turning_105 _ _ _ fu ev _ _ _ _ _ _ _ = _
    unfold b_X2_turning_105
    rw [if_pos (show (27 : Int32) ≤ nI 27 by decide)]
    rfl
  | succ d ih =>
    intro f c m hc hf'
    obtain ⟨g, rfl⟩ : ∃ g, f = g + 1 := ⟨f - 1, by omega⟩
    have h6 : 6 < 26 := by decide
    have c1 : f_X2_columns fu ev (mem ev w) (ev.1 + 966) 6 (nI c) (nI c) = some (twV v (fg c) (fg c), mem ev w) := by rw [← hv]; exact X2_columns h6 hf (by omega) (by omega)
    have c2 : f_X2_columns fu ev (mem ev w) (ev.1 + 966) 6 (nI a) (nI c) = some (twV v (fg a) (fg c), mem ev w) := by rw [← hv]; exact X2_columns h6 hf ha (by omega)
    have c3 : f_X2_columns fu ev (mem ev w) (ev.1 + 966) 6 (nI b) (nI c) = some (twV v (fg b) (fg c), mem ev w) := by rw [← hv]; exact X2_columns h6 hf hb (by omega)
    have b1 : f_X2_by fu ev (mem ev w) (ev.1 + 966) 6 2 2 = some (2 * v 2, mem ev w) := by rw [← hv]; exact X2_by_22 h6
    have b2 : f_X2_by fu ev (mem ev w) (ev.1 + 966) 6 0 2 = some (v 4, mem ev w) := by rw [← hv]; exact X2_by_02 h6
    have b3 : f_X2_by fu ev (mem ev w) (ev.1 + 966) 6 1 2 = some (v 3, mem ev w) := by rw [← hv]; exact X2_by_12 h6
    show b_X2_turning_105 _ _ _ fu ev _ _ _ _ _ _ _ = _
    unfold b_X2_turning_105
    rw [if_neg (show ¬ (27 : Int32) ≤ nI c from nI_ge (b := 27) (by omega) (by decide))]
    have i1 : L_X2_turning_105 R13 R48 fu ev g (mem ev w) (ev.1 + 966) x m (nI a) (nI b) (nI c + 1) = (match tun3 (q3V v a b) x (coV a b) d (c + 1) m with
      | .inl r => some (r, mem ev w)
      | .inr m' => R48 (mem ev w) (ev.1 + 966) x m' (nI a) (nI b + 1)) := by rw [nI_1]; exact ih g (c + 1) m (by omega) (by omega)
    have i2 : L_X2_turning_105 R13 R48 fu ev g (mem ev w) (ev.1 + 966) x (m + 1) (nI a) (nI b) (nI c + 1) = (match tun3 (q3V v a b) x (coV a b) d (c + 1) (m + 1) with
      | .inl r => some (r, mem ev w)
      | .inr m' => R48 (mem ev w) (ev.1 + 966) x m' (nI a) (nI b + 1)) := by rw [nI_1]; exact ih g (c + 1) (m + 1) (by omega) (by omega)
    rw [show tun3 (q3V v a b) x (coV a b) (d + 1) c m = (if (decide (twV v (fg c) (fg c) = 2 * v 2) && (decide (twV v (fg a) (fg c) = v 4) && decide (twV v (fg b) (fg c) = v 3))) = true then (if m = x then .inl (coV a b c) else tun3 (q3V v a b) x (coV a b) d (c + 1) (m + 1)) else tun3 (q3V v a b) x (coV a b) d (c + 1) m) from rfl]
    have e4 : (m = x) = True ∨ (m = x) = False := by
      by_cases e : m = x
      · exact Or.inl (eq_true e)
      · exact Or.inr (eq_false e)
    by_cases e1 : twV v (fg c) (fg c) = 2 * v 2 <;> by_cases e2 : twV v (fg a) (fg c) = v 4 <;> by_cases e3 : twV v (fg b) (fg c) = v 3 <;> rcases e4 with e4 | e4 <;> simp only [b_X2_turning_112, b_X2_turning_134, b_X2_turning_156, b_X2_turning_178, b_X2_turning_181, b_X2_turning_186, b_X2_turning_202, b_X2_turning_205, mis, c1, c2, c3, b1, b2, b3, e1, e2, e3, e4, i1, i2, Option.bind_some, bd2, if_true, if_false, decide_true, decide_false, Bool.and_true, Bool.true_and, Bool.and_false, Bool.false_and, Bool.false_eq_true]
    all_goals first | rfl | skip
end XTU
