/-! A SLOT of the model: its fifteen numbers, its reads and writes -/
def sl (w : Wd) (K : Nat) : Nat → Int64 := fun j => if j < 6 then w.1 967 (6 * K + j) else if j < 15 then w.1 968 (9 * K + (j - 6)) else 0
def setS (w : Wd) (K : Nat) (v : Nat → Int64) : Wd := (fun q i => if q = 967 ∧ 6 * K ≤ i ∧ i < 6 * K + 6 then v (i - 6 * K) else if q = 968 ∧ 9 * K ≤ i ∧ i < 9 * K + 9 then v (6 + (i - 9 * K)) else w.1 q i, w.2)
theorem i_as (x a b : Int32) : x + a - b = x + (a - b) := by rw [Int32.sub_eq_add_neg, Int32.sub_eq_add_neg, Int32.add_assoc]
theorem ix6 (K i : Nat) : (6 : Int32) * nI K + nI i = nI (6 * K + i) := by rw [show (6 : Int32) = nI 6 from rfl, pk_mul, nI_add]
theorem ix9 (K i : Nat) : (9 : Int32) * nI K + nI i = nI (9 * K + i) := by rw [show (9 : Int32) = nI 9 from rfl, pk_mul, nI_add]
section XS
variable {ev : Ev} {w : Wd} {K K2 : Nat} {v : Nat → Int64}
theorem sl_self {i : Nat} (hi : i < 15) : sl (setS w K v) K i = v i := by
  unfold sl
  by_cases h : i < 6
  · rw [if_pos h]
    show (if 967 = 967 ∧ 6 * K ≤ 6 * K + i ∧ 6 * K + i < 6 * K + 6 then v (6 * K + i - 6 * K) else _) = _
    rw [if_pos ⟨rfl, by omega, by omega⟩, Nat.add_sub_cancel_left]
  · rw [if_neg h, if_pos hi]
    simp only [setS]
    rw [if_neg (show ¬ (968 = 967 ∧ 6 * K ≤ 9 * K + (i - 6) ∧ 9 * K + (i - 6) < 6 * K + 6) by omega), if_pos (show True ∧ 9 * K ≤ 9 * K + (i - 6) ∧ 9 * K + (i - 6) < 9 * K + 9 from ⟨trivial, by omega, by omega⟩), show 6 + (9 * K + (i - 6) - 9 * K) = i by omega]
theorem setS_ext {v' : Nat → Int64} (h : ∀ i : Nat, i < 15 → v i = v' i) : setS w K v = setS w K v' := by
  refine Prod.ext (funext fun q => funext fun j => ?_) rfl
  simp only [setS]
  repeat' split
  all_goals first | rfl | (exact h _ (by omega))
theorem setS_sl : setS w K (sl w K) = w := by
  refine Prod.ext (funext fun q => funext fun j => ?_) rfl
  show (if q = 967 ∧ 6 * K ≤ j ∧ j < 6 * K + 6 then sl w K (j - 6 * K) else if q = 968 ∧ 9 * K ≤ j ∧ j < 9 * K + 9 then sl w K (6 + (j - 9 * K)) else w.1 q j) = w.1 q j
  split
  · rename_i h; obtain ⟨rfl, h1, h2⟩ := h
    unfold sl
    rw [if_pos (by omega), show 6 * K + (j - 6 * K) = j by omega]
  split
  · rename_i h; obtain ⟨rfl, h1, h2⟩ := h
    unfold sl
    rw [if_neg (by omega), if_pos (by omega), show 9 * K + (6 + (j - 9 * K) - 6) = j by omega]
  · rfl
theorem setS_set {v' : Nat → Int64} : setS (setS w K v) K v' = setS w K v' := by
  refine Prod.ext (funext fun q => funext fun j => ?_) rfl
  simp only [setS]
  repeat' split
  all_goals first | rfl | (exfalso; omega)
theorem setS_up {w0 : Wd} {i : Nat} {x : Int64} : setS w K (upV (sl (setS w0 K v) K) i x) = setS w K (upV v i x) := by
  refine setS_ext fun j hj => ?_
  show (if j = i then x else sl (setS w0 K v) K j) = if j = i then x else v j
  rw [sl_self hj]
theorem Mk_sl : Mk (sl w K) := by
  intro j hj
  unfold sl
  rw [if_neg (by omega), if_neg (by omega)]
theorem sl_mk (hv : Mk v) : sl (setS w K v) K = v := by
  funext j
  rcases Nat.lt_or_ge j 15 with h | h
  · exact sl_self h
  · rw [hv j h, Mk_sl j h]
theorem sl_ne (h : K2 ≠ K) : sl (setS w K v) K2 = sl w K2 := by
  funext j
  unfold sl
  by_cases h6 : j < 6
  · rw [if_pos h6, if_pos h6]
    simp only [setS]
    rw [if_neg (by omega), if_neg (by omega)]
  · rw [if_neg h6, if_neg h6]
    by_cases h15 : j < 15
    · rw [if_pos h15, if_pos h15]
      simp only [setS]
      rw [if_neg (by omega), if_neg (by omega)]
    · rw [if_neg h15, if_neg h15]
theorem wS6 {i : Nat} {x : Int64} (hi : i < 6) : wJ w 967 (6 * K + i) x = setS w K (upV (sl w K) i x) := by
  conv => lhs; rw [← setS_sl (w := w) (K := K)]
  refine Prod.ext (funext fun q => funext fun j => ?_) rfl
  simp only [wJ, setS, upV]
  repeat' split
  all_goals first | rfl | (exfalso; omega)
theorem wS9 {i : Nat} {x : Int64} (hi : i < 9) : wJ w 968 (9 * K + i) x = setS w K (upV (sl w K) (6 + i) x) := by
  conv => lhs; rw [← setS_sl (w := w) (K := K)]
  refine Prod.ext (funext fun q => funext fun j => ?_) rfl
  simp only [wJ, setS, upV]
  repeat' split
  all_goals first | rfl | (exfalso; omega)
theorem ld6_0 (h : K < 26) : aldJ (mem ev w) (ev.1 + 967) ((6 : Int32) * nI K + (0 : Int32)) = some (sl w K 0) := by
  rw [show ((6 : Int32) * nI K + (0 : Int32)) = nI (6 * K + 0) from ix6 K 0, ldJ (r := 967) (κ := 1) (n := 156) rfl (by decide) (vp_in_nI (by omega) (by decide)), nI_clamp (by omega)]
  rfl
theorem st6_0 (h : K < 26) (x : Int64) : astJ ev (mem ev w) (ev.1 + 967) ((6 : Int32) * nI K + (0 : Int32)) x = some (mem ev (setS w K (upV (sl w K) 0 x))) := by
  rw [show ((6 : Int32) * nI K + (0 : Int32)) = nI (6 * K + 0) from ix6 K 0, stJ (r := 967) (κ := 1) (n := 156) rfl (by decide) (vp_in_nI (by omega) (by decide)), nI_clamp (by omega), wS6 (by decide)]
theorem ld6_1 (h : K < 26) : aldJ (mem ev w) (ev.1 + 967) ((6 : Int32) * nI K + (1 : Int32)) = some (sl w K 1) := by
  rw [show ((6 : Int32) * nI K + (1 : Int32)) = nI (6 * K + 1) from ix6 K 1, ldJ (r := 967) (κ := 1) (n := 156) rfl (by decide) (vp_in_nI (by omega) (by decide)), nI_clamp (by omega)]
  rfl
theorem st6_1 (h : K < 26) (x : Int64) : astJ ev (mem ev w) (ev.1 + 967) ((6 : Int32) * nI K + (1 : Int32)) x = some (mem ev (setS w K (upV (sl w K) 1 x))) := by
  rw [show ((6 : Int32) * nI K + (1 : Int32)) = nI (6 * K + 1) from ix6 K 1, stJ (r := 967) (κ := 1) (n := 156) rfl (by decide) (vp_in_nI (by omega) (by decide)), nI_clamp (by omega), wS6 (by decide)]
theorem ld6_2 (h : K < 26) : aldJ (mem ev w) (ev.1 + 967) ((6 : Int32) * nI K + (2 : Int32)) = some (sl w K 2) := by
  rw [show ((6 : Int32) * nI K + (2 : Int32)) = nI (6 * K + 2) from ix6 K 2, ldJ (r := 967) (κ := 1) (n := 156) rfl (by decide) (vp_in_nI (by omega) (by decide)), nI_clamp (by omega)]
  rfl
theorem st6_2 (h : K < 26) (x : Int64) : astJ ev (mem ev w) (ev.1 + 967) ((6 : Int32) * nI K + (2 : Int32)) x = some (mem ev (setS w K (upV (sl w K) 2 x))) := by
  rw [show ((6 : Int32) * nI K + (2 : Int32)) = nI (6 * K + 2) from ix6 K 2, stJ (r := 967) (κ := 1) (n := 156) rfl (by decide) (vp_in_nI (by omega) (by decide)), nI_clamp (by omega), wS6 (by decide)]
theorem ld6_3 (h : K < 26) : aldJ (mem ev w) (ev.1 + 967) ((6 : Int32) * nI K + (3 : Int32)) = some (sl w K 3) := by
  rw [show ((6 : Int32) * nI K + (3 : Int32)) = nI (6 * K + 3) from ix6 K 3, ldJ (r := 967) (κ := 1) (n := 156) rfl (by decide) (vp_in_nI (by omega) (by decide)), nI_clamp (by omega)]
  rfl
theorem st6_3 (h : K < 26) (x : Int64) : astJ ev (mem ev w) (ev.1 + 967) ((6 : Int32) * nI K + (3 : Int32)) x = some (mem ev (setS w K (upV (sl w K) 3 x))) := by
  rw [show ((6 : Int32) * nI K + (3 : Int32)) = nI (6 * K + 3) from ix6 K 3, stJ (r := 967) (κ := 1) (n := 156) rfl (by decide) (vp_in_nI (by omega) (by decide)), nI_clamp (by omega), wS6 (by decide)]
theorem ld6_4 (h : K < 26) : aldJ (mem ev w) (ev.1 + 967) ((6 : Int32) * nI K + (4 : Int32)) = some (sl w K 4) := by
  rw [show ((6 : Int32) * nI K + (4 : Int32)) = nI (6 * K + 4) from ix6 K 4, ldJ (r := 967) (κ := 1) (n := 156) rfl (by decide) (vp_in_nI (by omega) (by decide)), nI_clamp (by omega)]
  rfl
theorem st6_4 (h : K < 26) (x : Int64) : astJ ev (mem ev w) (ev.1 + 967) ((6 : Int32) * nI K + (4 : Int32)) x = some (mem ev (setS w K (upV (sl w K) 4 x))) := by
  rw [show ((6 : Int32) * nI K + (4 : Int32)) = nI (6 * K + 4) from ix6 K 4, stJ (r := 967) (κ := 1) (n := 156) rfl (by decide) (vp_in_nI (by omega) (by decide)), nI_clamp (by omega), wS6 (by decide)]
theorem ld6_5 (h : K < 26) : aldJ (mem ev w) (ev.1 + 967) ((6 : Int32) * nI K + (5 : Int32)) = some (sl w K 5) := by
  rw [show ((6 : Int32) * nI K + (5 : Int32)) = nI (6 * K + 5) from ix6 K 5, ldJ (r := 967) (κ := 1) (n := 156) rfl (by decide) (vp_in_nI (by omega) (by decide)), nI_clamp (by omega)]
  rfl
theorem st6_5 (h : K < 26) (x : Int64) : astJ ev (mem ev w) (ev.1 + 967) ((6 : Int32) * nI K + (5 : Int32)) x = some (mem ev (setS w K (upV (sl w K) 5 x))) := by
  rw [show ((6 : Int32) * nI K + (5 : Int32)) = nI (6 * K + 5) from ix6 K 5, stJ (r := 967) (κ := 1) (n := 156) rfl (by decide) (vp_in_nI (by omega) (by decide)), nI_clamp (by omega), wS6 (by decide)]
theorem ld9_0 (h : K < 26) : aldJ (mem ev w) (ev.1 + 968) ((9 : Int32) * nI K + (0 : Int32)) = some (sl w K 6) := by
  rw [show ((9 : Int32) * nI K + (0 : Int32)) = nI (9 * K + 0) from ix9 K 0, ldJ (r := 968) (κ := 1) (n := 234) rfl (by decide) (vp_in_nI (by omega) (by decide)), nI_clamp (by omega)]
  rfl
theorem st9_0 (h : K < 26) (x : Int64) : astJ ev (mem ev w) (ev.1 + 968) ((9 : Int32) * nI K + (0 : Int32)) x = some (mem ev (setS w K (upV (sl w K) 6 x))) := by
  rw [show ((9 : Int32) * nI K + (0 : Int32)) = nI (9 * K + 0) from ix9 K 0, stJ (r := 968) (κ := 1) (n := 234) rfl (by decide) (vp_in_nI (by omega) (by decide)), nI_clamp (by omega), wS9 (by decide)]
theorem ld9_1 (h : K < 26) : aldJ (mem ev w) (ev.1 + 968) ((9 : Int32) * nI K + (1 : Int32)) = some (sl w K 7) := by
  rw [show ((9 : Int32) * nI K + (1 : Int32)) = nI (9 * K + 1) from ix9 K 1, ldJ (r := 968) (κ := 1) (n := 234) rfl (by decide) (vp_in_nI (by omega) (by decide)), nI_clamp (by omega)]
  rfl
theorem st9_1 (h : K < 26) (x : Int64) : astJ ev (mem ev w) (ev.1 + 968) ((9 : Int32) * nI K + (1 : Int32)) x = some (mem ev (setS w K (upV (sl w K) 7 x))) := by
  rw [show ((9 : Int32) * nI K + (1 : Int32)) = nI (9 * K + 1) from ix9 K 1, stJ (r := 968) (κ := 1) (n := 234) rfl (by decide) (vp_in_nI (by omega) (by decide)), nI_clamp (by omega), wS9 (by decide)]
theorem ld9_2 (h : K < 26) : aldJ (mem ev w) (ev.1 + 968) ((9 : Int32) * nI K + (2 : Int32)) = some (sl w K 8) := by
  rw [show ((9 : Int32) * nI K + (2 : Int32)) = nI (9 * K + 2) from ix9 K 2, ldJ (r := 968) (κ := 1) (n := 234) rfl (by decide) (vp_in_nI (by omega) (by decide)), nI_clamp (by omega)]
  rfl
theorem st9_2 (h : K < 26) (x : Int64) : astJ ev (mem ev w) (ev.1 + 968) ((9 : Int32) * nI K + (2 : Int32)) x = some (mem ev (setS w K (upV (sl w K) 8 x))) := by
  rw [show ((9 : Int32) * nI K + (2 : Int32)) = nI (9 * K + 2) from ix9 K 2, stJ (r := 968) (κ := 1) (n := 234) rfl (by decide) (vp_in_nI (by omega) (by decide)), nI_clamp (by omega), wS9 (by decide)]
theorem ld9_3 (h : K < 26) : aldJ (mem ev w) (ev.1 + 968) ((9 : Int32) * nI K + (3 : Int32)) = some (sl w K 9) := by
  rw [show ((9 : Int32) * nI K + (3 : Int32)) = nI (9 * K + 3) from ix9 K 3, ldJ (r := 968) (κ := 1) (n := 234) rfl (by decide) (vp_in_nI (by omega) (by decide)), nI_clamp (by omega)]
  rfl
theorem st9_3 (h : K < 26) (x : Int64) : astJ ev (mem ev w) (ev.1 + 968) ((9 : Int32) * nI K + (3 : Int32)) x = some (mem ev (setS w K (upV (sl w K) 9 x))) := by
  rw [show ((9 : Int32) * nI K + (3 : Int32)) = nI (9 * K + 3) from ix9 K 3, stJ (r := 968) (κ := 1) (n := 234) rfl (by decide) (vp_in_nI (by omega) (by decide)), nI_clamp (by omega), wS9 (by decide)]
theorem ld9_4 (h : K < 26) : aldJ (mem ev w) (ev.1 + 968) ((9 : Int32) * nI K + (4 : Int32)) = some (sl w K 10) := by
  rw [show ((9 : Int32) * nI K + (4 : Int32)) = nI (9 * K + 4) from ix9 K 4, ldJ (r := 968) (κ := 1) (n := 234) rfl (by decide) (vp_in_nI (by omega) (by decide)), nI_clamp (by omega)]
  rfl
theorem st9_4 (h : K < 26) (x : Int64) : astJ ev (mem ev w) (ev.1 + 968) ((9 : Int32) * nI K + (4 : Int32)) x = some (mem ev (setS w K (upV (sl w K) 10 x))) := by
  rw [show ((9 : Int32) * nI K + (4 : Int32)) = nI (9 * K + 4) from ix9 K 4, stJ (r := 968) (κ := 1) (n := 234) rfl (by decide) (vp_in_nI (by omega) (by decide)), nI_clamp (by omega), wS9 (by decide)]
theorem ld9_5 (h : K < 26) : aldJ (mem ev w) (ev.1 + 968) ((9 : Int32) * nI K + (5 : Int32)) = some (sl w K 11) := by
  rw [show ((9 : Int32) * nI K + (5 : Int32)) = nI (9 * K + 5) from ix9 K 5, ldJ (r := 968) (κ := 1) (n := 234) rfl (by decide) (vp_in_nI (by omega) (by decide)), nI_clamp (by omega)]
  rfl
theorem st9_5 (h : K < 26) (x : Int64) : astJ ev (mem ev w) (ev.1 + 968) ((9 : Int32) * nI K + (5 : Int32)) x = some (mem ev (setS w K (upV (sl w K) 11 x))) := by
  rw [show ((9 : Int32) * nI K + (5 : Int32)) = nI (9 * K + 5) from ix9 K 5, stJ (r := 968) (κ := 1) (n := 234) rfl (by decide) (vp_in_nI (by omega) (by decide)), nI_clamp (by omega), wS9 (by decide)]
theorem ld9_6 (h : K < 26) : aldJ (mem ev w) (ev.1 + 968) ((9 : Int32) * nI K + (6 : Int32)) = some (sl w K 12) := by
  rw [show ((9 : Int32) * nI K + (6 : Int32)) = nI (9 * K + 6) from ix9 K 6, ldJ (r := 968) (κ := 1) (n := 234) rfl (by decide) (vp_in_nI (by omega) (by decide)), nI_clamp (by omega)]
  rfl
theorem st9_6 (h : K < 26) (x : Int64) : astJ ev (mem ev w) (ev.1 + 968) ((9 : Int32) * nI K + (6 : Int32)) x = some (mem ev (setS w K (upV (sl w K) 12 x))) := by
  rw [show ((9 : Int32) * nI K + (6 : Int32)) = nI (9 * K + 6) from ix9 K 6, stJ (r := 968) (κ := 1) (n := 234) rfl (by decide) (vp_in_nI (by omega) (by decide)), nI_clamp (by omega), wS9 (by decide)]
theorem ld9_7 (h : K < 26) : aldJ (mem ev w) (ev.1 + 968) ((9 : Int32) * nI K + (7 : Int32)) = some (sl w K 13) := by
  rw [show ((9 : Int32) * nI K + (7 : Int32)) = nI (9 * K + 7) from ix9 K 7, ldJ (r := 968) (κ := 1) (n := 234) rfl (by decide) (vp_in_nI (by omega) (by decide)), nI_clamp (by omega)]
  rfl
theorem st9_7 (h : K < 26) (x : Int64) : astJ ev (mem ev w) (ev.1 + 968) ((9 : Int32) * nI K + (7 : Int32)) x = some (mem ev (setS w K (upV (sl w K) 13 x))) := by
  rw [show ((9 : Int32) * nI K + (7 : Int32)) = nI (9 * K + 7) from ix9 K 7, stJ (r := 968) (κ := 1) (n := 234) rfl (by decide) (vp_in_nI (by omega) (by decide)), nI_clamp (by omega), wS9 (by decide)]
theorem ld9_8 (h : K < 26) : aldJ (mem ev w) (ev.1 + 968) ((9 : Int32) * nI K + (8 : Int32)) = some (sl w K 14) := by
  rw [show ((9 : Int32) * nI K + (8 : Int32)) = nI (9 * K + 8) from ix9 K 8, ldJ (r := 968) (κ := 1) (n := 234) rfl (by decide) (vp_in_nI (by omega) (by decide)), nI_clamp (by omega)]
  rfl
theorem st9_8 (h : K < 26) (x : Int64) : astJ ev (mem ev w) (ev.1 + 968) ((9 : Int32) * nI K + (8 : Int32)) x = some (mem ev (setS w K (upV (sl w K) 14 x))) := by
  rw [show ((9 : Int32) * nI K + (8 : Int32)) = nI (9 * K + 8) from ix9 K 8, stJ (r := 968) (κ := 1) (n := 234) rfl (by decide) (vp_in_nI (by omega) (by decide)), nI_clamp (by omega), wS9 (by decide)]
theorem ld6_b (h : K < 26) : aldJ (mem ev w) (ev.1 + 967) ((6 : Int32) * nI K) = some (sl w K 0) := by
  have e : (6 : Int32) * nI K = (6 : Int32) * nI K + (0 : Int32) := (Int32.add_zero _).symm
  rw [e, ld6_0 h]
theorem st6_b (h : K < 26) (x : Int64) : astJ ev (mem ev w) (ev.1 + 967) ((6 : Int32) * nI K) x = some (mem ev (setS w K (upV (sl w K) 0 x))) := by
  have e : (6 : Int32) * nI K = (6 : Int32) * nI K + (0 : Int32) := (Int32.add_zero _).symm
  rw [e, st6_0 h]
theorem mf0 : gfA (mem ev w) (ev.1 + 966) 2 0 = some (some (ev.1 + 967)) := by
  rw [gA (r := 966) (n := 32) rfl (by decide) (by decide) rfl]
  rfl
theorem mf1 : gfA (mem ev w) (ev.1 + 966) 2 1 = some (some (ev.1 + 968)) := by
  rw [gA (r := 966) (n := 32) rfl (by decide) (by decide) rfl]
  rfl
theorem mf12 : gfA (mem ev w) (ev.1 + 966) 2 12 = some (some (ev.1 + 969)) := by
  rw [gA (r := 966) (n := 32) rfl (by decide) (by decide) rfl]
  rfl
theorem mf13 : gfA (mem ev w) (ev.1 + 966) 2 13 = some (some (ev.1 + 970)) := by
  rw [gA (r := 966) (n := 32) rfl (by decide) (by decide) rfl]
  rfl
theorem mf14 : gfA (mem ev w) (ev.1 + 966) 2 14 = some (some (ev.1 + 971)) := by
  rw [gA (r := 966) (n := 32) rfl (by decide) (by decide) rfl]
  rfl
theorem mf15 : gfA (mem ev w) (ev.1 + 966) 2 15 = some (some (ev.1 + 972)) := by
  rw [gA (r := 966) (n := 32) rfl (by decide) (by decide) rfl]
  rfl
theorem mf16 : gfA (mem ev w) (ev.1 + 966) 2 16 = some (some (ev.1 + 973)) := by
  rw [gA (r := 966) (n := 32) rfl (by decide) (by decide) rfl]
  rfl
theorem mf17 : gfA (mem ev w) (ev.1 + 966) 2 17 = some (some (ev.1 + 974)) := by
  rw [gA (r := 966) (n := 32) rfl (by decide) (by decide) rfl]
  rfl
theorem mf18 : gfA (mem ev w) (ev.1 + 966) 2 18 = some (some (ev.1 + 975)) := by
  rw [gA (r := 966) (n := 32) rfl (by decide) (by decide) rfl]
  rfl
theorem mf19 : gfA (mem ev w) (ev.1 + 966) 2 19 = some (some (ev.1 + 976)) := by
  rw [gA (r := 966) (n := 32) rfl (by decide) (by decide) rfl]
  rfl
theorem mf20 : gfA (mem ev w) (ev.1 + 966) 2 20 = some (some (ev.1 + 977)) := by
  rw [gA (r := 966) (n := 32) rfl (by decide) (by decide) rfl]
  rfl
theorem mf21 : gfA (mem ev w) (ev.1 + 966) 2 21 = some (some (ev.1 + 978)) := by
  rw [gA (r := 966) (n := 32) rfl (by decide) (by decide) rfl]
  rfl
theorem mf22 : gfA (mem ev w) (ev.1 + 966) 2 22 = some (some (ev.1 + 979)) := by
  rw [gA (r := 966) (n := 32) rfl (by decide) (by decide) rfl]
  rfl
theorem mf23 : gfA (mem ev w) (ev.1 + 966) 2 23 = some (some (ev.1 + 980)) := by
  rw [gA (r := 966) (n := 32) rfl (by decide) (by decide) rfl]
  rfl
theorem mf24 : gfA (mem ev w) (ev.1 + 966) 2 24 = some (some (ev.1 + 981)) := by
  rw [gA (r := 966) (n := 32) rfl (by decide) (by decide) rfl]
  rfl
theorem mf29 : gfA (mem ev w) (ev.1 + 966) 2 29 = some (some (ev.1 + 982)) := by
  rw [gA (r := 966) (n := 32) rfl (by decide) (by decide) rfl]
  rfl
theorem mf30 : gfA (mem ev w) (ev.1 + 966) 2 30 = some (some (ev.1 + 983)) := by
  rw [gA (r := 966) (n := 32) rfl (by decide) (by decide) rfl]
  rfl
theorem mis : isC (mem ev w) (ev.1 + 966) 2 = some () := isCm (r := 966) (n := 32) rfl (by decide)
theorem sl0 : sl (setS w K v) K 0 = v 0 := sl_self (by decide)
theorem sl1 : sl (setS w K v) K 1 = v 1 := sl_self (by decide)
theorem sl2 : sl (setS w K v) K 2 = v 2 := sl_self (by decide)
theorem sl3 : sl (setS w K v) K 3 = v 3 := sl_self (by decide)
theorem sl4 : sl (setS w K v) K 4 = v 4 := sl_self (by decide)
theorem sl5 : sl (setS w K v) K 5 = v 5 := sl_self (by decide)
theorem sl6 : sl (setS w K v) K 6 = v 6 := sl_self (by decide)
theorem sl7 : sl (setS w K v) K 7 = v 7 := sl_self (by decide)
theorem sl8 : sl (setS w K v) K 8 = v 8 := sl_self (by decide)
theorem sl9 : sl (setS w K v) K 9 = v 9 := sl_self (by decide)
theorem sl10 : sl (setS w K v) K 10 = v 10 := sl_self (by decide)
theorem sl11 : sl (setS w K v) K 11 = v 11 := sl_self (by decide)
theorem sl12 : sl (setS w K v) K 12 = v 12 := sl_self (by decide)
theorem sl13 : sl (setS w K v) K 13 = v 13 := sl_self (by decide)
theorem sl14 : sl (setS w K v) K 14 = v 14 := sl_self (by decide)
end XS
