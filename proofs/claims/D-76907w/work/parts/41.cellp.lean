/-! A CELL of the pool: its fifteen numbers (three squares, three numbers, nine of the change), its reads and writes -/
def upV (v : Nat → Int64) (i : Nat) (x : Int64) : Nat → Int64 := fun j => if j = i then x else v j
def cv (w : Wd) (c : Nat) : Nat → Int64 := fun j => if j < 3 then w.1 (cr c + 1) j else if j < 6 then w.1 (cr c + 2) (j - 3) else if j < 9 then w.1 (cr c + 4) (j - 6) else if j < 12 then w.1 (cr c + 5) (j - 9) else if j < 15 then w.1 (cr c + 6) (j - 12) else 0
def setC (w : Wd) (c : Nat) (v : Nat → Int64) : Wd := (fun q i => if q = cr c + 1 ∧ i < 3 then v i else if q = cr c + 2 ∧ i < 3 then v (3 + i) else if q = cr c + 4 ∧ i < 3 then v (6 + i) else if q = cr c + 5 ∧ i < 3 then v (9 + i) else if q = cr c + 6 ∧ i < 3 then v (12 + i) else w.1 q i, w.2)
theorem cr_lt {c : Nat} (h : c < 118) : cr c + 7 < 966 ∧ 2 ≤ cr c := by unfold cr; split <;> omega
theorem cr_apart {c c' q q' : Nat} (hq : q < 8) (hq' : q' < 8) (h : cr c + q = cr c' + q') : c = c' ∧ q = q' := by
  unfold cr at h
  split at h <;> split at h <;> omega
theorem dsC {c q : Nat} (h : c < 118) (hq : q < 8) : ds (cr c + q) = dCell q := by
  unfold ds cr
  by_cases h3 : c < 3
  · rw [if_pos h3, if_neg (by omega), if_neg (by omega), if_pos (by omega)]
    rw [show (2 + 8 * c + q - 2) % 8 = q by omega]
  · rw [if_neg h3, if_neg (by omega), if_neg (by omega), if_neg (by omega), if_neg (by omega), if_pos (by omega)]
    rw [show (22 + 8 * c + q - 46) % 8 = q by omega]
theorem cr_ne {c : Nat} (h : c < 118) : cr c ≠ 0 ∧ cr c ≠ 1 ∧ (cr c < 26 ∨ 46 ≤ cr c) ∧ cr c ≠ 966 ∧ (cr c < 26 → (cr c - 2) % 8 = 0) ∧ (cr c < 26 → cr c < 19) ∧ (46 ≤ cr c → (cr c - 46) % 8 = 0) := by
  unfold cr
  split <;> omega
theorem muC {c q k : Nat} (h : c < 118) (hq : q < 8) : mu (cr c + q) k = false := by
  have h1 := cr_ne h
  unfold mu
  split <;> first | rfl | (exfalso; omega)
theorem muC0 {c k : Nat} (h : c < 118) : mu (cr c) k = false := muC (q := 0) h (by decide)
theorem vpl {i : Int32} {n : Nat} (h : (decide (i < 0) || decide (n ≤ i.toNatClampNeg)) = false) : vp_in i n := by
  simp only [Bool.or_eq_false_iff, decide_eq_false_iff_not] at h
  exact fun z => z.elim h.1 h.2
theorem cAC {c k : Nat} (h : c < 118) : cA (cr c) k = ([cr c + 1, cr c + 2, cr c + 3, cr c + 7] : List Nat).getD k 0 := by
  have h1 := cr_ne h
  unfold cA
  rw [if_neg (by omega), if_neg (by omega), if_neg (by omega), if_neg (by omega), if_neg (by omega), if_neg (by omega), if_neg (by omega), if_neg (by omega), if_neg (by omega), if_neg (by split <;> omega)]
theorem cAC3 {c k : Nat} (h : c < 118) : cA (cr c + 3) k = cr c + 4 + k := by
  have h1 := cr_ne h
  unfold cA
  rw [if_neg (by omega), if_neg (by omega), if_neg (by omega), if_neg (by omega), if_neg (by omega), if_neg (by omega), if_neg (by omega), if_neg (by omega), if_neg (by omega), if_pos (by split <;> omega)]
section XC
variable {ev : Ev} {w : Wd} {c : Nat} {v : Nat → Int64}
theorem cf0 (h : c < 118) : gfA (mem ev w) (ev.1 + cr c) 1 0 = some (some (ev.1 + (cr c + 1))) := by
  have h1 := cr_lt h
  rw [gA (r := cr c) (n := 4) (dsC (q := 0) h (by decide)) (by omega) (by decide) rfl, rf, muC0 h, cAC h]
  rfl
theorem cf1 (h : c < 118) : gfA (mem ev w) (ev.1 + cr c) 1 1 = some (some (ev.1 + (cr c + 2))) := by
  have h1 := cr_lt h
  rw [gA (r := cr c) (n := 4) (dsC (q := 0) h (by decide)) (by omega) (by decide) rfl, rf, muC0 h, cAC h]
  rfl
theorem cf2 (h : c < 118) : gfA (mem ev w) (ev.1 + cr c) 1 2 = some (some (ev.1 + (cr c + 3))) := by
  have h1 := cr_lt h
  rw [gA (r := cr c) (n := 4) (dsC (q := 0) h (by decide)) (by omega) (by decide) rfl, rf, muC0 h, cAC h]
  rfl
theorem cf3 (h : c < 118) : gfA (mem ev w) (ev.1 + cr c) 1 3 = some (some (ev.1 + (cr c + 7))) := by
  have h1 := cr_lt h
  rw [gA (r := cr c) (n := 4) (dsC (q := 0) h (by decide)) (by omega) (by decide) rfl, rf, muC0 h, cAC h]
  rfl
theorem cis (h : c < 118) : isC (mem ev w) (ev.1 + cr c) 1 = some () := by
  have h1 := cr_lt h
  exact isCm (r := cr c) (n := 4) (dsC (q := 0) h (by decide)) (by omega)
theorem cr0 (h : c < 118) : aldA 6 (mem ev w) (ev.1 + (cr c + 3)) (0 : Int32) = some (some (ev.1 + (cr c + 4))) := by
  have h1 := cr_lt h
  rw [ldA (r := cr c + 3) (n := 3) (κ := 6) (dsC (q := 3) h (by decide)) (by omega) (vpl rfl), rf, muC (q := 3) h (by decide), cAC3 h]
  rfl
theorem cr1 (h : c < 118) : aldA 6 (mem ev w) (ev.1 + (cr c + 3)) (1 : Int32) = some (some (ev.1 + (cr c + 5))) := by
  have h1 := cr_lt h
  rw [ldA (r := cr c + 3) (n := 3) (κ := 6) (dsC (q := 3) h (by decide)) (by omega) (vpl rfl), rf, muC (q := 3) h (by decide), cAC3 h]
  rfl
theorem cr2 (h : c < 118) : aldA 6 (mem ev w) (ev.1 + (cr c + 3)) (2 : Int32) = some (some (ev.1 + (cr c + 6))) := by
  have h1 := cr_lt h
  rw [ldA (r := cr c + 3) (n := 3) (κ := 6) (dsC (q := 3) h (by decide)) (by omega) (vpl rfl), rf, muC (q := 3) h (by decide), cAC3 h]
  rfl
theorem sC_1 {i : Nat} (hi : i < 3) : (setC w c v).1 (cr c + 1) i = v i := by
  show (if cr c + 1 = cr c + 1 ∧ i < 3 then v i else _) = _
  rw [if_pos ⟨rfl, hi⟩]
theorem sC_2 {i : Nat} (hi : i < 3) : (setC w c v).1 (cr c + 2) i = v (3 + i) := by
  show (if cr c + 2 = cr c + 1 ∧ i < 3 then _ else if cr c + 2 = cr c + 2 ∧ i < 3 then v (3 + i) else _) = _
  rw [if_neg (by omega), if_pos ⟨rfl, hi⟩]
theorem sC_4 {i : Nat} (hi : i < 3) : (setC w c v).1 (cr c + 4) i = v (6 + i) := by
  show (if cr c + 4 = cr c + 1 ∧ i < 3 then _ else if cr c + 4 = cr c + 2 ∧ i < 3 then _ else if cr c + 4 = cr c + 4 ∧ i < 3 then v (6 + i) else _) = _
  rw [if_neg (by omega), if_neg (by omega), if_pos ⟨rfl, hi⟩]
theorem sC_5 {i : Nat} (hi : i < 3) : (setC w c v).1 (cr c + 5) i = v (9 + i) := by
  show (if cr c + 5 = cr c + 1 ∧ i < 3 then _ else if cr c + 5 = cr c + 2 ∧ i < 3 then _ else if cr c + 5 = cr c + 4 ∧ i < 3 then _ else if cr c + 5 = cr c + 5 ∧ i < 3 then v (9 + i) else _) = _
  rw [if_neg (by omega), if_neg (by omega), if_neg (by omega), if_pos ⟨rfl, hi⟩]
theorem sC_6 {i : Nat} (hi : i < 3) : (setC w c v).1 (cr c + 6) i = v (12 + i) := by
  show (if cr c + 6 = cr c + 1 ∧ i < 3 then _ else if cr c + 6 = cr c + 2 ∧ i < 3 then _ else if cr c + 6 = cr c + 4 ∧ i < 3 then _ else if cr c + 6 = cr c + 5 ∧ i < 3 then _ else if cr c + 6 = cr c + 6 ∧ i < 3 then v (12 + i) else _) = _
  rw [if_neg (by omega), if_neg (by omega), if_neg (by omega), if_neg (by omega), if_pos ⟨rfl, hi⟩]
theorem wC_1 {i : Nat} {x : Int64} (hi : i < 3) : wJ (setC w c v) (cr c + 1) i x = setC w c (upV v (0 + i) x) := by
  refine Prod.ext (funext fun q => funext fun j => ?_) rfl
  simp only [wJ, setC, upV]
  repeat' split
  all_goals first | rfl | (exfalso; omega)
theorem wC_2 {i : Nat} {x : Int64} (hi : i < 3) : wJ (setC w c v) (cr c + 2) i x = setC w c (upV v (3 + i) x) := by
  refine Prod.ext (funext fun q => funext fun j => ?_) rfl
  simp only [wJ, setC, upV]
  repeat' split
  all_goals first | rfl | (exfalso; omega)
theorem wC_4 {i : Nat} {x : Int64} (hi : i < 3) : wJ (setC w c v) (cr c + 4) i x = setC w c (upV v (6 + i) x) := by
  refine Prod.ext (funext fun q => funext fun j => ?_) rfl
  simp only [wJ, setC, upV]
  repeat' split
  all_goals first | rfl | (exfalso; omega)
theorem wC_5 {i : Nat} {x : Int64} (hi : i < 3) : wJ (setC w c v) (cr c + 5) i x = setC w c (upV v (9 + i) x) := by
  refine Prod.ext (funext fun q => funext fun j => ?_) rfl
  simp only [wJ, setC, upV]
  repeat' split
  all_goals first | rfl | (exfalso; omega)
theorem wC_6 {i : Nat} {x : Int64} (hi : i < 3) : wJ (setC w c v) (cr c + 6) i x = setC w c (upV v (12 + i) x) := by
  refine Prod.ext (funext fun q => funext fun j => ?_) rfl
  simp only [wJ, setC, upV]
  repeat' split
  all_goals first | rfl | (exfalso; omega)
theorem setC_cv : setC w c (cv w c) = w := by
  refine Prod.ext (funext fun q => funext fun j => ?_) rfl
  show (if q = cr c + 1 ∧ j < 3 then cv w c j else if q = cr c + 2 ∧ j < 3 then cv w c (3 + j) else if q = cr c + 4 ∧ j < 3 then cv w c (6 + j) else if q = cr c + 5 ∧ j < 3 then cv w c (9 + j) else if q = cr c + 6 ∧ j < 3 then cv w c (12 + j) else w.1 q j) = w.1 q j
  split
  · rename_i h; obtain ⟨rfl, hj⟩ := h
    unfold cv
    rw [if_pos hj]
  split
  · rename_i h; obtain ⟨rfl, hj⟩ := h
    unfold cv
    rw [if_neg (by omega), if_pos (by omega), Nat.add_sub_cancel_left]
  split
  · rename_i h; obtain ⟨rfl, hj⟩ := h
    unfold cv
    rw [if_neg (by omega), if_neg (by omega), if_pos (by omega), Nat.add_sub_cancel_left]
  split
  · rename_i h; obtain ⟨rfl, hj⟩ := h
    unfold cv
    rw [if_neg (by omega), if_neg (by omega), if_neg (by omega), if_pos (by omega), Nat.add_sub_cancel_left]
  split
  · rename_i h; obtain ⟨rfl, hj⟩ := h
    unfold cv
    rw [if_neg (by omega), if_neg (by omega), if_neg (by omega), if_neg (by omega), if_pos (by omega), Nat.add_sub_cancel_left]
  · rfl
theorem cl10 (h : c < 118) : aldJ (mem ev w) (ev.1 + (cr c + 1)) (0 : Int32) = some (cv w c 0) := by
  have h1 := cr_lt h
  rw [ldJ (r := cr c + 1) (κ := 1) (n := 3) (dsC (q := 1) h (by decide)) (by omega) (vpl rfl)]
  rfl
theorem cs10 (h : c < 118) (x : Int64) : astJ ev (mem ev w) (ev.1 + (cr c + 1)) (0 : Int32) x = some (mem ev (setC w c (upV (cv w c) 0 x))) := by
  have h1 := cr_lt h
  rw [stJ (r := cr c + 1) (κ := 1) (n := 3) (dsC (q := 1) h (by decide)) (by omega) (vpl rfl), show (0 : Int32).toNatClampNeg = 0 from rfl]
  conv => lhs; rw [← setC_cv (w := w) (c := c)]
  rw [wC_1 (by decide)]
theorem cl11 (h : c < 118) : aldJ (mem ev w) (ev.1 + (cr c + 1)) (1 : Int32) = some (cv w c 1) := by
  have h1 := cr_lt h
  rw [ldJ (r := cr c + 1) (κ := 1) (n := 3) (dsC (q := 1) h (by decide)) (by omega) (vpl rfl)]
  rfl
theorem cs11 (h : c < 118) (x : Int64) : astJ ev (mem ev w) (ev.1 + (cr c + 1)) (1 : Int32) x = some (mem ev (setC w c (upV (cv w c) 1 x))) := by
  have h1 := cr_lt h
  rw [stJ (r := cr c + 1) (κ := 1) (n := 3) (dsC (q := 1) h (by decide)) (by omega) (vpl rfl), show (1 : Int32).toNatClampNeg = 1 from rfl]
  conv => lhs; rw [← setC_cv (w := w) (c := c)]
  rw [wC_1 (by decide)]
theorem cl12 (h : c < 118) : aldJ (mem ev w) (ev.1 + (cr c + 1)) (2 : Int32) = some (cv w c 2) := by
  have h1 := cr_lt h
  rw [ldJ (r := cr c + 1) (κ := 1) (n := 3) (dsC (q := 1) h (by decide)) (by omega) (vpl rfl)]
  rfl
theorem cs12 (h : c < 118) (x : Int64) : astJ ev (mem ev w) (ev.1 + (cr c + 1)) (2 : Int32) x = some (mem ev (setC w c (upV (cv w c) 2 x))) := by
  have h1 := cr_lt h
  rw [stJ (r := cr c + 1) (κ := 1) (n := 3) (dsC (q := 1) h (by decide)) (by omega) (vpl rfl), show (2 : Int32).toNatClampNeg = 2 from rfl]
  conv => lhs; rw [← setC_cv (w := w) (c := c)]
  rw [wC_1 (by decide)]
theorem cl20 (h : c < 118) : aldJ (mem ev w) (ev.1 + (cr c + 2)) (0 : Int32) = some (cv w c 3) := by
  have h1 := cr_lt h
  rw [ldJ (r := cr c + 2) (κ := 1) (n := 3) (dsC (q := 2) h (by decide)) (by omega) (vpl rfl)]
  rfl
theorem cs20 (h : c < 118) (x : Int64) : astJ ev (mem ev w) (ev.1 + (cr c + 2)) (0 : Int32) x = some (mem ev (setC w c (upV (cv w c) 3 x))) := by
  have h1 := cr_lt h
  rw [stJ (r := cr c + 2) (κ := 1) (n := 3) (dsC (q := 2) h (by decide)) (by omega) (vpl rfl), show (0 : Int32).toNatClampNeg = 0 from rfl]
  conv => lhs; rw [← setC_cv (w := w) (c := c)]
  rw [wC_2 (by decide)]
theorem cl21 (h : c < 118) : aldJ (mem ev w) (ev.1 + (cr c + 2)) (1 : Int32) = some (cv w c 4) := by
  have h1 := cr_lt h
  rw [ldJ (r := cr c + 2) (κ := 1) (n := 3) (dsC (q := 2) h (by decide)) (by omega) (vpl rfl)]
  rfl
theorem cs21 (h : c < 118) (x : Int64) : astJ ev (mem ev w) (ev.1 + (cr c + 2)) (1 : Int32) x = some (mem ev (setC w c (upV (cv w c) 4 x))) := by
  have h1 := cr_lt h
  rw [stJ (r := cr c + 2) (κ := 1) (n := 3) (dsC (q := 2) h (by decide)) (by omega) (vpl rfl), show (1 : Int32).toNatClampNeg = 1 from rfl]
  conv => lhs; rw [← setC_cv (w := w) (c := c)]
  rw [wC_2 (by decide)]
theorem cl22 (h : c < 118) : aldJ (mem ev w) (ev.1 + (cr c + 2)) (2 : Int32) = some (cv w c 5) := by
  have h1 := cr_lt h
  rw [ldJ (r := cr c + 2) (κ := 1) (n := 3) (dsC (q := 2) h (by decide)) (by omega) (vpl rfl)]
  rfl
theorem cs22 (h : c < 118) (x : Int64) : astJ ev (mem ev w) (ev.1 + (cr c + 2)) (2 : Int32) x = some (mem ev (setC w c (upV (cv w c) 5 x))) := by
  have h1 := cr_lt h
  rw [stJ (r := cr c + 2) (κ := 1) (n := 3) (dsC (q := 2) h (by decide)) (by omega) (vpl rfl), show (2 : Int32).toNatClampNeg = 2 from rfl]
  conv => lhs; rw [← setC_cv (w := w) (c := c)]
  rw [wC_2 (by decide)]
theorem cl40 (h : c < 118) : aldJ (mem ev w) (ev.1 + (cr c + 4)) (0 : Int32) = some (cv w c 6) := by
  have h1 := cr_lt h
  rw [ldJ (r := cr c + 4) (κ := 1) (n := 3) (dsC (q := 4) h (by decide)) (by omega) (vpl rfl)]
  rfl
theorem cs40 (h : c < 118) (x : Int64) : astJ ev (mem ev w) (ev.1 + (cr c + 4)) (0 : Int32) x = some (mem ev (setC w c (upV (cv w c) 6 x))) := by
  have h1 := cr_lt h
  rw [stJ (r := cr c + 4) (κ := 1) (n := 3) (dsC (q := 4) h (by decide)) (by omega) (vpl rfl), show (0 : Int32).toNatClampNeg = 0 from rfl]
  conv => lhs; rw [← setC_cv (w := w) (c := c)]
  rw [wC_4 (by decide)]
theorem cl41 (h : c < 118) : aldJ (mem ev w) (ev.1 + (cr c + 4)) (1 : Int32) = some (cv w c 7) := by
  have h1 := cr_lt h
  rw [ldJ (r := cr c + 4) (κ := 1) (n := 3) (dsC (q := 4) h (by decide)) (by omega) (vpl rfl)]
  rfl
theorem cs41 (h : c < 118) (x : Int64) : astJ ev (mem ev w) (ev.1 + (cr c + 4)) (1 : Int32) x = some (mem ev (setC w c (upV (cv w c) 7 x))) := by
  have h1 := cr_lt h
  rw [stJ (r := cr c + 4) (κ := 1) (n := 3) (dsC (q := 4) h (by decide)) (by omega) (vpl rfl), show (1 : Int32).toNatClampNeg = 1 from rfl]
  conv => lhs; rw [← setC_cv (w := w) (c := c)]
  rw [wC_4 (by decide)]
theorem cl42 (h : c < 118) : aldJ (mem ev w) (ev.1 + (cr c + 4)) (2 : Int32) = some (cv w c 8) := by
  have h1 := cr_lt h
  rw [ldJ (r := cr c + 4) (κ := 1) (n := 3) (dsC (q := 4) h (by decide)) (by omega) (vpl rfl)]
  rfl
theorem cs42 (h : c < 118) (x : Int64) : astJ ev (mem ev w) (ev.1 + (cr c + 4)) (2 : Int32) x = some (mem ev (setC w c (upV (cv w c) 8 x))) := by
  have h1 := cr_lt h
  rw [stJ (r := cr c + 4) (κ := 1) (n := 3) (dsC (q := 4) h (by decide)) (by omega) (vpl rfl), show (2 : Int32).toNatClampNeg = 2 from rfl]
  conv => lhs; rw [← setC_cv (w := w) (c := c)]
  rw [wC_4 (by decide)]
theorem cl50 (h : c < 118) : aldJ (mem ev w) (ev.1 + (cr c + 5)) (0 : Int32) = some (cv w c 9) := by
  have h1 := cr_lt h
  rw [ldJ (r := cr c + 5) (κ := 1) (n := 3) (dsC (q := 5) h (by decide)) (by omega) (vpl rfl)]
  rfl
theorem cs50 (h : c < 118) (x : Int64) : astJ ev (mem ev w) (ev.1 + (cr c + 5)) (0 : Int32) x = some (mem ev (setC w c (upV (cv w c) 9 x))) := by
  have h1 := cr_lt h
  rw [stJ (r := cr c + 5) (κ := 1) (n := 3) (dsC (q := 5) h (by decide)) (by omega) (vpl rfl), show (0 : Int32).toNatClampNeg = 0 from rfl]
  conv => lhs; rw [← setC_cv (w := w) (c := c)]
  rw [wC_5 (by decide)]
theorem cl51 (h : c < 118) : aldJ (mem ev w) (ev.1 + (cr c + 5)) (1 : Int32) = some (cv w c 10) := by
  have h1 := cr_lt h
  rw [ldJ (r := cr c + 5) (κ := 1) (n := 3) (dsC (q := 5) h (by decide)) (by omega) (vpl rfl)]
  rfl
theorem cs51 (h : c < 118) (x : Int64) : astJ ev (mem ev w) (ev.1 + (cr c + 5)) (1 : Int32) x = some (mem ev (setC w c (upV (cv w c) 10 x))) := by
  have h1 := cr_lt h
  rw [stJ (r := cr c + 5) (κ := 1) (n := 3) (dsC (q := 5) h (by decide)) (by omega) (vpl rfl), show (1 : Int32).toNatClampNeg = 1 from rfl]
  conv => lhs; rw [← setC_cv (w := w) (c := c)]
  rw [wC_5 (by decide)]
theorem cl52 (h : c < 118) : aldJ (mem ev w) (ev.1 + (cr c + 5)) (2 : Int32) = some (cv w c 11) := by
  have h1 := cr_lt h
  rw [ldJ (r := cr c + 5) (κ := 1) (n := 3) (dsC (q := 5) h (by decide)) (by omega) (vpl rfl)]
  rfl
theorem cs52 (h : c < 118) (x : Int64) : astJ ev (mem ev w) (ev.1 + (cr c + 5)) (2 : Int32) x = some (mem ev (setC w c (upV (cv w c) 11 x))) := by
  have h1 := cr_lt h
  rw [stJ (r := cr c + 5) (κ := 1) (n := 3) (dsC (q := 5) h (by decide)) (by omega) (vpl rfl), show (2 : Int32).toNatClampNeg = 2 from rfl]
  conv => lhs; rw [← setC_cv (w := w) (c := c)]
  rw [wC_5 (by decide)]
theorem cl60 (h : c < 118) : aldJ (mem ev w) (ev.1 + (cr c + 6)) (0 : Int32) = some (cv w c 12) := by
  have h1 := cr_lt h
  rw [ldJ (r := cr c + 6) (κ := 1) (n := 3) (dsC (q := 6) h (by decide)) (by omega) (vpl rfl)]
  rfl
theorem cs60 (h : c < 118) (x : Int64) : astJ ev (mem ev w) (ev.1 + (cr c + 6)) (0 : Int32) x = some (mem ev (setC w c (upV (cv w c) 12 x))) := by
  have h1 := cr_lt h
  rw [stJ (r := cr c + 6) (κ := 1) (n := 3) (dsC (q := 6) h (by decide)) (by omega) (vpl rfl), show (0 : Int32).toNatClampNeg = 0 from rfl]
  conv => lhs; rw [← setC_cv (w := w) (c := c)]
  rw [wC_6 (by decide)]
theorem cl61 (h : c < 118) : aldJ (mem ev w) (ev.1 + (cr c + 6)) (1 : Int32) = some (cv w c 13) := by
  have h1 := cr_lt h
  rw [ldJ (r := cr c + 6) (κ := 1) (n := 3) (dsC (q := 6) h (by decide)) (by omega) (vpl rfl)]
  rfl
theorem cs61 (h : c < 118) (x : Int64) : astJ ev (mem ev w) (ev.1 + (cr c + 6)) (1 : Int32) x = some (mem ev (setC w c (upV (cv w c) 13 x))) := by
  have h1 := cr_lt h
  rw [stJ (r := cr c + 6) (κ := 1) (n := 3) (dsC (q := 6) h (by decide)) (by omega) (vpl rfl), show (1 : Int32).toNatClampNeg = 1 from rfl]
  conv => lhs; rw [← setC_cv (w := w) (c := c)]
  rw [wC_6 (by decide)]
theorem cl62 (h : c < 118) : aldJ (mem ev w) (ev.1 + (cr c + 6)) (2 : Int32) = some (cv w c 14) := by
  have h1 := cr_lt h
  rw [ldJ (r := cr c + 6) (κ := 1) (n := 3) (dsC (q := 6) h (by decide)) (by omega) (vpl rfl)]
  rfl
theorem cs62 (h : c < 118) (x : Int64) : astJ ev (mem ev w) (ev.1 + (cr c + 6)) (2 : Int32) x = some (mem ev (setC w c (upV (cv w c) 14 x))) := by
  have h1 := cr_lt h
  rw [stJ (r := cr c + 6) (κ := 1) (n := 3) (dsC (q := 6) h (by decide)) (by omega) (vpl rfl), show (2 : Int32).toNatClampNeg = 2 from rfl]
  conv => lhs; rw [← setC_cv (w := w) (c := c)]
  rw [wC_6 (by decide)]
theorem setC_set {v' : Nat → Int64} : setC (setC w c v) c v' = setC w c v' := by
  refine Prod.ext (funext fun q => funext fun j => ?_) rfl
  simp only [setC]
  repeat' split
  all_goals first | rfl | (exfalso; omega)
theorem cv_self {i : Nat} (hi : i < 15) : cv (setC w c v) c i = v i := by
  simp only [cv]
  repeat' split
  · exact sC_1 (by omega)
  · rw [sC_2 (by omega)]; congr 1; omega
  · rw [sC_4 (by omega)]; congr 1; omega
  · rw [sC_5 (by omega)]; congr 1; omega
  · rw [sC_6 (by omega)]; congr 1; omega
theorem setC_ext {v' : Nat → Int64} (h : ∀ i : Nat, i < 15 → v i = v' i) : setC w c v = setC w c v' := by
  refine Prod.ext (funext fun q => funext fun j => ?_) rfl
  simp only [setC]
  repeat' split
  all_goals first | rfl | (exact h _ (by omega))
theorem setC_up {w0 : Wd} {i : Nat} {x : Int64} : setC w c (upV (cv (setC w0 c v) c) i x) = setC w c (upV v i x) := by
  refine setC_ext fun j hj => ?_
  show (if j = i then x else cv (setC w0 c v) c j) = if j = i then x else v j
  rw [cv_self hj]
theorem cv_ne {c' : Nat} (h : c' ≠ c) : cv (setC w c v) c' = cv w c' := by
  have key : ∀ q i : Nat, q < 8 → (setC w c v).1 (cr c' + q) i = w.1 (cr c' + q) i := by
    intro q i hq
    have n : ∀ p : Nat, p < 8 → cr c' + q ≠ cr c + p := fun p hp e => h (cr_apart hq hp e).1
    have n1 := n 1 (by decide)
    have n2 := n 2 (by decide)
    have n4 := n 4 (by decide)
    have n5 := n 5 (by decide)
    have n6 := n 6 (by decide)
    simp only [setC]
    rw [if_neg (fun z => n1 z.1), if_neg (fun z => n2 z.1), if_neg (fun z => n4 z.1), if_neg (fun z => n5 z.1), if_neg (fun z => n6 z.1)]
  funext j
  simp only [cv]
  rw [key 1 _ (by decide), key 2 _ (by decide), key 4 _ (by decide), key 5 _ (by decide), key 6 _ (by decide)]
theorem setC_comm {c' : Nat} {v' : Nat → Int64} (h : c' ≠ c) : setC (setC w c v) c' v' = setC (setC w c' v') c v := by
  refine Prod.ext (funext fun q => funext fun j => ?_) rfl
  have n : ∀ p p' : Nat, p < 8 → p' < 8 → cr c' + p' ≠ cr c + p := fun p p' hp hp' e => h (cr_apart hp' hp e).1
  simp only [setC]
  have n11 := n 1 1 (by decide) (by decide)
  have n12 := n 1 2 (by decide) (by decide)
  have n14 := n 1 4 (by decide) (by decide)
  have n15 := n 1 5 (by decide) (by decide)
  have n16 := n 1 6 (by decide) (by decide)
  have n21 := n 2 1 (by decide) (by decide)
  have n22 := n 2 2 (by decide) (by decide)
  have n24 := n 2 4 (by decide) (by decide)
  have n25 := n 2 5 (by decide) (by decide)
  have n26 := n 2 6 (by decide) (by decide)
  have n41 := n 4 1 (by decide) (by decide)
  have n42 := n 4 2 (by decide) (by decide)
  have n44 := n 4 4 (by decide) (by decide)
  have n45 := n 4 5 (by decide) (by decide)
  have n46 := n 4 6 (by decide) (by decide)
  have n51 := n 5 1 (by decide) (by decide)
  have n52 := n 5 2 (by decide) (by decide)
  have n54 := n 5 4 (by decide) (by decide)
  have n55 := n 5 5 (by decide) (by decide)
  have n56 := n 5 6 (by decide) (by decide)
  have n61 := n 6 1 (by decide) (by decide)
  have n62 := n 6 2 (by decide) (by decide)
  have n64 := n 6 4 (by decide) (by decide)
  have n65 := n 6 5 (by decide) (by decide)
  have n66 := n 6 6 (by decide) (by decide)
  repeat' split
  all_goals first | rfl | (exfalso; omega)
end XC
