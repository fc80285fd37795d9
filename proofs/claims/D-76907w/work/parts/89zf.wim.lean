/-! LATTICES WITHIN: the loops of the model -/
def MSt (w0 w : Wd) (v : Nat → Int64) (es : List (Nat × Nat × Nat × Nat × Nat × Nat)) : Prop := Sq w0 w ∧ sl w 7 = v ∧ ∀ (j : Nat) (e : Nat × Nat × Nat × Nat × Nat × Nat), es[j]? = some e → ∀ i : Nat, i < 6 → w.1 974 (6 * j + i) = nz (sbE v e) i
def rowI (p r s : Nat) : Nat → Nat → List (Nat × Nat × Nat × Nat × Nat × Nat)
  | 0, _ => []
  | d + 1, i => (p, i / (p * r), r, i / r % p, i % r, s) :: rowI p r s d (i + 1)
def mowR (n p : Nat) : Nat → Nat → List (Nat × Nat × Nat × Nat × Nat × Nat)
  | 0, _ => []
  | d + 1, r => (if p * r * (n / (p * r)) = n then rowI p r (n / (p * r)) (p * p * r) 0 else []) ++ mowR n p d (r + 1)
def mowP (n : Nat) : Nat → Nat → List (Nat × Nat × Nat × Nat × Nat × Nat)
  | 0, _ => []
  | d + 1, p => mowR n p (n / p) 1 ++ mowP n d (p + 1)
def cpx (w : Wd) (k : Nat) (x : Nat → Int64) (i : Nat) : Wd := (fun q j => if q = 974 ∧ 6 * k ≤ j ∧ j < 6 * k + i then x (j - 6 * k) else w.1 q j, w.2)
theorem row_eq : ∀ n : Nat, n < 7 → rowP n n 1 = mowP n n 1 ∧ (rowP n n 1).length ≤ 91 := by
  intro n hn
  match n, hn with
  | 0, _ => exact ⟨rfl, by decide +kernel⟩
  | 1, _ => exact ⟨rfl, by decide +kernel⟩
  | 2, _ => exact ⟨rfl, by decide +kernel⟩
  | 3, _ => exact ⟨rfl, by decide +kernel⟩
  | 4, _ => exact ⟨rfl, by decide +kernel⟩
  | 5, _ => exact ⟨rfl, by decide +kernel⟩
  | 6, _ => exact ⟨rfl, by decide +kernel⟩
section XWM
variable {ev : Ev} {w w0 w' : Wd} {fu k n p q r t u s i K : Nat} {v x : Nat → Int64} {es : List (Nat × Nat × Nat × Nat × Nat × Nat)}
theorem cpx_sl : sl (cpx w k x i) K = sl w K := by
  funext j
  unfold sl cpx
  simp only [show ¬ (967 : Nat) = 974 by decide, show ¬ (968 : Nat) = 974 by decide, false_and, if_false]
theorem cpx_0 : cpx w k x 0 = w := by
  refine Prod.ext (funext fun q => funext fun j => ?_) rfl
  show (if q = 974 ∧ 6 * k ≤ j ∧ j < 6 * k + 0 then x (j - 6 * k) else w.1 q j) = w.1 q j
  rw [if_neg (by omega)]
theorem cpx_s : wJ (cpx w k x i) 974 (6 * k + i) (x i) = cpx w k x (i + 1) := by
  refine Prod.ext (funext fun q => funext fun j => ?_) rfl
  show (if q = 974 ∧ j = 6 * k + i then x i else if q = 974 ∧ 6 * k ≤ j ∧ j < 6 * k + i then x (j - 6 * k) else w.1 q j) = if q = 974 ∧ 6 * k ≤ j ∧ j < 6 * k + (i + 1) then x (j - 6 * k) else w.1 q j
  by_cases h : q = 974 ∧ j = 6 * k + i
  · rw [if_pos h, if_pos (by omega), show j - 6 * k = i by omega]
  · rw [if_neg h]
    by_cases h2 : q = 974 ∧ 6 * k ≤ j ∧ j < 6 * k + i
    · rw [if_pos h2, if_pos (by omega)]
    · rw [if_neg h2, if_neg (by omega)]
theorem cpx_Sq : Sq w (cpx w k x i) := by
  refine ⟨fun q j h => ?_, fun _ _ _ => rfl, rfl⟩
  show (if q = 974 ∧ 6 * k ≤ j ∧ j < 6 * k + i then x (j - 6 * k) else w.1 q j) = w.1 q j
  rw [if_neg]
  rintro ⟨rfl, -⟩
  exact h (by unfold sJ; omega)
theorem X2_n6 (hi : i < 6) : f_X2_n fu ev (mem ev w) (ev.1 + 966) 6 (nI i) = some (sl w 6 i, mem ev w) := by
  match i, hi with
  | 0, _ => exact X2_n_0 (K := 6) (by decide)
  | 1, _ => exact X2_n_1 (K := 6) (by decide)
  | 2, _ => exact X2_n_2 (K := 6) (by decide)
  | 3, _ => exact X2_n_3 (K := 6) (by decide)
  | 4, _ => exact X2_n_4 (K := 6) (by decide)
  | 5, _ => exact X2_n_5 (K := 6) (by decide)
theorem mw_c {R13 : Mm → Nat → Int32 → Int32 → Int32 → Option (Int32 × Mm)} {R22 : Mm → Nat → Int32 → Int32 → Int32 → Int32 → Option (Int32 × Mm)} {R58 : Mm → Nat → Int32 → Int32 → Int32 → Int32 → Int32 → Int32 → Option (Int32 × Mm)} {x2 x4 x5 x6 x7 : Int32} (hk : k < 91) (hx : sl w 6 = x) : ∀ (d f i : Nat), i + d = 6 → d < f → L_X2_within_2_122 R13 R22 R58 fu ev f (mem ev (cpx w k x i)) (ev.1 + 966) x2 (nI k) x4 x5 x6 x7 (nI i) = R58 (mem ev (cpx w k x 6)) (ev.1 + 966) x2 (nI (k + 1)) x4 x5 x6 (x7 + 1) := by
  intro d
  induction d with
  | zero =>
    intro f i hi hf
    obtain ⟨g, rfl⟩ : ∃ g, f = g + 1 := ⟨f - 1, by omega⟩
    obtain rfl : i = 6 := by omega
    show b_X2_within_2_122 _ _ _ _ fu ev _ _ _ _ _ _ _ _ _ = _
    unfold b_X2_within_2_122 b_X2_within_2_155
    rw [if_pos (by decide), nI_1]
  | succ d ih =>
    intro f i hi hf
    obtain ⟨g, rfl⟩ : ∃ g, f = g + 1 := ⟨f - 1, by omega⟩
    rw [← ih g (i + 1) (by omega) (by omega)]
    have e : f_X2_n fu ev (mem ev (cpx w k x i)) (ev.1 + 966) 6 (nI i) = some (x i, mem ev (cpx w k x i)) := by rw [X2_n6 (by omega), cpx_sl, hx]
    have e2 : astJ ev (mem ev (cpx w k x i)) (ev.1 + 974) (nI (6 * k + i)) (x i) = some (mem ev (cpx w k x (i + 1))) := by rw [wrJ (N := 546) rfl (by decide) (by decide) (by omega), cpx_s]
    show b_X2_within_2_122 _ _ _ _ fu ev _ _ _ _ _ _ _ _ _ = _
    unfold b_X2_within_2_122 b_X2_within_2_129
    rw [if_neg (show ¬ (6 : Int32) ≤ nI i from nI_ge (b := 6) (by omega) (by decide))]
    simp only [mf17, mis, e, ix6, e2, nI_1, Option.bind_some, bd2]
theorem mw_step {R13 : Mm → Nat → Int32 → Int32 → Int32 → Option (Int32 × Mm)} {R22 : Mm → Nat → Int32 → Int32 → Int32 → Int32 → Option (Int32 × Mm)} {R58 : Mm → Nat → Int32 → Int32 → Int32 → Int32 → Int32 → Int32 → Option (Int32 × Mm)} {x2 : Int32} (hf : ∀ N : Nat, N ≤ 10 ^ 46 → N + 28 ≤ fu) (hv : OkV v) (hp : p < 7) (hr : r < 7) (hs : s < 7) (p0 : 0 < p) (r0 : 0 < r) (s0 : 0 < s) (hi : i < p * p * r) (hpr : p * r < 7) (hc : MSt w0 w v es) (hl : es.length < 91) : ∃ w' : Wd, MSt w0 w' v (es ++ [(p, i / (p * r), r, i / r % p, i % r, s)]) ∧ b_X2_within_2_71 R13 R22 R58 fu ev (mem ev w) (ev.1 + 966) x2 (nI es.length) (nI p) (nI r) (nI s) (nI i) = R58 (mem ev w') (ev.1 + 966) x2 (nI (es.length + 1)) (nI p) (nI r) (nI s) (nI (i + 1)) := by
  have hpr0 : 0 < p * r := Nat.mul_pos p0 r0
  have hi2 : i < 1000 := by
    have : p * p * r ≤ 6 * 6 * 6 := Nat.mul_le_mul (Nat.mul_le_mul (by omega) (by omega)) (by omega)
    omega
  have hq : i / (p * r) < 7 := by
    have : i / (p * r) < p := (Nat.div_lt_iff_lt_mul hpr0).mpr (by rw [← Nat.mul_assoc]; exact hi)
    omega
  have ht : i / r % p < 7 := by have := Nat.mod_lt (i / r) p0; omega
  have hu : i % r < 7 := by have := Nat.mod_lt i r0; omega
  obtain ⟨N, hN, hE, hnz, hM⟩ := sub_ends hv hp hq hr ht hu hs p0 r0 s0
  obtain ⟨c1, c2, c4⟩ := hc
  have hfu := hf N hN
  have h6 : 6 < 26 := by decide
  have h7 : 7 < 26 := by decide
  have zpr : nzI (nI p * nI r) = some () := by unfold nzI; rw [pk_mul, if_neg (nI_ne0 hpr0 (by omega))]
  have zp : nzI (nI p) = some () := by unfold nzI; rw [if_neg (nI_ne0 p0 (by omega))]
  have zr : nzI (nI r) = some () := by unfold nzI; rw [if_neg (nI_ne0 r0 (by omega))]
  have d1 : nI i / (nI p * nI r) = nI (i / (p * r)) := by rw [pk_mul]; exact pk_div (by omega) hpr0 (by omega)
  have d2 : nI i / nI r = nI (i / r) := pk_div (by omega) r0 (by omega)
  have d3 : nI (i / r) - nI (i / r) / nI p * nI p = nI (i / r % p) := pk_rem (by have := Nat.div_le_self i r; omega) p0 (by omega)
  have d4 : nI i - nI (i / r) * nI r = nI (i % r) := by rw [← d2]; exact pk_rem (by omega) r0 (by omega)
  have n0 : f_X2_n fu ev (mem ev w) (ev.1 + 966) 7 0 = some (v 0, mem ev w) := by rw [← c2]; exact X2_n_0 (K := 7) h7
  have n1 : f_X2_n fu ev (mem ev w) (ev.1 + 966) 7 1 = some (v 1, mem ev w) := by rw [← c2]; exact X2_n_1 (K := 7) h7
  have n2 : f_X2_n fu ev (mem ev w) (ev.1 + 966) 7 2 = some (v 2, mem ev w) := by rw [← c2]; exact X2_n_2 (K := 7) h7
  have n3 : f_X2_n fu ev (mem ev w) (ev.1 + 966) 7 3 = some (v 3, mem ev w) := by rw [← c2]; exact X2_n_3 (K := 7) h7
  have n4 : f_X2_n fu ev (mem ev w) (ev.1 + 966) 7 4 = some (v 4, mem ev w) := by rw [← c2]; exact X2_n_4 (K := 7) h7
  have n5 : f_X2_n fu ev (mem ev w) (ev.1 + 966) 7 5 = some (v 5, mem ev w) := by rw [← c2]; exact X2_n_5 (K := 7) h7
  have pt : ∀ a1 a2 a3 a4 a5 a6 : Int64, f_X2_put fu ev (mem ev w) (ev.1 + 966) 6 a1 a2 a3 a4 a5 a6 = some ((), mem ev (setS w 6 (sPut (sl w 6) a1 a2 a3 a4 a5 a6))) := fun a1 a2 a3 a4 a5 a6 => X2_put (K := 6) h6
  obtain ⟨y, hy⟩ : ∃ y, f_X2_puts fu ev (mem ev w) (ev.1 + 966) 7 6 (nI p) (nI (i / (p * r))) (nI r) (nI (i / r % p)) (nI (i % r)) (nI s) = some ((), mem ev (setS w 6 y)) ∧ Mk y ∧ sFresh y = sbV v p (i / (p * r)) r (i / r % p) (i % r) s := by
    refine ⟨_, ?_, ?_, sb_put hv (Mk_sl (w := w) (K := 6)) hp hq hr ht hu hs⟩
    · simp only [f_X2_puts, b_X2_puts_0, mis, n0, n1, n2, n3, n4, n5, pt, Option.bind_some, bd2]
    · exact Mk_put Mk_sl
  obtain ⟨hy1, hy2, hy3⟩ := hy
  have fr : f_X2_fresh fu ev (mem ev (setS w 6 y)) (ev.1 + 966) 6 = some ((), mem ev (setS w 6 (sbV v p (i / (p * r)) r (i / r % p) (i % r) s))) := by
    have e := X2_fresh (ev := ev) (w := setS w 6 y) (K := 6) (fu := fu) h6 (by omega)
    rw [sl_mk hy2, hy3, setS_set] at e
    exact e
  have go : f_X2_goesOn fu ev (mem ev (setS w 6 (sbV v p (i / (p * r)) r (i / r % p) (i % r) s))) (ev.1 + 966) 6 = some (nI N, mem ev (setS w 6 (itV N (sbV v p (i / (p * r)) r (i / r % p) (i % r) s)))) := X2_goesOn (K := 6) h6 (Mk_fresh Mk_tell) hE hM (by omega)
  obtain ⟨x, hx⟩ : ∃ x, x = itV N (sbV v p (i / (p * r)) r (i / r % p) (i % r) s) := ⟨_, rfl⟩
  rw [← hx] at go hnz
  have sx : sl (setS w 6 x) 6 = x := sl_mk (hx ▸ Mk_it (Mk_fresh Mk_tell) N)
  have cc := mw_c (ev := ev) (R13 := R13) (R22 := R22) (R58 := R58) (fu := fu) (x2 := x2) (x4 := nI p) (x5 := nI r) (x6 := nI s) (x7 := nI i) (w := setS w 6 x) hl sx 6 fu 0 (by decide) (by omega)
  rw [cpx_0, nI_0, nI_1] at cc
  refine ⟨cpx (setS w 6 x) es.length x 6, ⟨?_, ?_, ?_⟩, ?_⟩
  · exact Sq_trans (Sq_trans c1 (Sq_setS (Or.inl rfl))) cpx_Sq
  · rw [cpx_sl, sl_ne (by decide), c2]
  · intro j e hj m hm
    show (if 974 = 974 ∧ 6 * es.length ≤ 6 * j + m ∧ 6 * j + m < 6 * es.length + 6 then x (6 * j + m - 6 * es.length) else (setS w 6 x).1 974 (6 * j + m)) = _
    rcases Nat.lt_trichotomy j es.length with h | h | h
    · rw [List.getElem?_append_left h] at hj
      rw [if_neg (by omega), ← c4 j e hj m hm]
      rfl
    · subst h
      rw [List.getElem?_append_right (Nat.le_refl _), Nat.sub_self] at hj
      obtain rfl := Option.some.inj hj
      rw [if_pos (by omega), show 6 * es.length + m - 6 * es.length = m by omega]
      exact congrFun hnz.symm m
    · rw [List.getElem?_eq_none (by rw [List.length_append]; show es.length + 1 ≤ j; omega)] at hj
      exact absurd hj (by simp)
  · rw [← cc]
    simp only [b_X2_within_2_71, zpr, zr, zp, mis, d1, d2, d3, d4, hy1, fr, go, Option.bind_some, bd2]
theorem mw_i {R13 : Mm → Nat → Int32 → Int32 → Int32 → Option (Int32 × Mm)} {R22 : Mm → Nat → Int32 → Int32 → Int32 → Int32 → Option (Int32 × Mm)} {x2 : Int32} (hf : ∀ N : Nat, N ≤ 10 ^ 46 → N + 28 ≤ fu) (hv : OkV v) (hp : p < 7) (hr : r < 7) (hs : s < 7) (p0 : 0 < p) (r0 : 0 < r) (s0 : 0 < s) (hpr : p * r < 7) : ∀ (d f i : Nat) (w : Wd) (es : List (Nat × Nat × Nat × Nat × Nat × Nat)), i + d = p * p * r → d < f → MSt w0 w v es → (es ++ rowI p r s d i).length ≤ 91 → ∃ w' : Wd, MSt w0 w' v (es ++ rowI p r s d i) ∧ L_X2_within_2_58 R13 R22 fu ev f (mem ev w) (ev.1 + 966) x2 (nI es.length) (nI p) (nI r) (nI s) (nI i) = R22 (mem ev w') (ev.1 + 966) x2 (nI (es ++ rowI p r s d i).length) (nI p) (nI (r + 1)) := by
  have hb : p * p * r ≤ 6 * 6 * 6 := Nat.mul_le_mul (Nat.mul_le_mul (by omega) (by omega)) (by omega)
  intro d
  induction d with
  | zero =>
    intro f i w es hi hf hc hl
    obtain ⟨g, rfl⟩ : ∃ g, f = g + 1 := ⟨f - 1, by omega⟩
    rw [rowI, List.append_nil] at hl ⊢
    refine ⟨w, hc, ?_⟩
    show b_X2_within_2_58 _ _ _ fu ev _ _ _ _ _ _ _ _ = _
    unfold b_X2_within_2_58 b_X2_within_2_164
    rw [pk_mul, pk_mul, if_pos (nI_le (by omega) (by omega)), nI_1]
  | succ d ih =>
    intro f i w es hi hf' hc hl
    obtain ⟨g, rfl⟩ : ∃ g, f = g + 1 := ⟨f - 1, by omega⟩
    have e : es ++ rowI p r s (d + 1) i = (es ++ [(p, i / (p * r), r, i / r % p, i % r, s)]) ++ rowI p r s d (i + 1) := by rw [rowI, List.append_assoc]; rfl
    rw [e] at hl ⊢
    have l1 : es.length < 91 := by simp only [List.length_append, List.length_cons, List.length_nil] at hl; omega
    obtain ⟨w1, k1, k2⟩ := mw_step (ev := ev) (R13 := R13) (R22 := R22) (R58 := L_X2_within_2_58 R13 R22 fu ev g) (x2 := x2) hf hv hp hr hs p0 r0 s0 (show i < p * p * r by omega) hpr hc l1
    obtain ⟨w2, m1, m2⟩ := ih g (i + 1) w1 _ (by omega) (by omega) k1 hl
    refine ⟨w2, m1, ?_⟩
    rw [← m2, show (es ++ [(p, i / (p * r), r, i / r % p, i % r, s)]).length = es.length + 1 from by rw [List.length_append]; rfl, ← k2]
    show b_X2_within_2_58 _ _ _ fu ev _ _ _ _ _ _ _ _ = _
    unfold b_X2_within_2_58
    rw [pk_mul, pk_mul, if_neg (nI_ge (by omega) (by omega))]
theorem mw_r {R13 : Mm → Nat → Int32 → Int32 → Int32 → Option (Int32 × Mm)} (hf : ∀ N : Nat, N ≤ 10 ^ 46 → N + 28 ≤ fu) (hv : OkV v) (hn : n < 7) (hp : p < 7) (p0 : 0 < p) : ∀ (d f r : Nat) (w : Wd) (es : List (Nat × Nat × Nat × Nat × Nat × Nat)), r + d = n / p + 1 → 0 < r → d < f → MSt w0 w v es → (es ++ mowR n p d r).length ≤ 91 → ∃ w' : Wd, MSt w0 w' v (es ++ mowR n p d r) ∧ L_X2_within_2_22 R13 fu ev f (mem ev w) (ev.1 + 966) (nI n) (nI es.length) (nI p) (nI r) = R13 (mem ev w') (ev.1 + 966) (nI n) (nI (es ++ mowR n p d r).length) (nI (p + 1)) := by
  have hnp : n / p < 7 := Nat.lt_of_le_of_lt (Nat.div_le_self _ _) hn
  intro d
  induction d with
  | zero =>
    intro f r w es hr r0 hf hc hl
    obtain ⟨g, rfl⟩ : ∃ g, f = g + 1 := ⟨f - 1, by omega⟩
    rw [mowR, List.append_nil] at hl ⊢
    refine ⟨w, hc, ?_⟩
    obtain rfl : r = n / p + 1 := by omega
    have h1 : n < p * (n / p + 1) := by have := Nat.div_add_mod n p; have := Nat.mod_lt n p0; rw [Nat.mul_add, Nat.mul_one]; omega
    have h2 : p * (n / p + 1) ≤ 6 * 8 := Nat.mul_le_mul (by omega) (by omega)
    show b_X2_within_2_22 _ _ fu ev _ _ _ _ _ _ = _
    unfold b_X2_within_2_22 b_X2_within_2_170
    rw [pk_mul, if_pos (nI_lt h1 (by omega)), nI_1]
  | succ d ih =>
    intro f r w es hr r0 hf' hc hl
    obtain ⟨g, rfl⟩ : ∃ g, f = g + 1 := ⟨f - 1, by omega⟩
    have hpr0 : 0 < p * r := Nat.mul_pos p0 r0
    have hpr : p * r ≤ n := by
      have := Nat.mul_le_mul_left p (show r ≤ n / p by omega)
      have := Nat.mul_div_le n p
      omega
    have zpr : nzI (nI p * nI r) = some () := by unfold nzI; rw [pk_mul, if_neg (nI_ne0 hpr0 (by omega))]
    have dv : nI n / (nI p * nI r) = nI (n / (p * r)) := by rw [pk_mul]; exact pk_div (by omega) hpr0 (by omega)
    have hlt : ¬ nI n < nI p * nI r := fun h => by rw [pk_mul] at h; have := (nI_ltI (by omega) (by omega)).mp h; omega
    have hb : p * r * (n / (p * r)) ≤ n := Nat.mul_div_le _ _
    have hm' : nI p * nI r * nI (n / (p * r)) = nI (p * r * (n / (p * r))) := by rw [pk_mul, pk_mul]
    by_cases hm : p * r * (n / (p * r)) = n
    · have e : es ++ mowR n p (d + 1) r = (es ++ rowI p r (n / (p * r)) (p * p * r) 0) ++ mowR n p d (r + 1) := by rw [mowR, if_pos hm, List.append_assoc]
      rw [e] at hl ⊢
      have l1 : (es ++ rowI p r (n / (p * r)) (p * p * r) 0).length ≤ 91 := by rw [List.length_append] at hl; omega
      have s7 : n / (p * r) < 7 := Nat.lt_of_le_of_lt (Nat.div_le_self _ _) hn
      have hb2 : p * p * r ≤ 6 * 6 * 6 := Nat.mul_le_mul (Nat.mul_le_mul (by omega) (by omega)) (by omega)
      obtain ⟨w1, k1, k2⟩ := mw_i (ev := ev) (R13 := R13) (R22 := L_X2_within_2_22 R13 fu ev g) (x2 := nI n) hf hv hp (show r < 7 by omega) s7 p0 r0 (Nat.div_pos hpr hpr0) (show p * r < 7 by omega) (p * p * r) fu 0 w es (by omega) (by have := hf 1000 (by decide); omega) hc l1
      obtain ⟨w2, m1, m2⟩ := ih g (r + 1) w1 _ (by omega) (by omega) (by omega) k1 hl
      refine ⟨w2, m1, ?_⟩
      rw [← m2, ← k2]
      show b_X2_within_2_22 _ _ fu ev _ _ _ _ _ _ = _
      unfold b_X2_within_2_22 b_X2_within_2_31 b_X2_within_2_55
      rw [if_neg hlt, zpr, Option.bind_some, dv, hm', hm, if_pos rfl]
      rfl
    · have e : es ++ mowR n p (d + 1) r = es ++ mowR n p d (r + 1) := by rw [mowR, if_neg hm]; rfl
      rw [e] at hl ⊢
      obtain ⟨w2, m1, m2⟩ := ih g (r + 1) w es (by omega) (by omega) (by omega) hc hl
      refine ⟨w2, m1, ?_⟩
      rw [← m2]
      show b_X2_within_2_22 _ _ fu ev _ _ _ _ _ _ = _
      unfold b_X2_within_2_22 b_X2_within_2_31 b_X2_within_2_52 b_X2_within_2_164
      rw [if_neg hlt, zpr, Option.bind_some, dv, hm', if_neg (nI_ne (by omega) (by omega) hm), nI_1]
theorem mw_p (hf : ∀ N : Nat, N ≤ 10 ^ 46 → N + 28 ≤ fu) (hv : OkV v) (hn : n < 7) : ∀ (d f p : Nat) (w : Wd) (es : List (Nat × Nat × Nat × Nat × Nat × Nat)), p + d = n + 1 → 0 < p → d < f → MSt w0 w v es → (es ++ mowP n d p).length ≤ 91 → ∃ w' : Wd, MSt w0 w' v (es ++ mowP n d p) ∧ L_X2_within_2_13 fu ev f (mem ev w) (ev.1 + 966) (nI n) (nI es.length) (nI p) = some (nI (es ++ mowP n d p).length, mem ev w') := by
  intro d
  induction d with
  | zero =>
    intro f p w es hp p0 hf hc hl
    obtain ⟨g, rfl⟩ : ∃ g, f = g + 1 := ⟨f - 1, by omega⟩
    rw [mowP, List.append_nil] at hl ⊢
    refine ⟨w, hc, ?_⟩
    show b_X2_within_2_13 _ fu ev _ _ _ _ _ = _
    unfold b_X2_within_2_13 b_X2_within_2_176
    rw [if_pos (nI_lt (by omega) (by omega))]
  | succ d ih =>
    intro f p w es hp p0 hf' hc hl
    obtain ⟨g, rfl⟩ : ∃ g, f = g + 1 := ⟨f - 1, by omega⟩
    have e : es ++ mowP n (d + 1) p = (es ++ mowR n p (n / p) 1) ++ mowP n d (p + 1) := by rw [mowP, List.append_assoc]
    rw [e] at hl ⊢
    have l1 : (es ++ mowR n p (n / p) 1).length ≤ 91 := by rw [List.length_append] at hl; omega
    have hnp : n / p < 7 := Nat.lt_of_le_of_lt (Nat.div_le_self _ _) hn
    obtain ⟨w1, k1, k2⟩ := mw_r (ev := ev) (R13 := L_X2_within_2_13 fu ev g) hf hv hn (show p < 7 by omega) p0 (n / p) fu 1 w es (by omega) (by omega) (by have := hf 0 (by decide); omega) hc l1
    obtain ⟨w2, m1, m2⟩ := ih g (p + 1) w1 _ (by omega) (by omega) (by omega) k1 hl
    refine ⟨w2, m1, ?_⟩
    rw [← m2, ← k2]
    show b_X2_within_2_13 _ fu ev _ _ _ _ _ = _
    unfold b_X2_within_2_13 b_X2_within_2_19
    rw [if_neg (fun h => by have := (nI_ltI (by omega) (by omega)).mp h; omega)]
    rfl
end XWM
