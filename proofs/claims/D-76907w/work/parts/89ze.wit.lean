/-! LATTICES WITHIN: the loops of the class -/
def sbE (v : Nat → Int64) (e : Nat × Nat × Nat × Nat × Nat × Nat) : Nat → Int64 := sbV v e.1 e.2.1 e.2.2.1 e.2.2.2.1 e.2.2.2.2.1 e.2.2.2.2.2
def CSt (w0 w : Wd) (v : Nat → Int64) (es : List (Nat × Nat × Nat × Nat × Nat × Nat)) : Prop := Sq w0 w ∧ cv w 0 = v ∧ w.2.1 0 14 = nI es.length ∧ ∀ (j : Nat) (e : Nat × Nat × Nat × Nat × Nat × Nat), es[j]? = some e → cv w (27 + j) = nz (sbE v e)
def rowU (p q r t s : Nat) : Nat → Nat → List (Nat × Nat × Nat × Nat × Nat × Nat)
  | 0, _ => []
  | d + 1, u => (p, q, r, t, u, s) :: rowU p q r t s d (u + 1)
def rowT (p q r s : Nat) : Nat → Nat → List (Nat × Nat × Nat × Nat × Nat × Nat)
  | 0, _ => []
  | d + 1, t => rowU p q r t s r 0 ++ rowT p q r s d (t + 1)
def rowQ (p r s : Nat) : Nat → Nat → List (Nat × Nat × Nat × Nat × Nat × Nat)
  | 0, _ => []
  | d + 1, q => rowT p q r s p 0 ++ rowQ p r s d (q + 1)
def rowR (n p : Nat) : Nat → Nat → List (Nat × Nat × Nat × Nat × Nat × Nat)
  | 0, _ => []
  | d + 1, r => (if n % (p * r) = 0 then rowQ p r (n / (p * r)) p 0 else []) ++ rowR n p d (r + 1)
def rowP (n : Nat) : Nat → Nat → List (Nat × Nat × Nat × Nat × Nat × Nat)
  | 0, _ => []
  | d + 1, p => rowR n p (n / p) 1 ++ rowP n d (p + 1)
section XWI
variable {ev : Ev} {w w0 w' : Wd} {fu k n p q r t u s : Nat} {v : Nat → Int64} {es : List (Nat × Nat × Nat × Nat × Nat × Nat)}
theorem sub_ends (hv : OkV v) (hp : p < 7) (hq : q < 7) (hr : r < 7) (ht : t < 7) (hu : u < 7) (hs : s < 7) (p0 : 0 < p) (r0 : 0 < r) (s0 : 0 < s) : ∃ N : Nat, N ≤ 10 ^ 46 ∧ Ends (sbV v p q r t u s) N ∧ nz (sbV v p q r t u s) = itV N (sbV v p q r t u s) ∧ ∀ i : Nat, i ≤ N → eqM (itV i (sbV v p q r t u s)) := by
  obtain ⟨N, h1, h2, -, h4⟩ := good_ends (sb_good hv hp hq hr ht hu hs p0 r0 s0)
  exact ⟨N, h1, h2, nz_it h2, h4⟩
theorem cw_step {R3 : Mm → Nat → Int32 → Int32 → Int32 → Int32 → Option (Unit × Mm)} {R12 : Mm → Nat → Int32 → Int32 → Int32 → Int32 → Int32 → Option (Unit × Mm)} {R21 : Mm → Nat → Int32 → Int32 → Int32 → Int32 → Int32 → Int32 → Option (Unit × Mm)} (hf : ∀ N : Nat, N ≤ 10 ^ 46 → N + 28 ≤ fu) (hv : OkV v) (hp : p < 7) (hq : q < 7) (hr : r < 7) (ht : t < 7) (hu : u < 7) (hs : s < 7) (p0 : 0 < p) (r0 : 0 < r) (s0 : 0 < s) (hc : CSt w0 w v es) (hl : es.length < 91) : ∃ w' : Wd, CSt w0 w' v (es ++ [(p, q, r, t, u, s)]) ∧ b_X0_findWithin_2_27 R3 R12 R21 fu ev (mem ev w) ev.1 (nI p) (nI r) (nI s) (nI q) (nI t) (nI u) = R21 (mem ev w') ev.1 (nI p) (nI r) (nI s) (nI q) (nI t) (nI (u + 1)) := by
  obtain ⟨N, hN, hE, hnz, -⟩ := sub_ends hv hp hq hr ht hu hs p0 r0 s0
  obtain ⟨c1, c2, c3_, c4⟩ := hc
  have hfu := hf N hN
  have f0 : Fi 30 := Or.inl rfl
  have f1 : Fi 31 := Or.inr (Or.inl rfl)
  have f2 : Fi 32 := Or.inr (Or.inr rfl)
  obtain ⟨wa, hwa⟩ : ∃ wa, wa = w3 w 30 (nI p).toInt64 0 0 := ⟨_, rfl⟩
  obtain ⟨wb, hwb⟩ : ∃ wb, wb = w3 wa 31 (nI q).toInt64 (nI r).toInt64 0 := ⟨_, rfl⟩
  obtain ⟨wc, hwc⟩ : ∃ wc, wc = w3 wb 32 (nI t).toInt64 (nI u).toInt64 (nI s).toInt64 := ⟨_, rfl⟩
  have ea := X0_three (ev := ev) (w := w) (fu := fu) (A := (nI p).toInt64) (B := 0) (Cc := 0) f0
  have eb := X0_three (ev := ev) (w := wa) (fu := fu) (A := (nI q).toInt64) (B := (nI r).toInt64) (Cc := 0) f1
  have ec := X0_three (ev := ev) (w := wb) (fu := fu) (A := (nI t).toInt64) (B := (nI u).toInt64) (Cc := (nI s).toInt64) f2
  rw [← hwa] at ea
  rw [← hwb] at eb
  rw [← hwc] at ec
  have qc : Sq w wc := by rw [hwc, hwb, hwa]; exact Sq_trans (Sq_trans (Sq_w3 f0) (Sq_w3 f1)) (Sq_w3 f2)
  have vc : ∀ c : Nat, c < 118 → cv wc c = cv w c := fun c hc => by rw [hwc, cv_w3 f2 hc, hwb, cv_w3 f1 hc, hwa, cv_w3 f0 hc]
  have r0' : ∀ i : Nat, i < 3 → wc.1 30 i = c3 p 0 0 i := by
    intro i hi
    rw [hwc, w3_ne (by decide), hwb, w3_ne (by decide), hwa]
    match i, hi with
    | 0, _ => exact w3_0
    | 1, _ => exact w3_1.trans nJ0.symm
    | 2, _ => exact w3_2.trans nJ0.symm
  have r1' : ∀ i : Nat, i < 3 → wc.1 31 i = c3 q r 0 i := by
    intro i hi
    rw [hwc, w3_ne (by decide), hwb]
    match i, hi with
    | 0, _ => exact w3_0
    | 1, _ => exact w3_1
    | 2, _ => exact w3_2.trans nJ0.symm
  have r2' : ∀ i : Nat, i < 3 → wc.1 32 i = c3 t u s i := by
    intro i hi
    rw [hwc]
    match i, hi with
    | 0, _ => exact w3_0
    | 1, _ => exact w3_1
    | 2, _ => exact w3_2
  have pe : puV (cv wc 0) (wc.1 30) (wc.1 31) (wc.1 32) = puV v (c3 p 0 0) (c3 q r 0) (c3 t u s) := by
    unfold puV
    rw [vc 0 (by decide), c2, tw_ext r0' r0', tw_ext r1' r1', tw_ext r2' r2', tw_ext r1' r2', tw_ext r0' r2', tw_ext r0' r1']
  have pu := X1_puts (ev := ev) (w := wc) (fu := fu) (by omega)
  rw [pe] at pu
  obtain ⟨wd, hwd⟩ : ∃ wd, wd = setC wc 2 (puV v (c3 p 0 0) (c3 q r 0) (c3 t u s)) := ⟨_, rfl⟩
  rw [← hwd] at pu
  have v2 : cv wd 2 = puV v (c3 p 0 0) (c3 q r 0) (c3 t u s) := by rw [hwd]; exact cv_mk Mk_tell
  have sf : sFresh (cv wd 2) = sbV v p q r t u s := by rw [v2]; rfl
  obtain ⟨tt, no⟩ := X1_normalOf (ev := ev) (w := wd) (c := 27 + es.length) (c2 := 2) (fu := fu) (N := N) (by omega) (by decide) (by omega) (by rw [sf]; exact hE) (by omega)
  rw [sf] at no
  obtain ⟨we, hwe⟩ : ∃ we, we = setC (setT wd (27 + es.length) tt) (27 + es.length) (itV N (sbV v p q r t u s)) := ⟨_, rfl⟩
  rw [← hwe] at no
  have qe : Sq w we := by
    rw [hwe, hwd]
    exact Sq_trans (Sq_trans (Sq_trans qc (Sq_setC (by decide))) (Sq_setT (by omega))) (Sq_setC (Or.inr ⟨by omega, by omega⟩))
  have mk : Mk (itV N (sbV v p q r t u s)) := Mk_it (Mk_fresh Mk_tell) N
  have ve : ∀ c : Nat, c < 118 → c ≠ 2 → c ≠ 27 + es.length → cv we c = cv w c := by
    intro c h1 h2 h3
    rw [hwe, cv_ne h3, cv_setT, hwd, cv_ne h2, vc c h1]
  have vk : cv we (27 + es.length) = itV N (sbV v p q r t u s) := by rw [hwe]; exact cv_mk mk
  have i14c : wc.2.1 0 14 = nI es.length := by rw [hwc, hwb, hwa]; exact c3_
  have i14e : we.2.1 0 14 = nI es.length := by
    rw [hwe, hwd]
    show (if 0 = cr (27 + es.length) + 7 then tt 14 else wc.2.1 0 14) = _
    rw [if_neg (by omega), i14c]
  refine ⟨wI we 0 14 (nI (es.length + 1)), ⟨?_, ?_, ?_, ?_⟩, ?_⟩
  · refine Sq_trans (Sq_trans c1 qe) ⟨fun _ _ _ => rfl, fun a b h => ?_, rfl⟩
    show (if a = 0 ∧ b = 14 then _ else we.2.1 a b) = _
    rw [if_neg]
    rintro ⟨rfl, rfl⟩
    exact h (by unfold sI; omega)
  · exact (ve 0 (by decide) (by decide) (by omega)).trans c2
  · rw [List.length_append]
    rfl
  · intro j e hj
    show cv we (27 + j) = _
    rcases Nat.lt_trichotomy j es.length with h | h | h
    · rw [List.getElem?_append_left h] at hj
      rw [ve (27 + j) (by omega) (by omega) (by omega)]
      exact c4 j e hj
    · subst h
      rw [List.getElem?_append_right (Nat.le_refl _), Nat.sub_self] at hj
      obtain rfl := Option.some.inj hj
      rw [vk]
      exact hnz.symm
    · rw [List.getElem?_eq_none (by rw [List.length_append]; show es.length + 1 ≤ j; omega)] at hj
      exact absurd hj (by simp)
  · have h2 : 2 < 118 := by decide
    have hk : 27 + es.length < 118 := by omega
    simp only [b_X0_findWithin_2_27, xf10, xf13, xf4, xf2, xi14, xp14, xfig0, xfig1, xfig2, ea, eb, ec, i14c, xsubs hl, cis h2, cis hk, pu, no, i14e, Option.bind_some, bd2, nI_1]
theorem cw_u {R3 : Mm → Nat → Int32 → Int32 → Int32 → Int32 → Option (Unit × Mm)} {R12 : Mm → Nat → Int32 → Int32 → Int32 → Int32 → Int32 → Option (Unit × Mm)} (hf : ∀ N : Nat, N ≤ 10 ^ 46 → N + 28 ≤ fu) (hv : OkV v) (hp : p < 7) (hq : q < 7) (hr : r < 7) (ht : t < 7) (hs : s < 7) (p0 : 0 < p) (r0 : 0 < r) (s0 : 0 < s) : ∀ (d f u : Nat) (w : Wd) (es : List (Nat × Nat × Nat × Nat × Nat × Nat)), u + d = r → d < f → CSt w0 w v es → (es ++ rowU p q r t s d u).length ≤ 91 → ∃ w' : Wd, CSt w0 w' v (es ++ rowU p q r t s d u) ∧ L_X0_findWithin_2_21 R3 R12 fu ev f (mem ev w) ev.1 (nI p) (nI r) (nI s) (nI q) (nI t) (nI u) = R12 (mem ev w') ev.1 (nI p) (nI r) (nI s) (nI q) (nI (t + 1)) := by
  intro d
  induction d with
  | zero =>
    intro f u w es hu hf hc hl
    obtain ⟨g, rfl⟩ : ∃ g, f = g + 1 := ⟨f - 1, by omega⟩
    obtain rfl : u = r := by omega
    refine ⟨w, by rw [rowU, List.append_nil]; exact hc, ?_⟩
    show b_X0_findWithin_2_21 _ _ _ fu ev _ _ _ _ _ _ _ _ = _
    unfold b_X0_findWithin_2_21 b_X0_findWithin_2_130
    rw [if_pos (nI_le (Nat.le_refl _) (by omega)), nI_1]
  | succ d ih =>
    intro f u w es hu hf' hc hl
    obtain ⟨g, rfl⟩ : ∃ g, f = g + 1 := ⟨f - 1, by omega⟩
    have e : es ++ rowU p q r t s (d + 1) u = (es ++ [(p, q, r, t, u, s)]) ++ rowU p q r t s d (u + 1) := by rw [rowU, List.append_assoc]; rfl
    rw [e] at hl ⊢
    have l1 : es.length < 91 := by simp only [List.length_append, List.length_cons, List.length_nil] at hl; omega
    obtain ⟨w1, k1, k2⟩ := cw_step (ev := ev) (R3 := R3) (R12 := R12) (R21 := L_X0_findWithin_2_21 R3 R12 fu ev g) hf hv hp hq hr ht (show u < 7 by omega) hs p0 r0 s0 hc l1
    obtain ⟨w2, m1, m2⟩ := ih g (u + 1) w1 _ (by omega) (by omega) k1 hl
    refine ⟨w2, m1, ?_⟩
    rw [← m2, ← k2]
    show b_X0_findWithin_2_21 _ _ _ fu ev _ _ _ _ _ _ _ _ = _
    unfold b_X0_findWithin_2_21
    rw [if_neg (nI_ge (by omega) (by omega))]
theorem cw_t {R3 : Mm → Nat → Int32 → Int32 → Int32 → Int32 → Option (Unit × Mm)} (hf : ∀ N : Nat, N ≤ 10 ^ 46 → N + 28 ≤ fu) (hv : OkV v) (hp : p < 7) (hq : q < 7) (hr : r < 7) (hs : s < 7) (p0 : 0 < p) (r0 : 0 < r) (s0 : 0 < s) : ∀ (d f t : Nat) (w : Wd) (es : List (Nat × Nat × Nat × Nat × Nat × Nat)), t + d = p → d < f → CSt w0 w v es → (es ++ rowT p q r s d t).length ≤ 91 → ∃ w' : Wd, CSt w0 w' v (es ++ rowT p q r s d t) ∧ L_X0_findWithin_2_12 R3 fu ev f (mem ev w) ev.1 (nI p) (nI r) (nI s) (nI q) (nI t) = R3 (mem ev w') ev.1 (nI p) (nI r) (nI s) (nI (q + 1)) := by
  intro d
  induction d with
  | zero =>
    intro f t w es ht hf hc hl
    obtain ⟨g, rfl⟩ : ∃ g, f = g + 1 := ⟨f - 1, by omega⟩
    obtain rfl : t = p := by omega
    refine ⟨w, by rw [rowT, List.append_nil]; exact hc, ?_⟩
    show b_X0_findWithin_2_12 _ _ fu ev _ _ _ _ _ _ _ = _
    unfold b_X0_findWithin_2_12 b_X0_findWithin_2_136
    rw [if_pos (nI_le (Nat.le_refl _) (by omega)), nI_1]
  | succ d ih =>
    intro f t w es ht hf' hc hl
    obtain ⟨g, rfl⟩ : ∃ g, f = g + 1 := ⟨f - 1, by omega⟩
    have e : es ++ rowT p q r s (d + 1) t = (es ++ rowU p q r t s r 0) ++ rowT p q r s d (t + 1) := by rw [rowT, List.append_assoc]
    rw [e] at hl ⊢
    have l1 : (es ++ rowU p q r t s r 0).length ≤ 91 := by rw [List.length_append] at hl; omega
    obtain ⟨w1, k1, k2⟩ := cw_u (ev := ev) (R3 := R3) (R12 := L_X0_findWithin_2_12 R3 fu ev g) hf hv hp hq hr (show t < 7 by omega) hs p0 r0 s0 r fu 0 w es (by omega) (by have := hf 0 (by decide); omega) hc l1
    obtain ⟨w2, m1, m2⟩ := ih g (t + 1) w1 _ (by omega) (by omega) k1 hl
    refine ⟨w2, m1, ?_⟩
    rw [← m2, ← k2]
    show b_X0_findWithin_2_12 _ _ fu ev _ _ _ _ _ _ _ = _
    unfold b_X0_findWithin_2_12 b_X0_findWithin_2_18
    rw [if_neg (nI_ge (by omega) (by omega))]
    rfl
theorem cw_q (hf : ∀ N : Nat, N ≤ 10 ^ 46 → N + 28 ≤ fu) (hv : OkV v) (hp : p < 7) (hr : r < 7) (hs : s < 7) (p0 : 0 < p) (r0 : 0 < r) (s0 : 0 < s) : ∀ (d f q : Nat) (w : Wd) (es : List (Nat × Nat × Nat × Nat × Nat × Nat)), q + d = p → d < f → CSt w0 w v es → (es ++ rowQ p r s d q).length ≤ 91 → ∃ w' : Wd, CSt w0 w' v (es ++ rowQ p r s d q) ∧ L_X0_findWithin_2_3 fu ev f (mem ev w) ev.1 (nI p) (nI r) (nI s) (nI q) = some ((), mem ev w') := by
  intro d
  induction d with
  | zero =>
    intro f q w es hq hf hc hl
    obtain ⟨g, rfl⟩ : ∃ g, f = g + 1 := ⟨f - 1, by omega⟩
    obtain rfl : q = p := by omega
    refine ⟨w, by rw [rowQ, List.append_nil]; exact hc, ?_⟩
    show b_X0_findWithin_2_3 _ fu ev _ _ _ _ _ _ = _
    unfold b_X0_findWithin_2_3 b_X0_findWithin_2_142
    rw [if_pos (nI_le (Nat.le_refl _) (by omega))]
  | succ d ih =>
    intro f q w es hq hf' hc hl
    obtain ⟨g, rfl⟩ : ∃ g, f = g + 1 := ⟨f - 1, by omega⟩
    have e : es ++ rowQ p r s (d + 1) q = (es ++ rowT p q r s p 0) ++ rowQ p r s d (q + 1) := by rw [rowQ, List.append_assoc]
    rw [e] at hl ⊢
    have l1 : (es ++ rowT p q r s p 0).length ≤ 91 := by rw [List.length_append] at hl; omega
    obtain ⟨w1, k1, k2⟩ := cw_t (ev := ev) (R3 := L_X0_findWithin_2_3 fu ev g) hf hv hp (show q < 7 by omega) hr hs p0 r0 s0 p fu 0 w es (by omega) (by have := hf 0 (by decide); omega) hc l1
    obtain ⟨w2, m1, m2⟩ := ih g (q + 1) w1 _ (by omega) (by omega) k1 hl
    refine ⟨w2, m1, ?_⟩
    rw [← m2, ← k2]
    show b_X0_findWithin_2_3 _ fu ev _ _ _ _ _ _ = _
    unfold b_X0_findWithin_2_3 b_X0_findWithin_2_9
    rw [if_neg (nI_ge (by omega) (by omega))]
    rfl
theorem cw_r {R21 : Mm → Nat → Int32 → Int32 → Option (Unit × Mm)} (hf : ∀ N : Nat, N ≤ 10 ^ 46 → N + 28 ≤ fu) (hv : OkV v) (hn : n < 7) (hp : p < 7) (p0 : 0 < p) : ∀ (d f r : Nat) (w : Wd) (es : List (Nat × Nat × Nat × Nat × Nat × Nat)), r + d = n / p + 1 → 0 < r → d < f → CSt w0 w v es → (es ++ rowR n p d r).length ≤ 91 → ∃ w' : Wd, CSt w0 w' v (es ++ rowR n p d r) ∧ L_X0_findWithin_29 R21 fu ev f (mem ev w) ev.1 (nI n) (nI p) (nI r) = R21 (mem ev w') ev.1 (nI n) (nI (p + 1)) := by
  intro d
  have hnp : n / p < 7 := Nat.lt_of_le_of_lt (Nat.div_le_self _ _) hn
  have zp : nzI (nI p) = some () := by unfold nzI; rw [if_neg (nI_ne0 p0 (by omega))]
  have dp : nI n / nI p = nI (n / p) := pk_div (by omega) p0 (by omega)
  induction d with
  | zero =>
    intro f r w es hr r0 hf hc hl
    obtain ⟨g, rfl⟩ : ∃ g, f = g + 1 := ⟨f - 1, by omega⟩
    refine ⟨w, by rw [rowR, List.append_nil]; exact hc, ?_⟩
    show b_X0_findWithin_29 _ _ fu ev _ _ _ _ _ = _
    unfold b_X0_findWithin_29 b_X0_findWithin_65
    rw [zp, Option.bind_some, dp, if_pos (nI_lt (by omega) (by omega)), nI_1]
  | succ d ih =>
    intro f r w es hr r0 hf' hc hl
    obtain ⟨g, rfl⟩ : ∃ g, f = g + 1 := ⟨f - 1, by omega⟩
    have hpr0 : 0 < p * r := Nat.mul_pos p0 r0
    have hpr : p * r ≤ n := by
      have := Nat.mul_le_mul_left p (show r ≤ n / p by omega)
      have := Nat.mul_div_le n p
      omega
    have zpr : nzI (nI p * nI r) = some () := by unfold nzI; rw [pk_mul, if_neg (nI_ne0 hpr0 (by omega))]
    have rm : nI n - nI n / (nI p * nI r) * (nI p * nI r) = nI (n % (p * r)) := by rw [pk_mul]; exact pk_rem (by omega) hpr0 (by omega)
    have dv : nI n / (nI p * nI r) = nI (n / (p * r)) := by rw [pk_mul]; exact pk_div (by omega) hpr0 (by omega)
    have hlt : ¬ nI (n / p) < nI r := fun h => by have := (nI_ltI (by omega) (by omega)).mp h; omega
    by_cases hm : n % (p * r) = 0
    · have e : es ++ rowR n p (d + 1) r = (es ++ rowQ p r (n / (p * r)) p 0) ++ rowR n p d (r + 1) := by rw [rowR, if_pos hm, List.append_assoc]
      rw [e] at hl ⊢
      have l1 : (es ++ rowQ p r (n / (p * r)) p 0).length ≤ 91 := by rw [List.length_append] at hl; omega
      have s7 : n / (p * r) < 7 := Nat.lt_of_le_of_lt (Nat.div_le_self _ _) hn
      obtain ⟨w1, k1, k2⟩ := cw_q (ev := ev) hf hv hp (show r < 7 by omega) s7 p0 r0 (Nat.div_pos hpr hpr0) p fu 0 w es (by omega) (by have := hf 0 (by decide); omega) hc l1
      obtain ⟨w2, m1, m2⟩ := ih g (r + 1) w1 _ (by omega) (by omega) (by omega) k1 hl
      refine ⟨w2, m1, ?_⟩
      rw [← m2]
      have k3 : f_X0_findWithin_2 fu ev (mem ev w) ev.1 (nI p) (nI r) (nI (n / (p * r))) = some ((), mem ev w1) := k2
      show b_X0_findWithin_29 _ _ fu ev _ _ _ _ _ = _
      unfold b_X0_findWithin_29 b_X0_findWithin_37 b_X0_findWithin_46 b_X0_findWithin_59
      rw [zp, Option.bind_some, dp, if_neg hlt, zpr, Option.bind_some, rm, hm, if_pos (by rfl), Option.bind_some, xis, Option.bind_some, dv, k3, nI_1]
      rfl
    · have e : es ++ rowR n p (d + 1) r = es ++ rowR n p d (r + 1) := by rw [rowR, if_neg hm]; rfl
      rw [e] at hl ⊢
      obtain ⟨w2, m1, m2⟩ := ih g (r + 1) w es (by omega) (by omega) (by omega) hc hl
      refine ⟨w2, m1, ?_⟩
      rw [← m2]
      show b_X0_findWithin_29 _ _ fu ev _ _ _ _ _ = _
      unfold b_X0_findWithin_29 b_X0_findWithin_37 b_X0_findWithin_59
      rw [zp, Option.bind_some, dp, if_neg hlt, zpr, Option.bind_some, rm, if_neg (nI_ne0 (by omega) (by have := Nat.mod_le n (p * r); omega)), nI_1]
theorem cw_p (hf : ∀ N : Nat, N ≤ 10 ^ 46 → N + 28 ≤ fu) (hv : OkV v) (hn : n < 7) : ∀ (d f p : Nat) (w : Wd) (es : List (Nat × Nat × Nat × Nat × Nat × Nat)), p + d = n + 1 → 0 < p → d < f → CSt w0 w v es → (es ++ rowP n d p).length ≤ 91 → ∃ w' : Wd, CSt w0 w' v (es ++ rowP n d p) ∧ L_X0_findWithin_21 fu ev f (mem ev w) ev.1 (nI n) (nI p) = some ((), mem ev w') := by
  intro d
  induction d with
  | zero =>
    intro f p w es hp p0 hf hc hl
    obtain ⟨g, rfl⟩ : ∃ g, f = g + 1 := ⟨f - 1, by omega⟩
    refine ⟨w, by rw [rowP, List.append_nil]; exact hc, ?_⟩
    show b_X0_findWithin_21 _ fu ev _ _ _ _ = _
    unfold b_X0_findWithin_21 b_X0_findWithin_71
    rw [if_pos (nI_lt (by omega) (by omega))]
  | succ d ih =>
    intro f p w es hp p0 hf' hc hl
    obtain ⟨g, rfl⟩ : ∃ g, f = g + 1 := ⟨f - 1, by omega⟩
    have e : es ++ rowP n (d + 1) p = (es ++ rowR n p (n / p) 1) ++ rowP n d (p + 1) := by rw [rowP, List.append_assoc]
    rw [e] at hl ⊢
    have l1 : (es ++ rowR n p (n / p) 1).length ≤ 91 := by rw [List.length_append] at hl; omega
    have hnp : n / p < 7 := Nat.lt_of_le_of_lt (Nat.div_le_self _ _) hn
    obtain ⟨w1, k1, k2⟩ := cw_r (ev := ev) (R21 := L_X0_findWithin_21 fu ev g) hf hv hn (show p < 7 by omega) p0 (n / p) fu 1 w es (by omega) (by omega) (by have := hf 0 (by decide); omega) hc l1
    obtain ⟨w2, m1, m2⟩ := ih g (p + 1) w1 _ (by omega) (by omega) (by omega) k1 hl
    refine ⟨w2, m1, ?_⟩
    rw [← m2, ← k2]
    show b_X0_findWithin_21 _ fu ev _ _ _ _ = _
    unfold b_X0_findWithin_21 b_X0_findWithin_26
    rw [if_neg (fun h => by have := (nI_ltI (by omega) (by omega)).mp h; omega)]
    rfl
end XWI
