/-! TURNS: the loops of both -/
def t3V (v : Nat → Int64) (x : Int32) (a b : Nat) (n : Int32) : Int32 ⊕ Int32 := tun3 (q3V v a b) x (coV a b) 27 0 n
def t2V (v : Nat → Int64) (x : Int32) (a : Nat) (n : Int32) : Int32 ⊕ Int32 := tun2 (q2V v a) (t3V v x a) 27 0 n
section XTV
variable {ev : Ev} {w w' : Wd} {fu k n a b c K : Nat} {x m : Int32} {v : Nat → Int64}
theorem Lm_t2 {R13 : Mm → Nat → Int32 → Int32 → Int32 → Option (Int32 × Mm)} (hf : 28 ≤ fu) (hv : sl w 6 = v) (ha : a < 27) : ∀ (d f b : Nat) (m : Int32), b + d = 27 → d < f → L_X2_turning_48 R13 fu ev f (mem ev w) (ev.1 + 966) x m (nI a) (nI b) = match tun2 (q2V v a) (t3V v x a) d b m with
    | .inl r => some (r, mem ev w)
    | .inr m' => R13 (mem ev w) (ev.1 + 966) x m' (nI a + 1) := by
  intro d
  induction d with
  | zero =>
    intro f b m hb hf
    obtain ⟨g, rfl⟩ : ∃ g, f = g + 1 := ⟨f - 1, by omega⟩
    obtain rfl : b = 27 := by omega
    show b_X2_turning_48 _ _ fu ev _ _ _ _ _ _ = _
    unfold b_X2_turning_48
    rw [if_pos (show (27 : Int32) ≤ nI 27 by decide)]
    rfl
  | succ d ih =>
    intro f b m hb hf'
    obtain ⟨g, rfl⟩ : ∃ g, f = g + 1 := ⟨f - 1, by omega⟩
    have h6 : 6 < 26 := by decide
    have c1 : f_X2_columns fu ev (mem ev w) (ev.1 + 966) 6 (nI b) (nI b) = some (twV v (fg b) (fg b), mem ev w) := by rw [← hv]; exact X2_columns h6 (by omega) (by omega) (by omega)
    have c2 : f_X2_columns fu ev (mem ev w) (ev.1 + 966) 6 (nI a) (nI b) = some (twV v (fg a) (fg b), mem ev w) := by rw [← hv]; exact X2_columns h6 (by omega) ha (by omega)
    have b1 : f_X2_by fu ev (mem ev w) (ev.1 + 966) 6 1 1 = some (2 * v 1, mem ev w) := by rw [← hv]; exact X2_by_11 h6
    have b2 : f_X2_by fu ev (mem ev w) (ev.1 + 966) 6 0 1 = some (v 5, mem ev w) := by rw [← hv]; exact X2_by_01 h6
    have i1 : ∀ m : Int32, L_X2_turning_48 R13 fu ev g (mem ev w) (ev.1 + 966) x m (nI a) (nI b + 1) = (match tun2 (q2V v a) (t3V v x a) d (b + 1) m with
      | .inl r => some (r, mem ev w)
      | .inr m' => R13 (mem ev w) (ev.1 + 966) x m' (nI a + 1)) := fun m => by rw [nI_1]; exact ih g (b + 1) m (by omega) (by omega)
    have i2 := Lm_t3 (R13 := R13) (R48 := L_X2_turning_48 R13 fu ev g) (fu := fu) (ev := ev) (x := x) (show 4 ≤ fu by omega) hv ha (show b < 27 by omega) 27 fu 0 m (by omega) (by omega)
    rw [nI_0] at i2
    show b_X2_turning_48 _ _ fu ev _ _ _ _ _ _ = _
    unfold b_X2_turning_48
    rw [if_neg (show ¬ (27 : Int32) ≤ nI b from nI_ge (b := 27) (by omega) (by decide))]
    rw [show tun2 (q2V v a) (t3V v x a) (d + 1) b m = (if (decide (twV v (fg b) (fg b) = 2 * v 1) && decide (twV v (fg a) (fg b) = v 5)) = true then (match t3V v x a b m with
      | .inl r => .inl r
      | .inr m' => tun2 (q2V v a) (t3V v x a) d (b + 1) m') else tun2 (q2V v a) (t3V v x a) d (b + 1) m) from rfl]
    by_cases e1 : twV v (fg b) (fg b) = 2 * v 1 <;> by_cases e2 : twV v (fg a) (fg b) = v 5 <;> simp only [b_X2_turning_55, b_X2_turning_77, b_X2_turning_99, b_X2_turning_102, b_X2_turning_211, mis, c1, c2, b1, b2, e1, e2, i1, Option.bind_some, bd2, if_true, if_false, decide_true, decide_false, Bool.and_true, Bool.true_and, Bool.and_false, Bool.false_and, Bool.false_eq_true]
    rw [i2]
    unfold t3V
    cases tun3 (q3V v a b) x (coV a b) 27 0 m with
    | inl r => rfl
    | inr m' => exact i1 m'
theorem Lm_t1 (hf : 28 ≤ fu) (hv : sl w 6 = v) : ∀ (d f a : Nat) (m : Int32), a + d = 27 → d < f → L_X2_turning_13 fu ev f (mem ev w) (ev.1 + 966) x m (nI a) = some ((match tun2 (q1V v) (t2V v x) d a m with
    | .inl r => r
    | .inr m' => if 0 ≤ x then -2 else m'), mem ev w) := by
  intro d
  induction d with
  | zero =>
    intro f a m ha hf
    obtain ⟨g, rfl⟩ : ∃ g, f = g + 1 := ⟨f - 1, by omega⟩
    obtain rfl : a = 27 := by omega
    show b_X2_turning_13 _ fu ev _ _ _ _ _ = some ((if 0 ≤ x then -2 else m), mem ev w)
    unfold b_X2_turning_13 b_X2_turning_223
    rw [if_pos (show (27 : Int32) ≤ nI 27 by decide)]
    split <;> rfl
  | succ d ih =>
    intro f a m ha hf'
    obtain ⟨g, rfl⟩ : ∃ g, f = g + 1 := ⟨f - 1, by omega⟩
    have h6 : 6 < 26 := by decide
    have c1 : f_X2_columns fu ev (mem ev w) (ev.1 + 966) 6 (nI a) (nI a) = some (twV v (fg a) (fg a), mem ev w) := by rw [← hv]; exact X2_columns h6 (by omega) (by omega) (by omega)
    have b1 : f_X2_by fu ev (mem ev w) (ev.1 + 966) 6 0 0 = some (2 * v 0, mem ev w) := by rw [← hv]; exact X2_by_00 h6
    have i1 : ∀ m : Int32, L_X2_turning_13 fu ev g (mem ev w) (ev.1 + 966) x m (nI a + 1) = some ((match tun2 (q1V v) (t2V v x) d (a + 1) m with
      | .inl r => r
      | .inr m' => if 0 ≤ x then -2 else m'), mem ev w) := fun m => by rw [nI_1]; exact ih g (a + 1) m (by omega) (by omega)
    have i2 := Lm_t2 (R13 := L_X2_turning_13 fu ev g) (fu := fu) (ev := ev) (x := x) hf hv (show a < 27 by omega) 27 fu 0 m (by omega) (by omega)
    rw [nI_0] at i2
    show b_X2_turning_13 _ fu ev _ _ _ _ _ = _
    unfold b_X2_turning_13
    rw [if_neg (show ¬ (27 : Int32) ≤ nI a from nI_ge (b := 27) (by omega) (by decide))]
    rw [show tun2 (q1V v) (t2V v x) (d + 1) a m = (if decide (twV v (fg a) (fg a) = 2 * v 0) = true then (match t2V v x a m with
      | .inl r => .inl r
      | .inr m' => tun2 (q1V v) (t2V v x) d (a + 1) m') else tun2 (q1V v) (t2V v x) d (a + 1) m) from rfl]
    by_cases e1 : twV v (fg a) (fg a) = 2 * v 0 <;> simp only [b_X2_turning_20, b_X2_turning_42, b_X2_turning_45, b_X2_turning_217, mis, c1, b1, e1, i1, Option.bind_some, bd2, if_true, if_false, decide_true, decide_false, Bool.false_eq_true]
    rw [i2]
    unfold t2V
    cases tun2 (q2V v a) (t3V v x a) 27 0 m with
    | inl r => rfl
    | inr m' => exact i1 m'
/-! the class -/
theorem half_eq {v u : Nat → Int64} (hu : ∀ i : Nat, i < 3 → (u i).toInt.natAbs ≤ 40) (hv : ∀ i : Nat, i < 6 → (v i).toInt.natAbs ≤ 2000000000) {s : Int64} (hs : s.toInt.natAbs ≤ 2000000000) : twV v u u / 2 = s ↔ twV v u u = 2 * s := by
  have b := (qV_i hu hv).2
  constructor
  · intro h
    rw [tw_two, half b] at h
    rw [tw_two, h]
  · intro h
    rw [h, half (by omega)]
theorem lik_q3 {v : Nat → Int64} (hv : OkV v) (ha : a < 27) (hb : b < 27) (hc : c < 27) (h1 : q1V v a = true) (h2 : q2V v a b = true) : likeV (puV v (fg a) (fg b) (fg c)) v = q3V v a b c := by
  have hB : ∀ i : Nat, i < 6 → (v i).toInt.natAbs ≤ 2000000000 := fun i hi => by have := OkV_abs hv i hi; omega
  unfold q1V at h1
  unfold q2V at h2
  rw [Bool.and_eq_true] at h2
  have e1 := of_decide_eq_true h1
  have e2 := of_decide_eq_true h2.1
  have e3 := of_decide_eq_true h2.2
  have p0 : puV v (fg a) (fg b) (fg c) 0 = v 0 := (half_eq (fg_abs a ha) hB (hB 0 (by decide))).mpr e1
  have p1 : puV v (fg a) (fg b) (fg c) 1 = v 1 := (half_eq (fg_abs b hb) hB (hB 1 (by decide))).mpr e2
  have p5 : puV v (fg a) (fg b) (fg c) 5 = v 5 := e3
  have p2 : puV v (fg a) (fg b) (fg c) 2 = v 2 ↔ twV v (fg c) (fg c) = 2 * v 2 := half_eq (fg_abs c hc) hB (hB 2 (by decide))
  have p3 : puV v (fg a) (fg b) (fg c) 3 = v 3 ↔ twV v (fg b) (fg c) = v 3 := Iff.rfl
  have p4 : puV v (fg a) (fg b) (fg c) 4 = v 4 ↔ twV v (fg a) (fg c) = v 4 := Iff.rfl
  unfold likeV q3V
  rw [p0, p1, p5, decide_eq_decide.mpr p2, decide_eq_decide.mpr p3, decide_eq_decide.mpr p4]
  simp only [decide_true, Bool.true_and, Bool.and_true]
  rw [Bool.and_comm (decide (twV v (fg b) (fg c) = v 3))]
theorem Lx_t3 {R19 : Mm → Nat → Int32 → Int32 → Int32 → Option (Int32 × Mm)} {R79 : Mm → Nat → Int32 → Int32 → Int32 → Int32 → Option (Int32 × Mm)} (hf : 28 ≤ fu) (hok : OkV v) (ha27 : a < 27) (hb27 : b < 27) (h1 : q1V v a = true) (h2 : q2V v a b = true) : ∀ (d f c : Nat) (w : Wd) (m : Int32), c + d = 27 → d < f → cv w 0 = v → (∀ i : Nat, i < 3 → w.1 30 i = fg a i) → (∀ i : Nat, i < 3 → w.1 31 i = fg b i) → ∃ w' : Wd, Sq w w' ∧ cv w' 0 = v ∧ (∀ i : Nat, i < 3 → w'.1 30 i = fg a i) ∧ L_X0_turnsOf_171 R19 R79 fu ev f (mem ev w) ev.1 x m (nI a) (nI b) (nI c) = match tun3 (q3V v a b) x (coV a b) d c m with
    | .inl r => some (r, mem ev w')
    | .inr m' => R79 (mem ev w') ev.1 x m' (nI a) (nI b + 1) := by
  intro d
  induction d with
  | zero =>
    intro f c w m hc hf hv ha hb
    obtain ⟨g, rfl⟩ : ∃ g, f = g + 1 := ⟨f - 1, by omega⟩
    obtain rfl : c = 27 := by omega
    refine ⟨w, Sq_refl w, hv, ha, ?_⟩
    show b_X0_turnsOf_171 _ _ _ fu ev _ _ _ _ _ _ _ = _
    unfold b_X0_turnsOf_171
    rw [if_pos (show (27 : Int32) ≤ nI 27 by decide)]
    rfl
  | succ d ih =>
    intro f c w m hc hf' hv ha hb
    obtain ⟨g, rfl⟩ : ∃ g, f = g + 1 := ⟨f - 1, by omega⟩
    have f2 : Fi 32 := Or.inr (Or.inr rfl)
    obtain ⟨wa, hwa⟩ : ∃ wa, wa = w3 w 32 (fg c 0) (fg c 1) (fg c 2) := ⟨_, rfl⟩
    have fg_ := X0_figures (ev := ev) (w := w) (fu := fu) (a := c) f2
    rw [← hwa] at fg_
    have qa : Sq w wa := by rw [hwa]; exact Sq_w3 f2
    have va : cv wa 0 = v := by rw [hwa, cv_w3 f2 (by decide), hv]
    have ra : wa.1 30 = w.1 30 := by rw [hwa]; exact w3_ne (by decide)
    have rb : wa.1 31 = w.1 31 := by rw [hwa]; exact w3_ne (by decide)
    have rc : ∀ i : Nat, i < 3 → wa.1 32 i = fg c i := by
      intro i hi
      rw [hwa]
      match i, hi with
      | 0, _ => exact w3_0
      | 1, _ => exact w3_1
      | 2, _ => exact w3_2
    have pe : puV (cv wa 0) (wa.1 30) (wa.1 31) (wa.1 32) = puV v (fg a) (fg b) (fg c) := by
      unfold puV
      rw [va, ra, rb, tw_ext ha ha, tw_ext hb hb, tw_ext rc rc, tw_ext hb rc, tw_ext ha rc, tw_ext ha hb]
    have pu := X1_puts (ev := ev) (w := wa) (fu := fu) (by omega)
    rw [pe] at pu
    obtain ⟨wb, hwb⟩ : ∃ wb, wb = setC wa 2 (puV v (fg a) (fg b) (fg c)) := ⟨_, rfl⟩
    rw [← hwb] at pu
    have qb : Sq w wb := by rw [hwb]; exact Sq_trans qa (Sq_setC (by decide))
    have vb : cv wb 0 = v := by rw [hwb, cv_ne (by decide), va]
    have v2 : cv wb 2 = puV v (fg a) (fg b) (fg c) := by rw [hwb]; exact cv_mk Mk_tell
    have rbb : ∀ q : Nat, 30 ≤ q → q ≤ 33 → wb.1 q = wa.1 q := by
      intro q h1 h2
      rw [hwb]
      funext i
      have := cr_lt (c := 2) (by decide)
      have e : cr 2 = 18 := rfl
      simp only [setC]
      rw [if_neg (by omega), if_neg (by omega), if_neg (by omega), if_neg (by omega), if_neg (by omega)]
    have li := X1_isLike (ev := ev) (w := wb) (fu := fu) (c := 2) (c2 := 0) (by decide) (by decide) (by omega)
    rw [v2, vb, lik_q3 hok ha27 hb27 (by omega) h1 h2] at li
    have ab : ∀ i : Nat, i < 3 → wb.1 30 i = fg a i := fun i hi => by rw [rbb 30 (by decide) (by decide), ra]; exact ha i hi
    have bb : ∀ i : Nat, i < 3 → wb.1 31 i = fg b i := fun i hi => by rw [rbb 31 (by decide) (by decide), rb]; exact hb i hi
    have hd : L_X0_turnsOf_171 R19 R79 fu ev (g + 1) (mem ev w) ev.1 x m (nI a) (nI b) (nI c) = if q3V v a b c = true then (if m = x then some (coV a b c, mem ev wb) else L_X0_turnsOf_171 R19 R79 fu ev g (mem ev wb) ev.1 x (m + 1) (nI a) (nI b) (nI (c + 1))) else L_X0_turnsOf_171 R19 R79 fu ev g (mem ev wb) ev.1 x m (nI a) (nI b) (nI (c + 1)) := by
      show b_X0_turnsOf_171 _ _ _ fu ev _ _ _ _ _ _ _ = _
      unfold b_X0_turnsOf_171
      rw [if_neg (show ¬ (27 : Int32) ≤ nI c from nI_ge (b := 27) (by omega) (by decide))]
      have z1 : ¬ (1 : Int32) = 0 := by decide
      cases hq : q3V v a b c with
      | true =>
        rw [hq] at li
        simp only [if_true] at li
        simp only [b_X0_turnsOf_178, b_X0_turnsOf_228, b_X0_turnsOf_233, b_X0_turnsOf_249, b_X0_turnsOf_252, xf10, xfig0, xfig1, xfig2, xf4, xf2, fg_, pu, li, cis (show 2 < 118 by decide), Option.bind_some, bd2, z1, if_false, if_true, nI_1]
        rfl
      | false =>
        rw [hq] at li
        simp only [Bool.false_eq_true, if_false] at li
        simp only [b_X0_turnsOf_178, b_X0_turnsOf_252, xf10, xfig0, xfig1, xfig2, xf4, xf2, fg_, pu, li, cis (show 2 < 118 by decide), Option.bind_some, bd2, if_false, if_true, nI_1, Bool.false_eq_true]
    rw [hd, show tun3 (q3V v a b) x (coV a b) (d + 1) c m = (if q3V v a b c = true then (if m = x then .inl (coV a b c) else tun3 (q3V v a b) x (coV a b) d (c + 1) (m + 1)) else tun3 (q3V v a b) x (coV a b) d (c + 1) m) from rfl]
    by_cases e1 : q3V v a b c = true
    · rw [if_pos e1, if_pos e1]
      by_cases e2 : m = x
      · rw [if_pos e2, if_pos e2]
        exact ⟨wb, qb, vb, ab, rfl⟩
      · rw [if_neg e2, if_neg e2]
        obtain ⟨w', s1, s2, s3, s4⟩ := ih g (c + 1) wb (m + 1) (by omega) (by omega) vb ab bb
        exact ⟨w', Sq_trans qb s1, s2, s3, s4⟩
    · rw [if_neg e1, if_neg e1]
      obtain ⟨w', s1, s2, s3, s4⟩ := ih g (c + 1) wb m (by omega) (by omega) vb ab bb
      exact ⟨w', Sq_trans qb s1, s2, s3, s4⟩
theorem Lx_t2 {R19 : Mm → Nat → Int32 → Int32 → Int32 → Option (Int32 × Mm)} (hf : 28 ≤ fu) (hok : OkV v) (ha27 : a < 27) (h1 : q1V v a = true) : ∀ (d f b : Nat) (w : Wd) (m : Int32), b + d = 27 → d < f → cv w 0 = v → (∀ i : Nat, i < 3 → w.1 30 i = fg a i) → ∃ w' : Wd, Sq w w' ∧ cv w' 0 = v ∧ L_X0_turnsOf_79 R19 fu ev f (mem ev w) ev.1 x m (nI a) (nI b) = match tun2 (q2V v a) (t3V v x a) d b m with
    | .inl r => some (r, mem ev w')
    | .inr m' => R19 (mem ev w') ev.1 x m' (nI a + 1) := by
  intro d
  induction d with
  | zero =>
    intro f b w m hb hf hv ha
    obtain ⟨g, rfl⟩ : ∃ g, f = g + 1 := ⟨f - 1, by omega⟩
    obtain rfl : b = 27 := by omega
    refine ⟨w, Sq_refl w, hv, ?_⟩
    show b_X0_turnsOf_79 _ _ fu ev _ _ _ _ _ _ = _
    unfold b_X0_turnsOf_79
    rw [if_pos (show (27 : Int32) ≤ nI 27 by decide)]
    rfl
  | succ d ih =>
    intro f b w m hb hf' hv ha
    obtain ⟨g, rfl⟩ : ∃ g, f = g + 1 := ⟨f - 1, by omega⟩
    have f0 : Fi 30 := Or.inl rfl
    have f1 : Fi 31 := Or.inr (Or.inl rfl)
    have h0 : 0 < 118 := by decide
    obtain ⟨wa, hwa⟩ : ∃ wa, wa = w3 w 31 (fg b 0) (fg b 1) (fg b 2) := ⟨_, rfl⟩
    have fg_ := X0_figures (ev := ev) (w := w) (fu := fu) (a := b) f1
    rw [← hwa] at fg_
    have qa : Sq w wa := by rw [hwa]; exact Sq_w3 f1
    have va : cv wa 0 = v := by rw [hwa, cv_w3 f1 (by decide), hv]
    have ra : ∀ i : Nat, i < 3 → wa.1 30 i = fg a i := fun i hi => by rw [hwa, w3_ne (by decide)]; exact ha i hi
    have rb : ∀ i : Nat, i < 3 → wa.1 31 i = fg b i := by
      intro i hi
      rw [hwa]
      match i, hi with
      | 0, _ => exact w3_0
      | 1, _ => exact w3_1
      | 2, _ => exact w3_2
    have t1 := X1_twice (ev := ev) (w := wa) (fu := fu) (c := 0) h0 (by omega) f1 f1
    have t2 := X1_twice (ev := ev) (w := wa) (fu := fu) (c := 0) h0 (by omega) f0 f1
    rw [va, tw_ext rb rb] at t1
    rw [va, tw_ext ra rb] at t2
    have l1 := cl11 (ev := ev) (w := wa) h0
    have l5 := cl22 (ev := ev) (w := wa) h0
    rw [va] at l1 l5
    have hd : L_X0_turnsOf_79 R19 fu ev (g + 1) (mem ev w) ev.1 x m (nI a) (nI b) = if q2V v a b = true then L_X0_turnsOf_171 R19 (L_X0_turnsOf_79 R19 fu ev g) fu ev fu (mem ev wa) ev.1 x m (nI a) (nI b) (nI 0) else L_X0_turnsOf_79 R19 fu ev g (mem ev wa) ev.1 x m (nI a) (nI (b + 1)) := by
      show b_X0_turnsOf_79 _ _ fu ev _ _ _ _ _ _ = _
      unfold b_X0_turnsOf_79 q2V
      rw [if_neg (show ¬ (27 : Int32) ≤ nI b from nI_ge (b := 27) (by omega) (by decide))]
      by_cases e1 : twV v (fg b) (fg b) = 2 * v 1 <;> by_cases e2 : twV v (fg a) (fg b) = v 5 <;> simp only [b_X0_turnsOf_86, b_X0_turnsOf_133, b_X0_turnsOf_165, b_X0_turnsOf_168, b_X0_turnsOf_258, xf10, xfig0, xfig1, xf2, fg_, cis h0, cf0 h0, cf1 h0, t1, t2, l1, l5, e1, e2, Option.bind_some, bd2, if_false, if_true, nI_1, nI_0, decide_true, decide_false, Bool.and_true, Bool.true_and, Bool.and_false, Bool.false_and, Bool.false_eq_true]
    rw [hd, show tun2 (q2V v a) (t3V v x a) (d + 1) b m = (if q2V v a b = true then (match t3V v x a b m with
      | .inl r => .inl r
      | .inr m' => tun2 (q2V v a) (t3V v x a) d (b + 1) m') else tun2 (q2V v a) (t3V v x a) d (b + 1) m) from rfl]
    by_cases e1 : q2V v a b = true
    · rw [if_pos e1, if_pos e1]
      obtain ⟨wb, s1, s2, s3, s4⟩ := Lx_t3 (R19 := R19) (R79 := L_X0_turnsOf_79 R19 fu ev g) (ev := ev) (x := x) hf hok ha27 (show b < 27 by omega) h1 e1 27 fu 0 wa m (by omega) (by omega) va ra rb
      rw [s4]
      unfold t3V
      cases tun3 (q3V v a b) x (coV a b) 27 0 m with
      | inl r => exact ⟨wb, Sq_trans qa s1, s2, rfl⟩
      | inr m' =>
        obtain ⟨w', r1, r2, r3⟩ := ih g (b + 1) wb m' (by omega) (by omega) s2 s3
        refine ⟨w', Sq_trans (Sq_trans qa s1) r1, r2, ?_⟩
        show L_X0_turnsOf_79 R19 fu ev g (mem ev wb) ev.1 x m' (nI a) (nI b + 1) = _
        rw [nI_1]
        exact r3
    · rw [if_neg e1, if_neg e1]
      obtain ⟨w', r1, r2, r3⟩ := ih g (b + 1) wa m (by omega) (by omega) va ra
      exact ⟨w', Sq_trans qa r1, r2, r3⟩
theorem Lx_t1 (hf : 28 ≤ fu) (hok : OkV v) : ∀ (d f a : Nat) (w : Wd) (m : Int32), a + d = 27 → d < f → cv w 0 = v → ∃ w' : Wd, Sq w w' ∧ L_X0_turnsOf_19 fu ev f (mem ev w) ev.1 x m (nI a) = some ((match tun2 (q1V v) (t2V v x) d a m with
    | .inl r => r
    | .inr m' => if x = -1 then m' else -2), mem ev w') := by
  intro d
  induction d with
  | zero =>
    intro f a w m ha hf hv
    obtain ⟨g, rfl⟩ : ∃ g, f = g + 1 := ⟨f - 1, by omega⟩
    obtain rfl : a = 27 := by omega
    refine ⟨w, Sq_refl w, ?_⟩
    show b_X0_turnsOf_19 _ fu ev _ _ _ _ _ = some ((if x = -1 then m else -2), mem ev w)
    unfold b_X0_turnsOf_19 b_X0_turnsOf_270
    rw [if_pos (show (27 : Int32) ≤ nI 27 by decide)]
    split <;> rfl
  | succ d ih =>
    intro f a w m ha hf' hv
    obtain ⟨g, rfl⟩ : ∃ g, f = g + 1 := ⟨f - 1, by omega⟩
    have f0 : Fi 30 := Or.inl rfl
    have h0 : 0 < 118 := by decide
    obtain ⟨wa, hwa⟩ : ∃ wa, wa = w3 w 30 (fg a 0) (fg a 1) (fg a 2) := ⟨_, rfl⟩
    have fg_ := X0_figures (ev := ev) (w := w) (fu := fu) (a := a) f0
    rw [← hwa] at fg_
    have qa : Sq w wa := by rw [hwa]; exact Sq_w3 f0
    have va : cv wa 0 = v := by rw [hwa, cv_w3 f0 (by decide), hv]
    have ra : ∀ i : Nat, i < 3 → wa.1 30 i = fg a i := by
      intro i hi
      rw [hwa]
      match i, hi with
      | 0, _ => exact w3_0
      | 1, _ => exact w3_1
      | 2, _ => exact w3_2
    have t1 := X1_twice (ev := ev) (w := wa) (fu := fu) (c := 0) h0 (by omega) f0 f0
    rw [va, tw_ext ra ra] at t1
    have l1 := cl10 (ev := ev) (w := wa) h0
    rw [va] at l1
    have hd : L_X0_turnsOf_19 fu ev (g + 1) (mem ev w) ev.1 x m (nI a) = if q1V v a = true then L_X0_turnsOf_79 (L_X0_turnsOf_19 fu ev g) fu ev fu (mem ev wa) ev.1 x m (nI a) (nI 0) else L_X0_turnsOf_19 fu ev g (mem ev wa) ev.1 x m (nI (a + 1)) := by
      show b_X0_turnsOf_19 _ fu ev _ _ _ _ _ = _
      unfold b_X0_turnsOf_19 q1V
      rw [if_neg (show ¬ (27 : Int32) ≤ nI a from nI_ge (b := 27) (by omega) (by decide))]
      by_cases e1 : twV v (fg a) (fg a) = 2 * v 0 <;> simp only [b_X0_turnsOf_26, b_X0_turnsOf_73, b_X0_turnsOf_76, b_X0_turnsOf_264, xf10, xfig0, xf2, fg_, cis h0, cf0 h0, t1, l1, e1, Option.bind_some, bd2, if_false, if_true, nI_1, nI_0, decide_true, decide_false, Bool.false_eq_true]
    rw [hd, show tun2 (q1V v) (t2V v x) (d + 1) a m = (if q1V v a = true then (match t2V v x a m with
      | .inl r => .inl r
      | .inr m' => tun2 (q1V v) (t2V v x) d (a + 1) m') else tun2 (q1V v) (t2V v x) d (a + 1) m) from rfl]
    by_cases e1 : q1V v a = true
    · rw [if_pos e1, if_pos e1]
      obtain ⟨wb, s1, s2, s4⟩ := Lx_t2 (R19 := L_X0_turnsOf_19 fu ev g) (ev := ev) (x := x) hf hok (show a < 27 by omega) e1 27 fu 0 wa m (by omega) (by omega) va ra
      rw [s4]
      unfold t2V
      cases tun2 (q2V v a) (t3V v x a) 27 0 m with
      | inl r => exact ⟨wb, Sq_trans qa s1, rfl⟩
      | inr m' =>
        obtain ⟨w', r1, r3⟩ := ih g (a + 1) wb m' (by omega) (by omega) s2
        refine ⟨w', Sq_trans (Sq_trans qa s1) r1, ?_⟩
        show L_X0_turnsOf_19 fu ev g (mem ev wb) ev.1 x m' (nI a + 1) = _
        rw [nI_1]
        exact r3
    · rw [if_neg e1, if_neg e1]
      obtain ⟨w', r1, r3⟩ := ih g (a + 1) wa m (by omega) (by omega) va
      exact ⟨w', Sq_trans qa r1, r3⟩
end XTV
