/-! OPERATION system -/
def rA (f : Nat → Option Nat) (n : Nat) : Option Ob := some (.inl (4, n, .inr (.inr (.inr (.inr f)))))
def nwR (w : Wd) (n : Nat) (f : Nat → Option Nat) : Wd := (w.1, w.2.1, w.2.2.1, va_up w.2.2.2.1 w.2.2.2.2.1 (rA f n), w.2.2.2.2.1 + 1, w.2.2.2.2.2 + n)
def tb7 (i : Nat) : Nat := ([48, 24, 16, 12, 8, 4, 2] : List Nat).getD i 0
def ix7 (n : Nat) : Nat → Nat → Int32
  | 0, _ => -1
  | d + 1, i => if n = tb7 i then nI i else ix7 n d (i + 1)
section XSY
variable {ev : Ev} {w w' : Wd} {fu k n a b c q i M T : Nat} {x u : Int32} {v : Nat → Int64} {K : Option Nat} {f : Nat → Option Nat}
theorem Rel_new (h : Rel ev w M K T) (fx : FrX [] w w') (hs : szW w ≤ szW w') (hd : ∀ a : Nat, a < szW w → dyn w' a = dyn w a) : Rel ev w' M K T := Rel_ln h (FrX_mono fx (by decide)) hs hd (RQa_x h.2.2.2.2.1 fx (by decide) (by decide))
theorem d_nwR (h : ev.1 + 984 ≤ szW w) (hn : n ≤ 100) (h1 : szW w + 1 ≤ ev.2.1) (h2 : slW w + n ≤ ev.2.2.1) : nwA ev (mem ev w) 4 (nI n) 4 (.inr (.inr (.inr (.inr f)))) = some (szW w, mem ev (nwR w n f)) := by
  unfold nwA
  have e1 : (mem ev w).2.1 = szW w := rfl
  have e2 : (mem ev w).2.2 = slW w := rfl
  rw [e1, e2, nI_clamp (by omega), if_pos ⟨nI_pos (by omega), by omega, h1, h2⟩]
  refine congrArg (fun q => some (szW w, q)) ?_
  refine Prod.ext ?_ rfl
  have := congrArg Prod.fst (mem_upd (ev := ev) (w := w) (a := szW w) (o := rA f n) h)
  exact this
theorem d_stR (h : ev.1 + 984 ≤ a) (hd : dyn w a = rA f n) (hk : k < n) (hn : n < 2 ^ 31) {y : Option Nat} (hy : y.all (asg (mem ev w) 4) = true) : astA ev 4 (mem ev w) a (nI k) y = some (mem ev (wD w a (rA (va_up f k y) n))) := by
  unfold astA
  rw [mem_dyn h]
  unfold dyn rA at hd
  rw [hd]
  show (if 4 = 4 ∧ ev.1 ≤ a ∧ (y.all (asg (mem ev w) 4)) = true ∧ ¬ (nI k < 0 ∨ n ≤ (nI k).toNatClampNeg) then some (va_up (mem ev w).1 a (some (.inl (4, n, .inr (.inr (.inr (.inr (va_up f (nI k).toNatClampNeg y))))))), (mem ev w).2) else none) = _
  rw [if_pos ⟨rfl, by omega, hy, nI_in hk hn⟩, nI_clamp (by omega), mem_upd h]
  rfl
theorem d_ldR (h : ev.1 + 984 ≤ a) (hd : dyn w a = rA f n) (hk : k < n) (hn : n < 2 ^ 31) : aldA 4 (mem ev w) a (nI k) = some (f k) := by
  unfold aldA
  rw [mem_dyn h]
  unfold dyn rA at hd
  rw [hd]
  show (if 4 = 4 ∧ ¬ (nI k < 0 ∨ n ≤ (nI k).toNatClampNeg) then some (f (nI k).toNatClampNeg) else none) = _
  rw [if_pos ⟨rfl, nI_in hk hn⟩, nI_clamp (by omega)]
theorem d_lnR (h : ev.1 + 984 ≤ a) (hd : dyn w a = rA f n) : alen (mem ev w) a = some (nI n) := by
  unfold alen
  rw [mem_dyn h]
  unfold dyn rA at hd
  rw [hd]
  rfl
theorem J7eq (hE : EvOk ev) (ha : (mem ev w).1 a = some (.inr (15, [.int (nI n)]))) (hn : n < 2 ^ 31) (hq : q < 128) : f_J7_equals fu ev (mem ev w) (some a) (some (ia ev q)) = some (if n = q then 1 else 0, mem ev w) := by
  have z0 : zbI 0 = some () := by decide
  have z1 : zbI 1 = some () := by decide
  have o10 : ¬ (1 : Int32) = 0 := by decide
  have ns : ((some a : Option Nat) = none) = False := eq_false (by simp)
  have i1 : isC (mem ev w) a 15 = some () := by unfold isC; rw [ha]; rfl
  have g1 : gfI (mem ev w) a 15 0 = some (nI n) := by unfold gfI gfV; rw [ha]; rfl
  have e1 : inC (mem ev w) (some (ia ev q)) "java/lang/Integer" = some 1 := by
    unfold inC
    simp only [ia_at hE hq]
    rfl
  by_cases e : a = ia ev q
  · have hnq : n = q := by
      have h2 := ia_at (w := w) hE hq
      rw [← e, ha] at h2
      injection h2 with h2
      injection h2 with h2
      injection h2 with _ h2
      injection h2 with h2
      injection h2 with h2
      exact (nI_eq hn (by omega)).mp h2
    rw [if_pos hnq]
    simp only [b_J7_equals_22, b_J7_equals_17, b_J7_equals_21, b_J7_equals_9, b_J7_equals_5, b_J7_equals_0, f_J7_equals, e, z1, Option.bind_some, if_true]
  · have ne : ((some a : Option Nat) = some (ia ev q)) = False := eq_false (fun y => e (Option.some.inj y))
    by_cases hnq : n = q
    · rw [if_pos hnq]
      have e3 : nI n = nI q := by rw [hnq]
      simp only [b_J7_equals_22, b_J7_equals_17, b_J7_equals_21, b_J7_equals_9, b_J7_equals_5, b_J7_equals_0, f_J7_equals, b_J32_equals_27, b_J32_equals_26, b_J32_equals_25, b_J32_equals_21, b_J32_equals_7, b_J32_equals_0, f_J32_equals, ne, ns, i1, e1, o10, g1, ia_ck hE hq, ia_is hE hq, ia_val hE hq, e3, z1, Option.bind_some, bd2, if_true, if_false]
    · rw [if_neg hnq]
      have e3 : (nI n = nI q) = False := eq_false (nI_ne hn (by omega) hnq)
      simp only [b_J7_equals_22, b_J7_equals_17, b_J7_equals_21, b_J7_equals_9, b_J7_equals_5, b_J7_equals_0, f_J7_equals, b_J32_equals_27, b_J32_equals_26, b_J32_equals_25, b_J32_equals_21, b_J32_equals_7, b_J32_equals_0, f_J32_equals, ne, ns, i1, e1, o10, g1, ia_ck hE hq, ia_is hE hq, ia_val hE hq, e3, z0, Option.bind_some, bd2, if_true, if_false]
theorem tb7_lt : ∀ i : Nat, i < 7 → tb7 i < 128 := by decide
theorem L_ix (hE : EvOk ev) (ha : (mem ev w).1 a = some (.inr (15, [.int (nI n)]))) (hn : n < 2 ^ 31) (hb : ev.1 + 984 ≤ b) (hd : dyn w b = rA f 7) (hf : ∀ i : Nat, i < 7 → f i = some (ia ev (tb7 i))) : ∀ (d e i : Nat), i + d = 7 → d < e → L_J39_indexOf_26 fu ev e (mem ev w) (some a) (some b) (nI i) = some (ix7 n d i, mem ev w) := by
  intro d
  induction d with
  | zero =>
    intro e i hi he
    obtain ⟨g, rfl⟩ : ∃ g, e = g + 1 := ⟨e - 1, by omega⟩
    obtain rfl : i = 7 := by omega
    show b_J39_indexOf_26 _ fu ev _ _ _ _ = _
    unfold b_J39_indexOf_26
    rw [Option.bind_some, d_lnR hb hd, Option.bind_some, if_pos (Int32.le_refl _)]
    rfl
  | succ d ih =>
    intro e i hi he
    obtain ⟨g, rfl⟩ : ∃ g, e = g + 1 := ⟨e - 1, by omega⟩
    show b_J39_indexOf_26 _ fu ev _ _ _ _ = _
    unfold b_J39_indexOf_26
    rw [Option.bind_some, d_lnR hb hd, Option.bind_some, if_neg (nI_ge (by omega) (by decide))]
    unfold b_J39_indexOf_32
    rw [d_ldR hb hd (by omega) (by decide), Option.bind_some, hf i (by omega), J7eq hE ha hn (tb7_lt i (by omega))]
    show (if (if n = tb7 i then (1 : Int32) else 0) = 0 then _ else _) = some (if n = tb7 i then nI i else ix7 n d (i + 1), _)
    by_cases e1 : n = tb7 i
    · rw [if_pos e1, if_pos e1, if_neg (by decide)]
      rfl
    · rw [if_neg e1, if_neg e1, if_pos rfl]
      unfold b_J39_indexOf_44
      rw [nI_1]
      exact ih g (i + 1) (by omega) (by omega)
/-- the list of seven -/
theorem of7 (hE : EvOk ev) (hf : 20 ≤ fu) (h0 : ev.1 + 984 ≤ szW w) (h1 : szW w + 2 ≤ ev.2.1) (h2 : slW w + 9 ≤ ev.2.2.1) : ∃ (w' : Wd) (f : Nat → Option Nat), f_J34_of fu ev (mem ev w) (some (ia ev 48)) (some (ia ev 24)) (some (ia ev 16)) (some (ia ev 12)) (some (ia ev 8)) (some (ia ev 4)) (some (ia ev 2)) = some (some (szW w + 1), mem ev w') ∧ w'.1 = w.1 ∧ w'.2.1 = w.2.1 ∧ w'.2.2.1 = w.2.2.1 ∧ szW w' = szW w + 2 ∧ slW w' = slW w + 9 ∧ dyn w' (szW w) = rA f 7 ∧ dyn w' (szW w + 1) = some (.inr (12, [.ref (szW w), .int 0])) ∧ (∀ a : Nat, a < szW w → dyn w' a = dyn w a) ∧ ∀ i : Nat, i < 7 → f i = some (ia ev (tb7 i)) := by
  obtain ⟨A, hA⟩ : ∃ A, A = szW w := ⟨_, rfl⟩
  have nw := d_nwR (ev := ev) (w := w) (n := 7) (f := fun _ => none) h0 (by decide) (by omega) (by omega)
  -- seven stores
  have key : ∀ (k : Nat), k ≤ 7 → ∀ (w0 : Wd) (f0 : Nat → Option Nat), True := fun _ _ _ _ => trivial
  obtain ⟨g0, hg0⟩ : ∃ g : Nat → Option Nat, g = fun _ => none := ⟨_, rfl⟩
  obtain ⟨w0, hw0⟩ : ∃ w0, w0 = nwR w 7 g0 := ⟨_, rfl⟩
  rw [← hg0, ← hw0, ← hA] at nw
  have S : ∀ (wa : Wd) (g : Nat → Option Nat) (k q : Nat), dyn wa A = rA g 7 → k < 7 → q < 128 → ∃ wb : Wd, astA ev 4 (mem ev wa) A (nI k) (some (ia ev q)) = some (mem ev wb) ∧ dyn wb A = rA (va_up g k (some (ia ev q))) 7 ∧ (∀ b : Nat, b ≠ A → dyn wb b = dyn wa b) ∧ wb.1 = wa.1 ∧ wb.2.1 = wa.2.1 ∧ wb.2.2.1 = wa.2.2.1 ∧ wb.2.2.2.2 = wa.2.2.2.2 := by
    intro wa g k q hd hk hq
    exact ⟨_, d_stR (by omega) hd hk (by decide) (ia_asg hE hq), by rw [dyn_wD, if_pos rfl], fun b hb => by rw [dyn_wD, if_neg hb], rfl, rfl, rfl, rfl⟩
  have d0 : dyn w0 A = rA g0 7 := by
    rw [hw0, hA]
    show va_up _ _ _ _ = _
    simp [va_up, szW]
  obtain ⟨wa, a1, a2, a3, a4, a5, a6, a7⟩ := S w0 g0 0 48 d0 (by decide) (by decide)
  obtain ⟨wb, b1, b2, b3, b4, b5, b6, b7⟩ := S wa _ 1 24 a2 (by decide) (by decide)
  obtain ⟨wc, c1, c2, c3, c4, c5, c6, c7⟩ := S wb _ 2 16 b2 (by decide) (by decide)
  obtain ⟨wd, d1, d2, d3, d4, d5, d6, d7⟩ := S wc _ 3 12 c2 (by decide) (by decide)
  obtain ⟨we, e1, e2, e3, e4, e5, e6, e7⟩ := S wd _ 4 8 d2 (by decide) (by decide)
  obtain ⟨wf, f1, f2, f3, f4, f5, f6, f7⟩ := S we _ 5 4 e2 (by decide) (by decide)
  obtain ⟨wg, g1, g2, g3, g4, g5, g6, g7⟩ := S wf _ 6 2 f2 (by decide) (by decide)
  have zz : wg.2.2.2.2 = w0.2.2.2.2 := by rw [g7, f7, e7, d7, c7, b7, a7]
  have dyg : ∀ b : Nat, b ≠ A → dyn wg b = dyn w0 b := fun b hb => by rw [g3 b hb, f3 b hb, e3 b hb, d3 b hb, c3 b hb, b3 b hb, a3 b hb]
  have sz0 : szW w0 = szW w + 1 := by rw [hw0]; rfl
  have sl0 : slW w0 = slW w + 7 := by rw [hw0]; rfl
  have szg : szW wg = szW w + 1 := by rw [← sz0]; exact congrArg Prod.fst zz
  have slg : slW wg = slW w + 7 := by rw [← sl0]; exact congrArg Prod.snd zz
  obtain ⟨F, hF⟩ : ∃ F, F = va_up (va_up (va_up (va_up (va_up (va_up (va_up g0 0 (some (ia ev 48))) 1 (some (ia ev 24))) 2 (some (ia ev 16))) 3 (some (ia ev 12))) 4 (some (ia ev 8))) 5 (some (ia ev 4))) 6 (some (ia ev 2)) := ⟨_, rfl⟩
  rw [← hF] at g2
  have Fi : ∀ i : Nat, i < 7 → F i = some (ia ev (tb7 i)) := by
    intro i hi
    rw [hF]
    match i, hi with
    | 0, _ => rfl
    | 1, _ => rfl
    | 2, _ => rfl
    | 3, _ => rfl
    | 4, _ => rfl
    | 5, _ => rfl
    | 6, _ => rfl
  -- the loop
  have lp : ∀ (d e i : Nat), i + d = 7 → d < e → L_J22_listFromTrustedArray_30 fu ev e (mem ev wg) A A (nI 7) (nI i) = b_J22_listFromTrustedArray_52 fu ev (mem ev wg) A := by
    intro d
    induction d with
    | zero =>
      intro e i hi he
      obtain ⟨g, rfl⟩ : ∃ g, e = g + 1 := ⟨e - 1, by omega⟩
      obtain rfl : i = 7 := by omega
      show b_J22_listFromTrustedArray_30 _ fu ev _ _ _ _ _ = _
      unfold b_J22_listFromTrustedArray_30
      rw [if_pos (Int32.le_refl _)]
    | succ d ih =>
      intro e i hi he
      obtain ⟨g, rfl⟩ : ∃ g, e = g + 1 := ⟨e - 1, by omega⟩
      show b_J22_listFromTrustedArray_30 _ fu ev _ _ _ _ _ = _
      unfold b_J22_listFromTrustedArray_30
      rw [if_neg (nI_ge (by omega) (by decide))]
      unfold b_J22_listFromTrustedArray_35
      rw [d_ldR (by omega) g2 (by omega) (by decide), Option.bind_some, Fi i (by omega)]
      show L_J22_listFromTrustedArray_30 fu ev g (mem ev wg) A A (nI 7) (nI i + 1) = _
      rw [nI_1]
      exact ih g (i + 1) (by omega) (by omega)
  -- the object
  have o1 : nwO ev (mem ev wg) 12 2 [.null, .int 0] = some (szW wg, mem ev (nwW wg 2 (.inr (12, [.null, .int 0])))) := d_nwO (by show _ ≤ szW wg; omega) (by show szW wg + 1 ≤ _; omega) (by show slW wg + 2 ≤ _; omega)
  obtain ⟨wh, hwh⟩ : ∃ wh, wh = nwW wg 2 (.inr (12, [.null, .int 0])) := ⟨_, rfl⟩
  rw [← hwh] at o1
  have dh : dyn wh (szW wg) = some (.inr (12, [.null, .int 0])) := by rw [hwh, dyn_nw, if_pos rfl]
  have p1 : pfA ev (mem ev wh) (szW wg) 12 0 (some A) = some (mem ev (wD wh (szW wg) (some (.inr (12, [.ref A, .int 0]))))) := d_pV (k := 0) (by omega) dh (by simp)
  obtain ⟨wi, hwi⟩ : ∃ wi, wi = wD wh (szW wg) (some (.inr (12, [.ref A, .int 0]))) := ⟨_, rfl⟩
  rw [← hwi] at p1
  have di : dyn wi (szW wg) = some (.inr (12, [.ref A, .int 0])) := by rw [hwi, dyn_wD, if_pos rfl]
  have p2 : pfZ ev (mem ev wi) (szW wg) 12 1 0 = some (mem ev (wD wi (szW wg) (some (.inr (12, [.ref A, .int 0]))))) := by
    unfold pfZ
    rw [if_pos (Or.inl rfl)]
    exact d_pV (k := 1) (by omega) di (by simp)
  obtain ⟨wj, hwj⟩ : ∃ wj, wj = wD wi (szW wg) (some (.inr (12, [.ref A, .int 0]))) := ⟨_, rfl⟩
  rw [← hwj] at p2
  have dyj : ∀ b : Nat, dyn wj b = if b = szW wg then some (.inr (12, [.ref A, .int 0])) else dyn wg b := by
    intro b
    rw [hwj, dyn_wD, hwi, dyn_wD, hwh, dyn_nw]
    by_cases e : b = szW wg
    · rw [if_pos e, if_pos e]
    · rw [if_neg e, if_neg e, if_neg e, if_neg e]
  have s10 : gsI ev 10 = some 1 := by unfold gsI; rw [hE.1.2.2.2.2.2.2.2.2.2.2.1]
  have n70 : ¬ nI 7 = (0 : Int32) := by decide
  have n71 : ¬ nI 7 = (1 : Int32) := by decide
  have n72 : ¬ nI 7 = (2 : Int32) := by decide
  have ln := d_lnR (ev := ev) (w := wg) (a := A) (by omega) g2
  have lpp := lp 7 fu 0 (by omega) (by omega)
  rw [nI_0] at lpp
  refine ⟨wj, F, ?_, ?_, ?_, ?_, ?_, ?_, ?_, ?_, fun a ha => ?_, Fi⟩
  · have l0 : (7 : Int32) = nI 7 := rfl
    have a1' : astA ev 4 (mem ev w0) A 0 (some (ia ev 48)) = some (mem ev wa) := a1
    have b1' : astA ev 4 (mem ev wa) A 1 (some (ia ev 24)) = some (mem ev wb) := b1
    have c1' : astA ev 4 (mem ev wb) A 2 (some (ia ev 16)) = some (mem ev wc) := c1
    have d1' : astA ev 4 (mem ev wc) A 3 (some (ia ev 12)) = some (mem ev wd) := d1
    have e1' : astA ev 4 (mem ev wd) A 4 (some (ia ev 8)) = some (mem ev we) := e1
    have f1' : astA ev 4 (mem ev we) A 5 (some (ia ev 4)) = some (mem ev wf) := f1
    have g1' : astA ev 4 (mem ev wf) A 6 (some (ia ev 2)) = some (mem ev wg) := g1
    have nw' : nwA ev (mem ev w) 4 (7 : Int32) 4 (.inr (.inr (.inr (.inr fun _ => none)))) = some (A, mem ev w0) := by rw [hg0] at nw; exact nw
    have o10 : ¬ (1 : Int32) = 0 := by decide
    rw [szg] at o1 p1 p2
    simp only [f_J34_of, b_J34_of_0, nw', a1', b1', c1', d1', e1', f1', g1', f_J22_listFromTrustedArray, b_J22_listFromTrustedArray_0, b_J22_listFromTrustedArray_23, s10, o10, ln, lpp, b_J22_listFromTrustedArray_52, n70, n71, n72, b_J22_listFromTrustedArray_115, b_J22_listFromTrustedArray_124, o1, b_J39_init_0, f_J39_init, b_J37_init_0, f_J37_init, b_J36_init_0, f_J36_init, b_J0_init_0, f_J0_init, p1, p2, Option.bind_some, bd2, if_false]
  · rw [hwj, hwi, hwh]
    show wg.1 = _
    rw [g4, f4, e4, d4, c4, b4, a4, hw0]
    rfl
  · rw [hwj, hwi, hwh]
    show wg.2.1 = _
    rw [g5, f5, e5, d5, c5, b5, a5, hw0]
    rfl
  · rw [hwj, hwi, hwh]
    show wg.2.2.1 = _
    rw [g6, f6, e6, d6, c6, b6, a6, hw0]
    rfl
  · rw [hwj, hwi, hwh]
    show szW wg + 1 = _
    omega
  · rw [hwj, hwi, hwh]
    show slW wg + 2 = _
    omega
  · rw [dyj, if_neg (by omega), ← hA]
    exact g2
  · rw [dyj, if_pos (by omega), ← hA]
  · rw [dyj, if_neg (by omega), dyg a (by omega), hw0]
    show va_up _ _ _ _ = _
    have : a ≠ w.2.2.2.2.1 := by unfold szW at ha; omega
    simp [va_up, this, dyn]
theorem val_new (hE : EvOk ev) (hn : 128 ≤ n) (hn2 : n < 2 ^ 31) (h0 : ev.1 + 984 ≤ szW w) (h1 : szW w + 1 ≤ ev.2.1) (h2 : slW w + 1 ≤ ev.2.2.1) : f_J32_valueOf fu ev (mem ev w) (nI n) = some (some (szW w), mem ev (nwW w 1 (.inr (15, [.int (nI n)])))) := by
  have s0 : gsI ev 0 = some 127 := by unfold gsI; rw [hE.1.1]
  have c1 : ¬ nI n < (-128 : Int32) := by
    intro z
    have := Int32.lt_iff_toInt_lt.mp z
    rw [nI_toInt (by omega), show (-128 : Int32).toInt = -128 from by decide] at this
    omega
  have c2 : (127 : Int32) < nI n := nI_lt (a := 127) (by omega) hn2
  have o1 : nwO ev (mem ev w) 15 1 [.int 0] = some (szW w, mem ev (nwW w 1 (.inr (15, [.int 0])))) := d_nwO h0 h1 h2
  obtain ⟨wh, hwh⟩ : ∃ wh, wh = nwW w 1 (.inr (15, [.int 0])) := ⟨_, rfl⟩
  rw [← hwh] at o1
  have dh : dyn wh (szW w) = some (.inr (15, [.int 0])) := by rw [hwh, dyn_nw, if_pos rfl]
  have p1 : pfI ev (mem ev wh) (szW w) 15 0 (nI n) = some (mem ev (wD wh (szW w) (some (.inr (15, [.int (nI n)]))))) := d_pV (k := 0) h0 dh (by simp)
  have e : wD wh (szW w) (some (.inr (15, [.int (nI n)]))) = nwW w 1 (.inr (15, [.int (nI n)])) := by rw [hwh]; exact wD_nw
  rw [e] at p1
  simp only [b_J32_valueOf_23, b_J32_valueOf_13, b_J32_valueOf_6, b_J32_valueOf_0, f_J32_valueOf, b_J32_init_0, f_J32_init, b_J30_init_0, f_J30_init, c1, c2, s0, o1, p1, Option.bind_some, bd2, if_true, if_false]
/-- how many turns -/
theorem tun3_n {Q : Nat → Bool} {co : Nat → Int32} : ∀ (d c n : Nat), n + d < 2 ^ 31 → ∃ n' : Nat, n ≤ n' ∧ n' ≤ n + d ∧ tun3 Q (-1) co d c (nI n) = .inr (nI n') := by
  intro d
  induction d with
  | zero => intro c n _; exact ⟨n, Nat.le_refl _, Nat.le_refl _, rfl⟩
  | succ d ih =>
    intro c n hn
    have hne : ¬ nI n = (-1 : Int32) := fun z => by
      have h1 : (nI n).toInt = n := nI_toInt (by omega)
      rw [z, show (-1 : Int32).toInt = -1 from by decide] at h1
      omega
    show ∃ n' : Nat, n ≤ n' ∧ n' ≤ n + (d + 1) ∧ (if Q c = true then (if nI n = -1 then .inl (co c) else tun3 Q (-1) co d (c + 1) (nI n + 1)) else tun3 Q (-1) co d (c + 1) (nI n)) = .inr (nI n')
    by_cases e : Q c = true
    · rw [if_pos e, if_neg hne, nI_1]
      obtain ⟨n', a1, a2, a3⟩ := ih (c + 1) (n + 1) (by omega)
      exact ⟨n', by omega, by omega, a3⟩
    · rw [if_neg e]
      obtain ⟨n', a1, a2, a3⟩ := ih (c + 1) n (by omega)
      exact ⟨n', by omega, by omega, a3⟩
theorem tun2_n {Q : Nat → Bool} {J : Nat → Int32 → Int32 ⊕ Int32} {D : Nat} (hJ : ∀ b n : Nat, n + D < 2 ^ 31 → ∃ n' : Nat, n ≤ n' ∧ n' ≤ n + D ∧ J b (nI n) = .inr (nI n')) : ∀ (d b n : Nat), n + d * D < 2 ^ 31 → ∃ n' : Nat, n ≤ n' ∧ n' ≤ n + d * D ∧ tun2 Q J d b (nI n) = .inr (nI n') := by
  intro d
  induction d with
  | zero => intro b n _; exact ⟨n, Nat.le_refl _, by omega, rfl⟩
  | succ d ih =>
    intro b n hn
    rw [Nat.succ_mul] at hn ⊢
    show ∃ n' : Nat, n ≤ n' ∧ n' ≤ n + (d * D + D) ∧ (if Q b = true then (match J b (nI n) with
      | .inl r => .inl r
      | .inr m => tun2 Q J d (b + 1) m) else tun2 Q J d (b + 1) (nI n)) = .inr (nI n')
    by_cases e : Q b = true
    · rw [if_pos e]
      obtain ⟨n1, b1, b2, b3⟩ := hJ b n (by omega)
      rw [b3]
      obtain ⟨n', a1, a2, a3⟩ := ih (b + 1) n1 (by omega)
      exact ⟨n', by omega, by omega, a3⟩
    · rw [if_neg e]
      obtain ⟨n', a1, a2, a3⟩ := ih (b + 1) n (by omega)
      exact ⟨n', by omega, by omega, a3⟩
theorem tuC_n : ∃ n : Nat, n ≤ 19683 ∧ tuC v (-1) = nI n := by
  obtain ⟨n, -, h2, h3⟩ := tun2_n (Q := q1V v) (J := t2V v (-1)) (D := 729) (fun a n hn => by
    obtain ⟨n', c1, c2, c3⟩ := tun2_n (Q := q2V v a) (J := t3V v (-1) a) (D := 27) (fun b n hn => tun3_n 27 0 n hn) 27 0 n (by omega)
    exact ⟨n', c1, by omega, c3⟩) 27 0 0 (by decide)
  refine ⟨n, by omega, ?_⟩
  unfold tuC
  rw [← nI_0, h3]
  rfl
theorem op_system (hE : EvOk ev) (hf : ∀ N : Nat, N ≤ 10 ^ 46 → N + 28 ≤ fu) (hR : Rel ev w M K T) (h1 : szW w + 3 ≤ ev.2.1) (h2 : slW w + 10 ≤ ev.2.2.1) : ∃ (r : Int32) (w1 w2 : Wd), f_X0_system fu ev (mem ev w) ev.1 u = some (r, mem ev w1) ∧ f_X2_system fu ev (mem ev w1) (ev.1 + 966) u = some (r, mem ev w2) ∧ Rel ev w2 M K T ∧ szW w2 ≤ szW w + 3 ∧ slW w2 ≤ slW w + 10 ∧ ∀ l : Nat, l < 6 → sl w2 l = sl w l := by
  have hf0 : 28 ≤ fu := by have := hf 0 (by decide); omega
  obtain ⟨⟨C, F, q, rc⟩, -, -, -, -, -, -, -, -, h984⟩ := id hR
  obtain ⟨hM6, hM, hN, hc⟩ := id rc.1
  by_cases a1 : isc u M = true
  · obtain ⟨c, hck, rfl⟩ := isc_of hM6 a1
    obtain ⟨he, hok⟩ := hc c hck
    obtain ⟨v, hv⟩ : ∃ v, v = sl w c := ⟨_, rfl⟩
    rw [← hv] at he hok
    obtain ⟨N, hN46, hEn, hG, hEq⟩ := good_ends (OkV_fresh hok).1
    obtain ⟨wl, F, o1, o2, o3, o4, o5, o6, o7, o8, o9, o10⟩ := of7 (fu := fu) hE (by omega) h984 (by omega) (by omega)
    obtain ⟨wt, q1, e1⟩ := X0_turnsOfV (ev := ev) (fu := fu) (w := wl) (x := -1) (hf N hN46) (show c < 6 by omega) (by rw [cv_row o2]; exact he) hok hEn
    obtain ⟨n, hn, hn2⟩ := tuC_n (v := itV N (sFresh v))
    rw [hn2] at e1
    have dt : wt.2.2 = wl.2.2 := q1.2.2
    have zt : szW wt = szW w + 2 := by rw [← o5]; unfold szW; rw [dt]
    have yt : slW wt = slW w + 9 := by rw [← o6]; unfold slW; rw [dt]
    have dyt : ∀ a : Nat, dyn wt a = dyn wl a := fun a => by unfold dyn; rw [dt]
    -- the number, as an object
    have vo : ∃ (a : Nat) (w1 : Wd), f_J32_valueOf fu ev (mem ev wt) (nI n) = some (some a, mem ev w1) ∧ (mem ev w1).1 a = some (.inr (15, [.int (nI n)])) ∧ w1.1 = wt.1 ∧ w1.2.1 = wt.2.1 ∧ w1.2.2.1 = wt.2.2.1 ∧ szW w1 ≤ szW wt + 1 ∧ szW wt ≤ szW w1 ∧ slW w1 ≤ slW wt + 1 ∧ ∀ a : Nat, a < szW wt → dyn w1 a = dyn wt a := by
      by_cases e : n < 128
      · exact ⟨ia ev n, wt, ia_of hE e, ia_at hE e, rfl, rfl, rfl, by omega, by omega, by omega, fun _ _ => rfl⟩
      · refine ⟨szW wt, _, val_new hE (by omega) (by omega) (by omega) (by omega) (by omega), ?_, rfl, rfl, rfl, Nat.le_refl _, by show szW wt ≤ szW wt + 1; omega, Nat.le_refl _, fun a ha => by rw [dyn_nw, if_neg (by omega)]⟩
        rw [mem_dyn (by omega)]
        show dyn (nwW wt 1 _) (szW wt) = _
        rw [dyn_nw, if_pos rfl]
    obtain ⟨a, w1, v1, v2, v3, v4, v5, v6, v7, v8, v9⟩ := vo
    have dA : dyn w1 (szW w) = rA F 7 := by rw [v9 _ (by omega), dyt]; exact o7
    have dL : dyn w1 (szW w + 1) = some (.inr (12, [.ref (szW w), .int 0])) := by rw [v9 _ (by omega), dyt]; exact o8
    have ix := L_ix (ev := ev) (fu := fu) (w := w1) (f := F) hE v2 (by omega) (show ev.1 + 984 ≤ szW w by omega) dA o10 7 fu 0 (by omega) (by omega)
    rw [nI_0] at ix
    have g0 : gfA (mem ev w1) (szW w + 1) 12 0 = some (some (szW w)) := by unfold gfA; rw [d_gV (by omega) dL]; rfl
    have gi : gfI (mem ev w1) (szW w + 1) 12 1 = some 0 := by unfold gfI; rw [d_gV (by omega) dL]; rfl
    have isL : isC (mem ev w1) (szW w + 1) 12 = some () := d_isC (by omega) dL
    have ns : ((some a : Option Nat) = none) = False := eq_false (by simp)
    have hM' : w.2.1 0 1 = nI M := hM
    have c1 : f_X0_system fu ev (mem ev w) ev.1 (nI c) = some (if 0 ≤ ix7 n 7 0 then ix7 n 7 0 else -2, mem ev w1) := by
      have i48 : f_J32_valueOf fu ev (mem ev w) (48 : Int32) = some (some (ia ev 48), mem ev w) := ia_of (k := 48) hE (by decide)
      have i24 : f_J32_valueOf fu ev (mem ev w) (24 : Int32) = some (some (ia ev 24), mem ev w) := ia_of (k := 24) hE (by decide)
      have i16 : f_J32_valueOf fu ev (mem ev w) (16 : Int32) = some (some (ia ev 16), mem ev w) := ia_of (k := 16) hE (by decide)
      have i12 : f_J32_valueOf fu ev (mem ev w) (12 : Int32) = some (some (ia ev 12), mem ev w) := ia_of (k := 12) hE (by decide)
      have i8 : f_J32_valueOf fu ev (mem ev w) (8 : Int32) = some (some (ia ev 8), mem ev w) := ia_of (k := 8) hE (by decide)
      have i4 : f_J32_valueOf fu ev (mem ev w) (4 : Int32) = some (some (ia ev 4), mem ev w) := ia_of (k := 4) hE (by decide)
      have i2 : f_J32_valueOf fu ev (mem ev w) (2 : Int32) = some (some (ia ev 2), mem ev w) := ia_of (k := 2) hE (by decide)
      have c10 : ¬ (1 : Int32) = 0 := by decide
      simp only [f_X0_system, b_X0_system_0, b_X0_system_10, xis, X0_isCell hM, a1, if_true, c10, i48, i24, i16, i12, i8, i4, i2, o1, e1, v1, isL, f_J39_indexOf, b_J39_indexOf_0, b_J39_indexOf_7, b_J39_indexOf_19, gi, g0, ns, ix, Option.bind_some, bd2, if_false]
      split <;> rfl
    have fx : FrX [] w w1 := by
      have fa : FrX [] w wl := FrX_row o2 (fun q i _ _ => by rw [o3]) (fun q i _ _ => by rw [o4])
      have fb : FrX [] wt w1 := FrX_row v3 (fun q i _ _ => by rw [v4]) (fun q i _ _ => by rw [v5])
      exact FrX_trans (FrX_trans (U := []) fa (FrX_Sq q1) (by decide) (by decide)) fb (by decide) (by decide)
    have s1 : sl w1 c = v := by rw [fx.2.2.2.2.1.2 (by decide) c (by omega), hv]
    have e2 := X2_turningV (ev := ev) (fu := fu) (w := w1) (x := -1) (hf N hN46) (by decide) (show c < 6 by omega) s1 hEn hEq
    rw [hn2] at e2
    have hN' : w1.2.1 966 2 = nI M := by rw [fx.1 966 2 (by decide) (by decide)]; exact hN
    have c2 : f_X2_system fu ev (mem ev w1) (ev.1 + 966) (nI c) = some (if 0 ≤ ix7 n 7 0 then ix7 n 7 0 else -2, mem ev (setS w1 6 (itV N (sFresh v)))) := by
      have c10 : ¬ (1 : Int32) = 0 := by decide
      have cs : ∀ k : Nat, k < 128 → (nI n = nI k) = (n = k) := fun k hk => propext ⟨fun y => (nI_eq (by omega) (by omega)).mp y, fun y => by rw [y]⟩
      have k2 : (nI n = (2 : Int32)) = (n = 2) := cs 2 (by decide)
      have k4 : (nI n = (4 : Int32)) = (n = 4) := cs 4 (by decide)
      have k8 : (nI n = (8 : Int32)) = (n = 8) := cs 8 (by decide)
      have k12 : (nI n = (12 : Int32)) = (n = 12) := cs 12 (by decide)
      have k16 : (nI n = (16 : Int32)) = (n = 16) := cs 16 (by decide)
      have k24 : (nI n = (24 : Int32)) = (n = 24) := cs 24 (by decide)
      have k48 : (nI n = (48 : Int32)) = (n = 48) := cs 48 (by decide)
      simp only [f_X2_system, b_X2_system_0, b_X2_system_10, mis, X2_isCell hN', a1, if_true, c10, e2, Option.bind_some, bd2, if_false, k2, k4, k8, k12, k16, k24, k48]
      by_cases n48 : n = 48
      · subst n48; rfl
      by_cases n24 : n = 24
      · subst n24; rfl
      by_cases n16 : n = 16
      · subst n16; rfl
      by_cases n12 : n = 12
      · subst n12; rfl
      by_cases n8 : n = 8
      · subst n8; rfl
      by_cases n4 : n = 4
      · subst n4; rfl
      by_cases n2 : n = 2
      · subst n2; rfl
      have ixe : ix7 n 7 0 = -1 := by
        show (if n = 48 then nI 0 else if n = 24 then nI 1 else if n = 16 then nI 2 else if n = 12 then nI 3 else if n = 8 then nI 4 else if n = 4 then nI 5 else if n = 2 then nI 6 else -1) = -1
        rw [if_neg n48, if_neg n24, if_neg n16, if_neg n12, if_neg n8, if_neg n4, if_neg n2]
      rw [ixe, if_neg n2, if_neg n4, if_neg n8, if_neg n12, if_neg n16, if_neg n24, if_neg n48]
      rfl
    have fq := FrX_Sq (Sq_setS (w := w1) (v := itV N (sFresh v)) (K := 6) (Or.inl rfl))
    refine ⟨_, w1, setS w1 6 (itV N (sFresh v)), c1, c2, Rel_new hR (FrX_trans (U := []) fx fq (by decide) (by decide)) (by show szW w ≤ szW w1; omega) (fun a ha => ?_), by show szW w1 ≤ _; omega, by show slW w1 ≤ _; omega, fun l hl => ?_⟩
    · show dyn w1 a = _
      rw [v9 a (by omega), dyt, o9 a ha]
    · rw [sl_ne (by omega)]
      exact fx.2.2.2.2.1.2 (by decide) l hl
  · exact ⟨-1, w, w, by simp only [f_X0_system, b_X0_system_0, b_X0_system_8, xis, X0_isCell hM, a1, Option.bind_some, bd2, b01, if_true, if_false, not_true_eq_false, not_false_eq_true, Bool.false_eq_true, eq_self, Int32.reduceAdd, Int32.reduceMul, Int32.reduceLE, Int32.reduceLT, reduceIte, Int32.add_assoc, ie_0_1, ie_0_2, ie_0_3, ie_0_4, ie_0_5, ie_0_6, ie_0_7, ie_0_8, ie_0_9, ie_1_0, ie_1_2, ie_1_3, ie_1_4, ie_1_5, ie_1_6, ie_1_7, ie_1_8, ie_1_9, ie_2_0, ie_2_1, ie_2_3, ie_2_4, ie_2_5, ie_2_6, ie_2_7, ie_2_8, ie_2_9, ie_3_0, ie_3_1, ie_3_2, ie_3_4, ie_3_5, ie_3_6, ie_3_7, ie_3_8, ie_3_9, ie_4_0, ie_4_1, ie_4_2, ie_4_3, ie_4_5, ie_4_6, ie_4_7, ie_4_8, ie_4_9, ie_5_0, ie_5_1, ie_5_2, ie_5_3, ie_5_4, ie_5_6, ie_5_7, ie_5_8, ie_5_9, ie_6_0, ie_6_1, ie_6_2, ie_6_3, ie_6_4, ie_6_5, ie_6_7, ie_6_8, ie_6_9, ie_7_0, ie_7_1, ie_7_2, ie_7_3, ie_7_4, ie_7_5, ie_7_6, ie_7_8, ie_7_9, ie_8_0, ie_8_1, ie_8_2, ie_8_3, ie_8_4, ie_8_5, ie_8_6, ie_8_7, ie_8_9, ie_9_0, ie_9_1, ie_9_2, ie_9_3, ie_9_4, ie_9_5, ie_9_6, ie_9_7, ie_9_8, nI_1, nI_pred, setC_21, setS_21, wI_same, Int32.reduceSub], by simp only [f_X2_system, b_X2_system_0, b_X2_system_8, mis, X2_isCell hN, a1, Option.bind_some, bd2, b01, if_true, if_false, not_true_eq_false, not_false_eq_true, Bool.false_eq_true, eq_self, Int32.reduceAdd, Int32.reduceMul, Int32.reduceLE, Int32.reduceLT, reduceIte, Int32.add_assoc, ie_0_1, ie_0_2, ie_0_3, ie_0_4, ie_0_5, ie_0_6, ie_0_7, ie_0_8, ie_0_9, ie_1_0, ie_1_2, ie_1_3, ie_1_4, ie_1_5, ie_1_6, ie_1_7, ie_1_8, ie_1_9, ie_2_0, ie_2_1, ie_2_3, ie_2_4, ie_2_5, ie_2_6, ie_2_7, ie_2_8, ie_2_9, ie_3_0, ie_3_1, ie_3_2, ie_3_4, ie_3_5, ie_3_6, ie_3_7, ie_3_8, ie_3_9, ie_4_0, ie_4_1, ie_4_2, ie_4_3, ie_4_5, ie_4_6, ie_4_7, ie_4_8, ie_4_9, ie_5_0, ie_5_1, ie_5_2, ie_5_3, ie_5_4, ie_5_6, ie_5_7, ie_5_8, ie_5_9, ie_6_0, ie_6_1, ie_6_2, ie_6_3, ie_6_4, ie_6_5, ie_6_7, ie_6_8, ie_6_9, ie_7_0, ie_7_1, ie_7_2, ie_7_3, ie_7_4, ie_7_5, ie_7_6, ie_7_8, ie_7_9, ie_8_0, ie_8_1, ie_8_2, ie_8_3, ie_8_4, ie_8_5, ie_8_6, ie_8_7, ie_8_9, ie_9_0, ie_9_1, ie_9_2, ie_9_3, ie_9_4, ie_9_5, ie_9_6, ie_9_7, ie_9_8, nI_1, nI_pred, setC_21, setS_21, wI_same, Int32.reduceSub], hR, by omega, by omega, fun _ _ => rfl⟩
end XSY
