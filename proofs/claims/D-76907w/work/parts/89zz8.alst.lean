/-! SIX NUMBERS IN ORDER: new things, boxes of longs, the list -/
/-- only new things -/
def Nw (w w' : Wd) (c t : Nat) : Prop := w'.1 = w.1 ∧ w'.2.1 = w.2.1 ∧ w'.2.2.1 = w.2.2.1 ∧ szW w ≤ szW w' ∧ szW w' ≤ szW w + c ∧ slW w' ≤ slW w + t ∧ ∀ a : Nat, a < szW w → dyn w' a = dyn w a
section XNW
variable {ev : Ev} {w w' w'' : Wd} {fu a A L n c t c' t' i j k M T : Nat} {K : Option Nat} {x : Int64} {e : Nat → Option Nat} {ad q : Nat → Nat} {b : Nat → Int64}
theorem Nw_refl : Nw w w 0 0 := ⟨rfl, rfl, rfl, Nat.le_refl _, Nat.le_refl _, Nat.le_refl _, fun _ _ => rfl⟩
theorem Nw_trans (h : Nw w w' c t) (h2 : Nw w' w'' c' t') : Nw w w'' (c + c') (t + t') := by
  obtain ⟨a1, a2, a3, a4, a5, a6, a7⟩ := h
  obtain ⟨b1, b2, b3, b4, b5, b6, b7⟩ := h2
  exact ⟨b1.trans a1, b2.trans a2, b3.trans a3, by omega, by omega, by omega, fun a ha => (b7 a (by omega)).trans (a7 a ha)⟩
theorem Nw_le (h : Nw w w' c t) (h1 : c ≤ c') (h2 : t ≤ t') : Nw w w' c' t' := by
  obtain ⟨a1, a2, a3, a4, a5, a6, a7⟩ := h
  exact ⟨a1, a2, a3, a4, by omega, by omega, a7⟩
theorem Nw_mem (h : Nw w w' c t) (ha : a < szW w) : (mem ev w').1 a = (mem ev w).1 a := by
  show (if a < ev.1 then ev.2.2.2.2 a else if a < ev.1 + 984 then fx ev w' (a - ev.1) else dyn w' a) = if a < ev.1 then ev.2.2.2.2 a else if a < ev.1 + 984 then fx ev w (a - ev.1) else dyn w a
  rw [fx_congr (ev := ev) (w := w) (w' := w') (r := a - ev.1) (by rw [h.1]) (by rw [h.2.1]) (by rw [h.2.2.1]), h.2.2.2.2.2.2 a ha]
theorem Rel_Nw (h : Rel ev w M K T) (f : Nw w w' c t) : Rel ev w' M K T := by
  have fX : FrX [] w w' := FrX_row f.1 (fun _ _ _ _ => by rw [f.2.1]) (fun _ _ _ _ => by rw [f.2.2.1])
  have fR : FrR w w' := ⟨f.2.2.2.1, fun a ha _ => f.2.2.2.2.2.2 a ha⟩
  exact Rel_row h (FrX_mono fX (by decide)) fR (RRw_x h.2.2.2.2.2.2.1 fX (by decide) (by decide) ⟨f.2.2.2.1, fun a ha _ => f.2.2.2.2.2.2 a ha⟩)
theorem Nw_new {N : Nat} {o : Ob} : Nw w (nwW w N o) 1 N := ⟨rfl, rfl, rfl, Nat.le_succ _, Nat.le_refl _, Nat.le_refl _, fun a ha => by
  show va_up w.2.2.2.1 w.2.2.2.2.1 (some o) a = w.2.2.2.1 a
  have : a ≠ w.2.2.2.2.1 := by unfold szW at ha; omega
  simp [va_up, this]⟩
theorem Nw_wD {o : Option Ob} (h : Nw w w' c t) (hA : szW w ≤ A) : Nw w (wD w' A o) c t := by
  obtain ⟨a1, a2, a3, a4, a5, a6, a7⟩ := h
  refine ⟨a1, a2, a3, a4, a5, a6, fun a ha => ?_⟩
  have : a ≠ A := by omega
  have e : dyn (wD w' A o) a = dyn w' a := by
    show va_up w'.2.2.2.1 A o a = w'.2.2.2.1 a
    simp [va_up, this]
  rw [e]
  exact a7 a ha
theorem dn_new {N : Nat} {o : Ob} : dyn (nwW w N o) (szW w) = some o := by
  show va_up w.2.2.2.1 w.2.2.2.2.1 (some o) w.2.2.2.2.1 = some o
  simp [va_up]
theorem dn_wD {o : Option Ob} : dyn (wD w A o) A = o := by
  show va_up w.2.2.2.1 A o A = o
  simp [va_up]
theorem dn_ne {o : Option Ob} (h : a ≠ A) : dyn (wD w A o) a = dyn w a := by
  show va_up w.2.2.2.1 A o a = w.2.2.2.1 a
  simp [va_up, h]
theorem wD_self {o : Option Ob} (h : dyn w A = o) : wD w A o = w := by
  have e2 : va_up w.2.2.2.1 A o = w.2.2.2.1 := by
    funext a
    by_cases z : a = A
    · subst z
      simp only [va_up]
      exact h.symm
    · simp [va_up, z]
  show (w.1, w.2.1, w.2.2.1, va_up w.2.2.2.1 A o, w.2.2.2.2) = w
  rw [e2]
/-- Long.valueOf -/
theorem v_of (hE : EvOk ev) (hz : ev.1 + 984 ≤ szW w) (h1 : szW w + 1 ≤ ev.2.1) (h2 : slW w + 1 ≤ ev.2.2.1) : ∃ (a : Nat) (w' : Wd), f_J31_valueOf fu ev (mem ev w) x = some (some a, mem ev w') ∧ Nw w w' 1 1 ∧ (mem ev w').1 a = some (.inr (16, [.long x])) ∧ (a < ev.1 ∨ (a = szW w ∧ szW w' = szW w + 1)) := by
  have big : ∃ (a : Nat) (w' : Wd), b_J31_valueOf_31 fu ev (mem ev w) x = some (some a, mem ev w') ∧ Nw w w' 1 1 ∧ (mem ev w').1 a = some (.inr (16, [.long x])) ∧ (a < ev.1 ∨ (a = szW w ∧ szW w' = szW w + 1)) := by
    refine ⟨szW w, wD (nwW w 1 (.inr (16, [.long 0]))) (szW w) (some (.inr (16, [.long x]))), ?_, Nw_wD Nw_new (Nat.le_refl _), mD_eq hz, Or.inr ⟨rfl, rfl⟩⟩
    unfold b_J31_valueOf_31
    rw [d_nwO hz h1 h2, b2s]
    show bd2 (f_J31_init fu ev (mem ev (nwW w 1 (.inr (16, [.long 0])))) (szW w) x) _ = _
    have e : f_J31_init fu ev (mem ev (nwW w 1 (.inr (16, [.long 0])))) (szW w) x = some ((), mem ev (wD (nwW w 1 (.inr (16, [.long 0]))) (szW w) (some (.inr (16, [.long x]))))) := by
      unfold f_J31_init b_J31_init_0
      show (pfJ ev (mem ev (nwW w 1 (.inr (16, [.long 0])))) (szW w) 16 0 x).bind _ = _
      unfold pfJ
      rw [d_pV (k := 0) hz dn_new (by decide)]
      rfl
    rw [e]
    rfl
  unfold f_J31_valueOf b_J31_valueOf_0
  by_cases c1 : x < (-128 : Int64)
  · rw [if_pos c1]; exact big
  · rw [if_neg c1]
    unfold b_J31_valueOf_12
    by_cases c2 : (127 : Int64) < x
    · rw [if_pos c2]; exact big
    · rw [if_neg c2]
      have l1 : (-128 : Int) ≤ x.toInt := by
        have := Int64.le_iff_toInt_le.mp (Int64.not_lt.mp c1)
        rw [show (-128 : Int64).toInt = -128 from by decide] at this
        exact this
      have l2 : x.toInt ≤ 127 := by
        have := Int64.le_iff_toInt_le.mp (Int64.not_lt.mp c2)
        rw [show (127 : Int64).toInt = 127 from by decide] at this
        exact this
      obtain ⟨k, hk⟩ : ∃ k : Nat, (k : Int) = x.toInt + 128 := ⟨(x.toInt + 128).toNat, by omega⟩
      have hk6 : k < 256 := by omega
      have x32 : x.toInt32.toInt = x.toInt := by
        rw [Int64.toInt_toInt32]
        exact Int.bmod_eq_of_le (by omega) (by omega)
      have i1 : x.toInt32 + (128 : Int32) = nI k := by
        apply Int32.toInt_inj.mp
        rw [Int32.toInt_add, x32, nI_toInt (by omega), show (128 : Int32).toInt = 128 from by decide, hk]
        exact Int.bmod_eq_of_le (by omega) (by omega)
      have i2 : (vb_c k).toInt64 = x := by
        have e : vb_c k = x.toInt32 := by
          unfold vb_c
          show nI k - 128 = _
          rw [← i1]
          exact Int32.add_sub_cancel _ _
        rw [e]
        apply Int64.toInt_inj.mp
        rw [Int32.toInt_toInt64, x32]
      obtain ⟨⟨s0, s1, s2, -⟩, -, -, c3, c4, -, -, -, -, -, -, -, hlt⟩ := hE
      have g1 : gsA ev 2 = some (some (xst ev 2)) := by unfold gsA; rw [s2]
      have g2 : aldA 8 (mem ev w) (xst ev 2) (nI k) = some (some (xel ev (xst ev 2) k)) := by
        unfold aldA
        rw [mem_old (hlt _ _ c3), c3]
        show (if 8 = 8 ∧ ¬ (nI k < 0 ∨ 256 ≤ (nI k).toNatClampNeg) then some (if (nI k).toNatClampNeg < 256 then some (xel ev (xst ev 2) (nI k).toNatClampNeg) else none) else none) = _
        rw [if_pos ⟨rfl, nI_in hk6 (by decide)⟩, nI_clamp (by omega), if_pos hk6]
      have lt := hlt _ _ (c4 k hk6)
      refine ⟨xel ev (xst ev 2) k, w, ?_, Nw_le Nw_refl (by decide) (by decide), ?_, Or.inl lt⟩
      · unfold b_J31_valueOf_20
        rw [g1, Option.bind_some, Option.bind_some, i1, g2]
        rfl
      · rw [mem_old lt, c4 k hk6, i2]
/-- the list of longs at L, its array at A, n numbers in it -/
def ALs (ev : Ev) (w : Wd) (L A n : Nat) (e : Nat → Option Nat) (ad : Nat → Nat) (b : Nat → Int64) : Prop := ev.1 + 984 ≤ L ∧ ev.1 + 984 ≤ A ∧ L < szW w ∧ A < szW w ∧ L ≠ A ∧ dyn w L = some (.inr (11, [.int (nI n), .ref A, .int (nI n)])) ∧ dyn w A = oAr e ∧ ∀ j : Nat, j < n → e j = some (ad j) ∧ ad j ≠ A ∧ ad j ≠ L ∧ ad j < szW w ∧ (mem ev w).1 (ad j) = some (.inr (16, [.long (b j)]))
theorem l_gI {l : List Value} {y : Int32} (h : ev.1 + 984 ≤ L) (hd : dyn w L = some (.inr (11, l))) (hk : l[k]? = some (.int y)) : gfI (mem ev w) L 11 k = some y := by
  unfold gfI
  rw [d_gV h hd, hk]
theorem l_gA {l : List Value} {y : Nat} (h : ev.1 + 984 ≤ L) (hd : dyn w L = some (.inr (11, l))) (hk : l[k]? = some (.ref y)) : gfA (mem ev w) L 11 k = some (some y) := by
  unfold gfA
  rw [d_gV h hd, hk]
theorem l_is {l : List Value} (h : ev.1 + 984 ≤ L) (hd : dyn w L = some (.inr (11, l))) : isC (mem ev w) L 11 = some () := by
  unfold isC
  rw [mem_dyn h]
  unfold dyn at hd
  rw [hd]
  exact if_pos rfl
/-- a number goes into the list, which has room -/
theorem al_add (hn : n < 6) (h : ALs ev w L A n e ad b) (ha : (mem ev w).1 a = some (.inr (16, [.long x]))) (haA : a ≠ A) (haL : a ≠ L) (has : a < szW w) (hbx : b n = x) (hn0 : 0 < n) : ∃ (w' : Wd) (e' : Nat → Option Nat), f_J40_add fu ev (mem ev w) L (some a) = some (1, mem ev w') ∧ ALs ev w' L A (n + 1) e' (fun j => if j = n then a else ad j) b ∧ w'.1 = w.1 ∧ w'.2.1 = w.2.1 ∧ w'.2.2.1 = w.2.2.1 ∧ szW w' = szW w ∧ slW w' = slW w ∧ ∀ c : Nat, c ≠ L → c ≠ A → dyn w' c = dyn w c := by
  obtain ⟨hL, hA, hLs, hAs, hLA, dL, dA, hj⟩ := h
  obtain ⟨w1, hw1⟩ : ∃ w1, w1 = wD w L (some (.inr (11, [.int (nI (n + 1)), .ref A, .int (nI n)]))) := ⟨_, rfl⟩
  obtain ⟨w2, hw2⟩ : ∃ w2, w2 = wD w1 A (oAr (va_up e n (some a))) := ⟨_, rfl⟩
  obtain ⟨w3, hw3⟩ : ∃ w3, w3 = wD w2 L (some (.inr (11, [.int (nI (n + 1)), .ref A, .int (nI (n + 1))]))) := ⟨_, rfl⟩
  have d1 : dyn w1 L = some (.inr (11, [.int (nI (n + 1)), .ref A, .int (nI n)])) := by rw [hw1]; exact dn_wD
  have d1A : dyn w1 A = oAr e := by rw [hw1, dn_ne (fun z => hLA z.symm)]; exact dA
  have w1s : wD w1 A (oAr e) = w1 := wD_self d1A
  have d2 : dyn w2 L = some (.inr (11, [.int (nI (n + 1)), .ref A, .int (nI n)])) := by rw [hw2, dn_ne hLA]; exact d1
  have e1 : gfI (mem ev w) L 11 0 = some (nI n) := l_gI hL dL rfl
  have e2 : pfI ev (mem ev w) L 11 0 (nI (n + 1)) = some (mem ev w1) := by
    unfold pfI
    rw [d_pV (k := 0) hL dL (by simp), hw1]
    rfl
  have e3 : gfA (mem ev w1) L 11 1 = some (some A) := l_gA hL d1 rfl
  have e4 : gfI (mem ev w1) L 11 2 = some (nI n) := l_gI hL d1 rfl
  have e5 : isC (mem ev w1) L 11 = some () := l_is hL d1
  have e6 : alen (mem ev w1) A = some (10 : Int32) := by rw [← w1s]; exact s_len hA
  have ma : (mem ev w1).1 a = some (.inr (16, [.long x])) := by rw [hw1, mD_ne haL]; exact ha
  have e7 : astA ev 4 (mem ev w1) A (nI n) (some a) = some (mem ev w2) := by
    rw [hw2]
    have := s_st (ev := ev) (w := w1) (A := A) (e := e) (k := n) (x := some a) hA (by omega) (by
      rw [w1s]
      show asg _ 4 a = true
      unfold asg
      rw [ma]
      show (decide ("java/lang/Long" = "java/lang/Object") || decide (("java/lang/Long", "java/lang/Object") ∈ xCa)) = true
      decide)
    rw [w1s] at this
    exact this
  have e8 : pfI ev (mem ev w2) L 11 2 (nI (n + 1)) = some (mem ev w3) := by
    unfold pfI
    rw [d_pV (k := 2) hL d2 (by simp), hw3]
    rfl
  have n10 : ¬ nI n = (10 : Int32) := nI_ne (b := 10) (by omega) (by decide) (by omega)
  refine ⟨w3, va_up e n (some a), ?_, ⟨hL, hA, by rw [hw3, hw2, hw1]; exact hLs, by rw [hw3, hw2, hw1]; exact hAs, hLA, by rw [hw3]; exact dn_wD, by rw [hw3, dn_ne (fun z => hLA z.symm), hw2]; exact dn_wD, fun j hjn => ?_⟩, by rw [hw3, hw2, hw1]; rfl, by rw [hw3, hw2, hw1]; rfl, by rw [hw3, hw2, hw1]; rfl, by rw [hw3, hw2, hw1]; rfl, by rw [hw3, hw2, hw1]; rfl, fun c c1 c2 => by rw [hw3, dn_ne c1, hw2, dn_ne c2, hw1, dn_ne c1]⟩
  · unfold f_J40_add b_J40_add_0
    rw [e1, Option.bind_some, nI_1, e2, Option.bind_some, e3, Option.bind_some, e4, Option.bind_some, e5, Option.bind_some]
    unfold f_J40_add_2 b_J40_add_2_0
    rw [Option.bind_some, e6, Option.bind_some, if_neg n10]
    unfold b_J40_add_2_11
    rw [Option.bind_some, e7, Option.bind_some, nI_1, e8]
    rfl
  · have m3 : ∀ c : Nat, c ≠ A → c ≠ L → (mem ev w3).1 c = (mem ev w).1 c := fun c c1 c2 => by rw [hw3, mD_ne c2, hw2, mD_ne c1, hw1, mD_ne c2]
    show va_up e n (some a) j = some (if j = n then a else ad j) ∧ (if j = n then a else ad j) ≠ A ∧ (if j = n then a else ad j) ≠ L ∧ (if j = n then a else ad j) < szW w3 ∧ (mem ev w3).1 (if j = n then a else ad j) = some (.inr (16, [.long (b j)]))
    have zs : szW w3 = szW w := by rw [hw3, hw2, hw1]; rfl
    rw [zs]
    by_cases z : j = n
    · rw [if_pos z, z, vup_at, m3 a haA haL, hbx]
      exact ⟨rfl, haA, haL, has, ha⟩
    · obtain ⟨p1, p2, p3, p4, p5⟩ := hj j (by omega)
      rw [if_neg z, vup_ne z, m3 _ p2 p3]
      exact ⟨p1, p2, p3, p4, p5⟩
/-- the first number: the array is made -/
theorem al_add0 (hE : EvOk ev) (hL : ev.1 + 984 ≤ L) (hLs : L < szW w) (dL : dyn w L = some (.inr (11, [.int (nI 0), .ref (xst ev 6), .int (nI 0)]))) (h1 : szW w + 1 ≤ ev.2.1) (h2 : slW w + 10 ≤ ev.2.2.1) (ha : (mem ev w).1 a = some (.inr (16, [.long x]))) (haL : a ≠ L) (has : a < szW w) (hbx : b 0 = x) : ∃ (w' : Wd) (e' : Nat → Option Nat), f_J40_add fu ev (mem ev w) L (some a) = some (1, mem ev w') ∧ ALs ev w' L (szW w) 1 e' (fun _ => a) b ∧ w'.1 = w.1 ∧ w'.2.1 = w.2.1 ∧ w'.2.2.1 = w.2.2.1 ∧ szW w' = szW w + 1 ∧ slW w' = slW w + 10 ∧ ∀ c : Nat, c ≠ L → c < szW w → dyn w' c = dyn w c := by
  obtain ⟨A, hA⟩ : ∃ A, A = szW w := ⟨_, rfl⟩
  have hAb : ev.1 + 984 ≤ A := by omega
  have hLA : L ≠ A := by omega
  have haA : a ≠ A := by omega
  obtain ⟨⟨-, -, -, -, -, -, s6, -⟩, -, -, -, -, -, -, c6, -, -, -, -, hlt⟩ := hE
  obtain ⟨w1, hw1⟩ : ∃ w1, w1 = wD w L (some (.inr (11, [.int (nI 1), .ref (xst ev 6), .int (nI 0)]))) := ⟨_, rfl⟩
  obtain ⟨wa, hwa⟩ : ∃ wa, wa = nwW w1 10 (.inl (4, 10, .inr (.inr (.inr (.inr fun _ => none))))) := ⟨_, rfl⟩
  obtain ⟨wb, hwb⟩ : ∃ wb, wb = wD wa L (some (.inr (11, [.int (nI 1), .ref A, .int (nI 0)]))) := ⟨_, rfl⟩
  obtain ⟨w2, hw2⟩ : ∃ w2, w2 = wD wb A (oAr (va_up (fun _ => none) 0 (some a))) := ⟨_, rfl⟩
  obtain ⟨w3, hw3⟩ : ∃ w3, w3 = wD w2 L (some (.inr (11, [.int (nI 1), .ref A, .int (nI 1)]))) := ⟨_, rfl⟩
  have z1 : szW w1 = A := by rw [hw1, hA]; rfl
  have d1 : dyn w1 L = some (.inr (11, [.int (nI 1), .ref (xst ev 6), .int (nI 0)])) := by rw [hw1]; exact dn_wD
  have daL : dyn wa L = some (.inr (11, [.int (nI 1), .ref (xst ev 6), .int (nI 0)])) := by
    rw [hwa]
    exact (Nw_new (w := w1)).2.2.2.2.2.2 L (by omega) |>.trans d1
  have daA : dyn wa A = oAr (fun _ => none) := by rw [hwa, ← z1]; exact dn_new
  have db : dyn wb L = some (.inr (11, [.int (nI 1), .ref A, .int (nI 0)])) := by rw [hwb]; exact dn_wD
  have dbA : dyn wb A = oAr (fun _ => none) := by rw [hwb, dn_ne (fun z => hLA z.symm)]; exact daA
  have wbs : wD wb A (oAr (fun _ => none)) = wb := wD_self dbA
  have d2 : dyn w2 L = some (.inr (11, [.int (nI 1), .ref A, .int (nI 0)])) := by rw [hw2, dn_ne hLA]; exact db
  have old6 : ∀ u : Wd, alen (mem ev u) (xst ev 6) = some (0 : Int32) := fun u => by
    unfold alen
    rw [mem_old (hlt _ _ c6), c6]
    rfl
  have g6 : gsA ev 6 = some (some (xst ev 6)) := by unfold gsA; rw [s6]
  have e1 : gfI (mem ev w) L 11 0 = some (nI 0) := l_gI hL dL rfl
  have e2 : pfI ev (mem ev w) L 11 0 (nI 0 + 1) = some (mem ev w1) := by
    unfold pfI
    rw [d_pV (k := 0) hL dL (by simp), hw1]
    rfl
  have e3 : gfA (mem ev w1) L 11 1 = some (some (xst ev 6)) := l_gA hL d1 rfl
  have e4 : gfI (mem ev w1) L 11 2 = some (nI 0) := l_gI hL d1 rfl
  have e5 : isC (mem ev w1) L 11 = some () := l_is hL d1
  have en : nwA ev (mem ev w1) 4 (10 : Int32) 4 (.inr (.inr (.inr (.inr fun _ => none)))) = some (A, mem ev wa) := by
    unfold nwA
    have q1 : (mem ev w1).2.1 = A := z1
    have q2 : (mem ev w1).2.2 = slW w := by rw [hw1]; rfl
    rw [q1, q2, if_pos ⟨by decide, by decide, by omega, h2⟩]
    refine congrArg (fun q => some (A, q)) ?_
    rw [hwa]
    refine Prod.ext ?_ ?_
    · have := congrArg Prod.fst (mem_upd (ev := ev) (w := w1) (a := A) (o := some (.inl (4, 10, .inr (.inr (.inr (.inr fun _ => none)))))) hAb)
      refine this.trans ?_
      rw [← z1]
      rfl
    · show (A + 1, slW w + 10) = (szW w1 + 1, slW w1 + 10)
      rw [z1, hw1]
      rfl
  have eb : pfA ev (mem ev wa) L 11 1 (some A) = some (mem ev wb) := by
    unfold pfA
    rw [d_pV (k := 1) hL daL (by simp), hwb]
    rfl
  have ma : (mem ev wb).1 a = some (.inr (16, [.long x])) := by
    rw [hwb, mD_ne haL, hwa]
    refine (Nw_mem (Nw_new (w := w1)) (by omega)).trans ?_
    rw [hw1, mD_ne haL]
    exact ha
  have e7 : astA ev 4 (mem ev wb) A (nI 0) (some a) = some (mem ev w2) := by
    rw [hw2]
    have := s_st (ev := ev) (w := wb) (A := A) (e := fun _ => none) (k := 0) (x := some a) hAb (by omega) (by
      rw [wbs]
      show asg _ 4 a = true
      unfold asg
      rw [ma]
      show (decide ("java/lang/Long" = "java/lang/Object") || decide (("java/lang/Long", "java/lang/Object") ∈ xCa)) = true
      decide)
    rw [wbs] at this
    exact this
  have e8 : pfI ev (mem ev w2) L 11 2 (nI 0 + 1) = some (mem ev w3) := by
    unfold pfI
    rw [d_pV (k := 2) hL d2 (by simp), hw3]
    rfl
  have gr : f_J40_grow fu ev (mem ev w1) L = some (some A, mem ev wb) := by
    unfold f_J40_grow b_J40_grow_0
    rw [e4, Option.bind_some, e5, Option.bind_some]
    unfold f_J40_grow_2 b_J40_grow_2_0
    rw [e3, Option.bind_some, Option.bind_some, old6, Option.bind_some, if_neg (by decide)]
    unfold b_J40_grow_2_10
    rw [e3, Option.bind_some, g6, Option.bind_some, if_pos rfl]
    unfold b_J40_grow_2_45
    rw [if_neg (by decide), en, b2s, eb]
    rfl
  rw [← hA]
  refine ⟨w3, va_up (fun _ => none) 0 (some a), ?_, ⟨hL, hAb, ?_, ?_, hLA, by rw [hw3]; exact dn_wD, by rw [hw3, dn_ne (fun z => hLA z.symm), hw2]; exact dn_wD, fun j hjn => ?_⟩, by rw [hw3, hw2, hwb, hwa, hw1]; rfl, by rw [hw3, hw2, hwb, hwa, hw1]; rfl, by rw [hw3, hw2, hwb, hwa, hw1]; rfl, ?_, ?_, fun c c1 c2 => ?_⟩
  · unfold f_J40_add b_J40_add_0
    rw [e1, Option.bind_some, e2, Option.bind_some, e3, Option.bind_some, e4, Option.bind_some, e5, Option.bind_some]
    unfold f_J40_add_2 b_J40_add_2_0
    rw [Option.bind_some, old6, Option.bind_some, if_pos (show nI 0 = (0 : Int32) from rfl)]
    unfold b_J40_add_2_6
    rw [e5, Option.bind_some, gr, b2s]
    unfold b_J40_add_2_11
    rw [Option.bind_some, e7, Option.bind_some, e8]
    rfl
  · show L < szW w3
    have : szW w3 = A + 1 := by rw [hw3, hw2, hwb, hwa]; show szW w1 + 1 = _; rw [z1]
    omega
  · have : szW w3 = A + 1 := by rw [hw3, hw2, hwb, hwa]; show szW w1 + 1 = _; rw [z1]
    omega
  · have zs : szW w3 = A + 1 := by rw [hw3, hw2, hwb, hwa]; show szW w1 + 1 = _; rw [z1]
    obtain rfl : j = 0 := by omega
    refine ⟨vup_at, haA, haL, by show a < szW w3; omega, ?_⟩
    show (mem ev w3).1 a = _
    rw [hw3, mD_ne haL, hw2, mD_ne haA, hbx]
    exact ma
  · rw [hw3, hw2, hwb, hwa]; show szW w1 + 1 = _; rw [z1]
  · rw [hw3, hw2, hwb, hwa, hw1]; rfl
  · rw [hw3, dn_ne c1, hw2, dn_ne (by omega), hwb, dn_ne c1, hwa]
    refine ((Nw_new (w := w1)).2.2.2.2.2.2 c (by omega)).trans ?_
    rw [hw1, dn_ne c1]
end XNW
