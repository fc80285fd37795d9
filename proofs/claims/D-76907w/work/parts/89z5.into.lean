/-! OPERATIONS from, into -/
section XIN
variable {ev : Ev} {w w' : Wd} {fu k n M T a l i m C F : Nat} {x y : Int32} {K : Option Nat} {z : Int64} {f g : Nat → Int64} {p : Nat → Nat}
theorem wJ6 {A B Cc X Y Z : Int64} : wJ (wJ (wJ (wJ (wJ (wJ w 967 36 A) 967 37 B) 967 38 Cc) 967 39 X) 967 40 Y) 967 41 Z = setS w 6 (sPut (sl w 6) A B Cc X Y Z) := by
  refine Prod.ext (funext fun q => funext fun i => ?_) rfl
  show (if q = 967 ∧ i = 41 then Z else if q = 967 ∧ i = 40 then Y else if q = 967 ∧ i = 39 then X else if q = 967 ∧ i = 38 then Cc else if q = 967 ∧ i = 37 then B else if q = 967 ∧ i = 36 then A else w.1 q i) = if q = 967 ∧ 36 ≤ i ∧ i < 42 then sPut (sl w 6) A B Cc X Y Z (i - 36) else if q = 968 ∧ 54 ≤ i ∧ i < 63 then sPut (sl w 6) A B Cc X Y Z (6 + (i - 54)) else w.1 q i
  by_cases e : q = 967 ∧ 36 ≤ i ∧ i < 42
  · refine Eq.trans ?_ (if_pos e).symm
    obtain ⟨e1, h1, h2⟩ := e
    subst e1
    obtain rfl | rfl | rfl | rfl | rfl | rfl : i = 36 ∨ i = 37 ∨ i = 38 ∨ i = 39 ∨ i = 40 ∨ i = 41 := by omega
    all_goals rfl
  · refine Eq.trans ?_ (if_neg e).symm
    rw [if_neg (by omega), if_neg (by omega), if_neg (by omega), if_neg (by omega), if_neg (by omega), if_neg (by omega)]
    by_cases e2 : q = 968 ∧ 54 ≤ i ∧ i < 63
    · refine Eq.trans ?_ (if_pos e2).symm
      obtain ⟨e1, h1, h2⟩ := e2
      subst e1
      obtain ⟨j, rfl⟩ : ∃ j, i = 54 + j := ⟨i - 54, by omega⟩
      have hj : j < 9 := by omega
      obtain rfl | rfl | rfl | rfl | rfl | rfl | rfl | rfl | rfl : j = 0 ∨ j = 1 ∨ j = 2 ∨ j = 3 ∨ j = 4 ∨ j = 5 ∨ j = 6 ∨ j = 7 ∨ j = 8 := by omega
      all_goals rfl
    · exact (if_neg e2).symm
theorem nI_s6 (hn : n ≤ 16) (hy : ¬ y < 0) : y ≤ nI n - 6 ↔ ∃ i : Nat, i + 6 ≤ n ∧ y = nI i := by
  obtain ⟨j, hj, rfl⟩ := nI_of hy
  rw [Int32.le_iff_toInt_le, show (nI n - 6 : Int32) = nI n - nI 6 from rfl, pk_sub_toInt (by omega) (by omega), nI_toInt hj]
  constructor
  · intro h
    exact ⟨j, by omega, rfl⟩
  · rintro ⟨i, h1, h2⟩
    have := (nI_eq hj (by omega)).mp h2
    omega
theorem op_from (hf : 40 ≤ fu) (hR : Rel ev w M K T) : ∃ (r : Int32) (w1 w2 : Wd), f_X0_from fu ev (mem ev w) ev.1 x y = some (r, mem ev w1) ∧ f_X2_from fu ev (mem ev w1) (ev.1 + 966) x y = some (r, mem ev w2) ∧ ∃ M' : Nat, M ≤ M' ∧ M' ≤ M + 1 ∧ Rel ev w2 M' K T ∧ w2.2.2.2 = w.2.2.2 ∧ ∀ l : Nat, l < M → sl w2 l = sl w l := by
  obtain ⟨⟨C, F, p, rc⟩, -, -, -, -, -, hRw, -, -, h984⟩ := id hR
  obtain ⟨hM6, hM, hN, -⟩ := rc.1
  have triv : ∀ r : Int32, f_X0_from fu ev (mem ev w) ev.1 x y = some (r, mem ev w) → f_X2_from fu ev (mem ev w) (ev.1 + 966) x y = some (r, mem ev w) → ∃ (r : Int32) (w1 w2 : Wd), f_X0_from fu ev (mem ev w) ev.1 x y = some (r, mem ev w1) ∧ f_X2_from fu ev (mem ev w1) (ev.1 + 966) x y = some (r, mem ev w2) ∧ ∃ M' : Nat, M ≤ M' ∧ M' ≤ M + 1 ∧ Rel ev w2 M' K T ∧ w2.2.2.2 = w.2.2.2 ∧ ∀ l : Nat, l < M → sl w2 l = sl w l := fun r e1 e2 => ⟨r, w, w, e1, e2, M, Nat.le_refl _, by omega, hR, rfl, fun _ _ => rfl⟩
  by_cases a : isl x = true
  · obtain ⟨l, hl, rfl⟩ := isl_of a
    have ld := rdI (ev := ev) (w := w) (r := 982) (k := l) (N := 4) rfl (by decide) (by decide) hl
    rcases hRw.1 l hl with ⟨p1, p2⟩ | ⟨b, n, g, p1, p2, p3, p4, p5, p6, p7⟩
    · rw [p2] at ld
      refine triv (-11) ?_ ?_
      · simp only [f_X0_from, b_X0_from_0, b_X0_from_9, b_X0_from_20, X0_isList, a, xf20, xrow hl, p1, Option.bind_some, bd2, b01, if_true, if_false, not_true_eq_false, not_false_eq_true, Bool.false_eq_true, eq_self, Int32.reduceAdd, Int32.reduceMul, Int32.reduceLE, Int32.reduceLT, reduceIte, Int32.add_assoc, ie_0_1, ie_0_2, ie_0_3, ie_0_4, ie_0_5, ie_0_6, ie_0_7, ie_0_8, ie_0_9, ie_1_0, ie_1_2, ie_1_3, ie_1_4, ie_1_5, ie_1_6, ie_1_7, ie_1_8, ie_1_9, ie_2_0, ie_2_1, ie_2_3, ie_2_4, ie_2_5, ie_2_6, ie_2_7, ie_2_8, ie_2_9, ie_3_0, ie_3_1, ie_3_2, ie_3_4, ie_3_5, ie_3_6, ie_3_7, ie_3_8, ie_3_9, ie_4_0, ie_4_1, ie_4_2, ie_4_3, ie_4_5, ie_4_6, ie_4_7, ie_4_8, ie_4_9, ie_5_0, ie_5_1, ie_5_2, ie_5_3, ie_5_4, ie_5_6, ie_5_7, ie_5_8, ie_5_9, ie_6_0, ie_6_1, ie_6_2, ie_6_3, ie_6_4, ie_6_5, ie_6_7, ie_6_8, ie_6_9, ie_7_0, ie_7_1, ie_7_2, ie_7_3, ie_7_4, ie_7_5, ie_7_6, ie_7_8, ie_7_9, ie_8_0, ie_8_1, ie_8_2, ie_8_3, ie_8_4, ie_8_5, ie_8_6, ie_8_7, ie_8_9, ie_9_0, ie_9_1, ie_9_2, ie_9_3, ie_9_4, ie_9_5, ie_9_6, ie_9_7, ie_9_8, nI_1, nI_pred, setC_21, setS_21, wI_same, Int32.reduceSub]
      · simp only [f_X2_from, b_X2_from_0, b_X2_from_9, b_X2_from_18, X2_isList, a, mf29, ld, Option.bind_some, bd2, b01, if_true, if_false, not_true_eq_false, not_false_eq_true, Bool.false_eq_true, eq_self, Int32.reduceAdd, Int32.reduceMul, Int32.reduceLE, Int32.reduceLT, reduceIte, Int32.add_assoc, ie_0_1, ie_0_2, ie_0_3, ie_0_4, ie_0_5, ie_0_6, ie_0_7, ie_0_8, ie_0_9, ie_1_0, ie_1_2, ie_1_3, ie_1_4, ie_1_5, ie_1_6, ie_1_7, ie_1_8, ie_1_9, ie_2_0, ie_2_1, ie_2_3, ie_2_4, ie_2_5, ie_2_6, ie_2_7, ie_2_8, ie_2_9, ie_3_0, ie_3_1, ie_3_2, ie_3_4, ie_3_5, ie_3_6, ie_3_7, ie_3_8, ie_3_9, ie_4_0, ie_4_1, ie_4_2, ie_4_3, ie_4_5, ie_4_6, ie_4_7, ie_4_8, ie_4_9, ie_5_0, ie_5_1, ie_5_2, ie_5_3, ie_5_4, ie_5_6, ie_5_7, ie_5_8, ie_5_9, ie_6_0, ie_6_1, ie_6_2, ie_6_3, ie_6_4, ie_6_5, ie_6_7, ie_6_8, ie_6_9, ie_7_0, ie_7_1, ie_7_2, ie_7_3, ie_7_4, ie_7_5, ie_7_6, ie_7_8, ie_7_9, ie_8_0, ie_8_1, ie_8_2, ie_8_3, ie_8_4, ie_8_5, ie_8_6, ie_8_7, ie_8_9, ie_9_0, ie_9_1, ie_9_2, ie_9_3, ie_9_4, ie_9_5, ie_9_6, ie_9_7, ie_9_8, nI_1, nI_pred, setC_21, setS_21, wI_same, Int32.reduceSub]
    · rw [p4] at ld
      have ns : ((some b : Option Nat) = none) = False := eq_false (by simp)
      by_cases c : y < 0
      · refine triv (-13) ?_ ?_
        · simp only [f_X0_from, b_X0_from_0, b_X0_from_9, b_X0_from_23, b_X0_from_36, X0_isList, a, xf20, xrow hl, p1, ns, c, Option.bind_some, bd2, b01, if_true, if_false, not_true_eq_false, not_false_eq_true, Bool.false_eq_true, eq_self, Int32.reduceAdd, Int32.reduceMul, Int32.reduceLE, Int32.reduceLT, reduceIte, Int32.add_assoc, ie_0_1, ie_0_2, ie_0_3, ie_0_4, ie_0_5, ie_0_6, ie_0_7, ie_0_8, ie_0_9, ie_1_0, ie_1_2, ie_1_3, ie_1_4, ie_1_5, ie_1_6, ie_1_7, ie_1_8, ie_1_9, ie_2_0, ie_2_1, ie_2_3, ie_2_4, ie_2_5, ie_2_6, ie_2_7, ie_2_8, ie_2_9, ie_3_0, ie_3_1, ie_3_2, ie_3_4, ie_3_5, ie_3_6, ie_3_7, ie_3_8, ie_3_9, ie_4_0, ie_4_1, ie_4_2, ie_4_3, ie_4_5, ie_4_6, ie_4_7, ie_4_8, ie_4_9, ie_5_0, ie_5_1, ie_5_2, ie_5_3, ie_5_4, ie_5_6, ie_5_7, ie_5_8, ie_5_9, ie_6_0, ie_6_1, ie_6_2, ie_6_3, ie_6_4, ie_6_5, ie_6_7, ie_6_8, ie_6_9, ie_7_0, ie_7_1, ie_7_2, ie_7_3, ie_7_4, ie_7_5, ie_7_6, ie_7_8, ie_7_9, ie_8_0, ie_8_1, ie_8_2, ie_8_3, ie_8_4, ie_8_5, ie_8_6, ie_8_7, ie_8_9, ie_9_0, ie_9_1, ie_9_2, ie_9_3, ie_9_4, ie_9_5, ie_9_6, ie_9_7, ie_9_8, nI_1, nI_pred, setC_21, setS_21, wI_same, Int32.reduceSub]
        · simp only [f_X2_from, b_X2_from_0, b_X2_from_9, b_X2_from_21, b_X2_from_38, X2_isList, a, mf29, ld, nI_pos' (show n < 2 ^ 31 by omega), c, Option.bind_some, bd2, b01, if_true, if_false, not_true_eq_false, not_false_eq_true, Bool.false_eq_true, eq_self, Int32.reduceAdd, Int32.reduceMul, Int32.reduceLE, Int32.reduceLT, reduceIte, Int32.add_assoc, ie_0_1, ie_0_2, ie_0_3, ie_0_4, ie_0_5, ie_0_6, ie_0_7, ie_0_8, ie_0_9, ie_1_0, ie_1_2, ie_1_3, ie_1_4, ie_1_5, ie_1_6, ie_1_7, ie_1_8, ie_1_9, ie_2_0, ie_2_1, ie_2_3, ie_2_4, ie_2_5, ie_2_6, ie_2_7, ie_2_8, ie_2_9, ie_3_0, ie_3_1, ie_3_2, ie_3_4, ie_3_5, ie_3_6, ie_3_7, ie_3_8, ie_3_9, ie_4_0, ie_4_1, ie_4_2, ie_4_3, ie_4_5, ie_4_6, ie_4_7, ie_4_8, ie_4_9, ie_5_0, ie_5_1, ie_5_2, ie_5_3, ie_5_4, ie_5_6, ie_5_7, ie_5_8, ie_5_9, ie_6_0, ie_6_1, ie_6_2, ie_6_3, ie_6_4, ie_6_5, ie_6_7, ie_6_8, ie_6_9, ie_7_0, ie_7_1, ie_7_2, ie_7_3, ie_7_4, ie_7_5, ie_7_6, ie_7_8, ie_7_9, ie_8_0, ie_8_1, ie_8_2, ie_8_3, ie_8_4, ie_8_5, ie_8_6, ie_8_7, ie_8_9, ie_9_0, ie_9_1, ie_9_2, ie_9_3, ie_9_4, ie_9_5, ie_9_6, ie_9_7, ie_9_8, nI_1, nI_pred, setC_21, setS_21, wI_same, Int32.reduceSub]
      · by_cases d : y ≤ nI n - 6
        · obtain ⟨i, hi, rfl⟩ := (nI_s6 p3 c).mp d
          have L : ∀ j : Nat, j < 6 → aldJ (mem ev w) b (nI (i + j)) = some (g (i + j)) := fun j hj => d_ldJ p6 p2 (by omega) (by omega)
          have e0 := L 0 (by decide)
          rw [Nat.add_zero] at e0
          have s1 : nI i + (1 : Int32) = nI (i + 1) := nI_add i 1
          have s2 : nI i + (2 : Int32) = nI (i + 2) := nI_add i 2
          have s3 : nI i + (3 : Int32) = nI (i + 3) := nI_add i 3
          have s4 : nI i + (4 : Int32) = nI (i + 4) := nI_add i 4
          have s5 : nI i + (5 : Int32) = nI (i + 5) := nI_add i 5
          obtain ⟨V, hV⟩ : ∃ V, V = sTell (g i) (g (i + 1)) (g (i + 2)) (g (i + 3)) (g (i + 4)) (g (i + 5)) := ⟨_, rfl⟩
          have mV : Mk V := by rw [hV]; exact Mk_tell
          have tl := X1_tells (ev := ev) (w := w) (c := 2) (fu := fu) (a1 := g i) (a2 := g (i + 1)) (a3 := g (i + 2)) (a4 := g (i + 3)) (a5 := g (i + 4)) (a6 := g (i + 5)) (by decide) (by omega)
          rw [← hV] at tl
          have cm := X0_comesV (ev := ev) (w := w) (fu := fu) mV (by omega) hM hM6
          have e1 : f_X0_from fu ev (mem ev w) ev.1 (nI l) (nI i) = some (outC M V, mem ev (comC w M V)) := by
            simp only [f_X0_from, b_X0_from_0, b_X0_from_9, b_X0_from_23, b_X0_from_27, b_X0_from_39, X0_isList, a, xf20, xrow hl, p1, ns, c, d_len p6 p2, d, xf4, e0, s1, s2, s3, s4, s5, L 1 (by decide), L 2 (by decide), L 3 (by decide), L 4 (by decide), L 5 (by decide), cis (show 2 < 118 by decide), tl, xis, cm, Option.bind_some, bd2, b01, if_true, if_false, not_true_eq_false, not_false_eq_true, Bool.false_eq_true, eq_self, Int32.reduceAdd, Int32.reduceMul, Int32.reduceLE, Int32.reduceLT, reduceIte, Int32.add_assoc, ie_0_1, ie_0_2, ie_0_3, ie_0_4, ie_0_5, ie_0_6, ie_0_7, ie_0_8, ie_0_9, ie_1_0, ie_1_2, ie_1_3, ie_1_4, ie_1_5, ie_1_6, ie_1_7, ie_1_8, ie_1_9, ie_2_0, ie_2_1, ie_2_3, ie_2_4, ie_2_5, ie_2_6, ie_2_7, ie_2_8, ie_2_9, ie_3_0, ie_3_1, ie_3_2, ie_3_4, ie_3_5, ie_3_6, ie_3_7, ie_3_8, ie_3_9, ie_4_0, ie_4_1, ie_4_2, ie_4_3, ie_4_5, ie_4_6, ie_4_7, ie_4_8, ie_4_9, ie_5_0, ie_5_1, ie_5_2, ie_5_3, ie_5_4, ie_5_6, ie_5_7, ie_5_8, ie_5_9, ie_6_0, ie_6_1, ie_6_2, ie_6_3, ie_6_4, ie_6_5, ie_6_7, ie_6_8, ie_6_9, ie_7_0, ie_7_1, ie_7_2, ie_7_3, ie_7_4, ie_7_5, ie_7_6, ie_7_8, ie_7_9, ie_8_0, ie_8_1, ie_8_2, ie_8_3, ie_8_4, ie_8_5, ie_8_6, ie_8_7, ie_8_9, ie_9_0, ie_9_1, ie_9_2, ie_9_3, ie_9_4, ie_9_5, ie_9_6, ie_9_7, ie_9_8, nI_1, nI_pred, setC_21, setS_21, wI_same, Int32.reduceSub]
          obtain ⟨w1, hw1⟩ : ∃ w1, w1 = comC w M V := ⟨_, rfl⟩
          have J1 : ∀ j : Nat, w1.1 983 j = w.1 983 j := by
            intro j
            rw [hw1]
            unfold comC
            split
            · show (setC (setC w 2 V) (3 + 2 * M) V).1 983 j = _
              rw [row983C (by omega) (Or.inl rfl), row983C (by decide) (Or.inl rfl)]
            · exact row983C (by decide) (Or.inl rfl)
          have I1 : ∀ q j : Nat, ¬ (q = 0 ∧ j = 1) → w1.2.1 q j = w.2.1 q j := fun q j h => by rw [hw1]; exact comC_I h
          obtain ⟨P, hPd⟩ : ∃ P, P = sPut (sl w1 6) (g i) (g (i + 1)) (g (i + 2)) (g (i + 3)) (g (i + 4)) (g (i + 5)) := ⟨_, rfl⟩
          have mP : Mk P := by rw [hPd]; exact Mk_put Mk_sl
          have hfp : sFresh P = V := by rw [hPd, hV]; exact tell_put Mk_sl
          have lj : ∀ (w0 : Wd) (j : Nat), (∀ j : Nat, w0.1 983 j = w.1 983 j) → j < 6 → aldJ (mem ev w0) (ev.1 + 983) ((16 : Int32) * nI l + nI i + nI j) = some (g (i + j)) := by
            intro w0 j h0 hj
            rw [show (16 : Int32) = nI 16 from rfl, pk_mul, nI_add, nI_add, rdJ (N := 64) rfl (by decide) (by decide) (by omega), h0, p5 (i + j) (by omega), show 16 * l + (i + j) = 16 * l + i + j by omega]
          have sj : ∀ (w0 : Wd) (j : Nat) (z : Int64), j < 6 → astJ ev (mem ev w0) (ev.1 + 967) ((36 : Int32) + nI j) z = some (mem ev (wJ w0 967 (36 + j) z)) := by
            intro w0 j z hj
            rw [show (36 : Int32) = nI 36 from rfl, nI_add]
            exact wrJ (N := 156) rfl (by decide) (by decide) (by omega)
          have st : ∀ (w0 : Wd) (j f : Nat), (∀ j : Nat, w0.1 983 j = w.1 983 j) → j < 6 → L_X2_from_43 fu ev (f + 1) (mem ev w0) (ev.1 + 966) (nI l) (nI i) (nI j) = L_X2_from_43 fu ev f (mem ev (wJ w0 967 (36 + j) (g (i + j)))) (ev.1 + 966) (nI l) (nI i) (nI (j + 1)) := by
            intro w0 j f h0 hj
            show b_X2_from_43 _ fu ev _ _ _ _ _ = _
            unfold b_X2_from_43
            rw [if_neg (show ¬ (6 : Int32) ≤ nI j from nI_ge (b := 6) (by omega) (by decide))]
            unfold b_X2_from_49
            rw [mf0, Option.bind_some, mf30, Option.bind_some, Option.bind_some, lj w0 j h0 hj, Option.bind_some, Option.bind_some, sj w0 j _ hj, Option.bind_some, nI_1]
          have kp : ∀ (w0 : Wd) (j : Nat) (z : Int64), (∀ j : Nat, w0.1 983 j = w.1 983 j) → ∀ q : Nat, (wJ w0 967 j z).1 983 q = w.1 983 q := fun w0 j z h0 q => by rw [wJ_row (by decide)]; exact h0 q
          obtain ⟨g7, hg7⟩ : ∃ g7, fu = g7 + 7 := ⟨fu - 7, by omega⟩
          have lp : L_X2_from_43 fu ev (g7 + 7) (mem ev w1) (ev.1 + 966) (nI l) (nI i) (nI 0) = some (outC M P, mem ev (comM w1 M P)) := by
            have k1 := kp w1 36 (g i) J1
            have k2 := kp _ 37 (g (i + 1)) k1
            have k3 := kp _ 38 (g (i + 2)) k2
            have k4 := kp _ 39 (g (i + 3)) k3
            have k5 := kp _ 40 (g (i + 4)) k4
            refine (st _ 0 (g7 + 6) J1 (by decide)).trans ?_
            refine (st _ 1 (g7 + 5) k1 (by decide)).trans ?_
            refine (st _ 2 (g7 + 4) k2 (by decide)).trans ?_
            refine (st _ 3 (g7 + 3) k3 (by decide)).trans ?_
            refine (st _ 4 (g7 + 2) k4 (by decide)).trans ?_
            refine (st _ 5 (g7 + 1) k5 (by decide)).trans ?_
            show b_X2_from_43 _ fu ev _ _ _ _ _ = _
            unfold b_X2_from_43
            rw [if_pos (show (6 : Int32) ≤ nI 6 by decide)]
            unfold b_X2_from_77
            have we : wJ (wJ (wJ (wJ (wJ (wJ w1 967 36 (g i)) 967 37 (g (i + 1))) 967 38 (g (i + 2))) 967 39 (g (i + 3))) 967 40 (g (i + 4))) 967 41 (g (i + 5)) = setS w1 6 P := by rw [wJ6, hPd]
            have cm2 := X2_comesV (ev := ev) (w := w1) (fu := fu) mP (by omega) (by rw [I1 _ _ (by omega)]; exact hN) hM6
            rw [mis, Option.bind_some]
            show bd2 (f_X2_comes fu ev (mem ev (wJ (wJ (wJ (wJ (wJ (wJ w1 967 36 (g i)) 967 37 (g (i + 1))) 967 38 (g (i + 2))) 967 39 (g (i + 3))) 967 40 (g (i + 4))) 967 41 (g (i + 5)))) (ev.1 + 966)) _ = _
            rw [we, cm2]
            rfl
          rw [← hg7] at lp
          have ld1 := rdI (ev := ev) (w := w1) (r := 982) (k := l) (N := 4) rfl (by decide) (by decide) hl
          rw [I1 _ _ (by omega), p4] at ld1
          have hmv : mayV P = mayV V := may_six (fun j hj => by rw [← hfp]; match j, hj with | 0, _ => rfl | 1, _ => rfl | 2, _ => rfl | 3, _ => rfl | 4, _ => rfl | 5, _ => rfl)
          have oe : outC M P = outC M V := by unfold outC; rw [hmv]
          have e2 : f_X2_from fu ev (mem ev w1) (ev.1 + 966) (nI l) (nI i) = some (outC M V, mem ev (comM w1 M P)) := by
            rw [nI_0, oe] at lp
            simp only [f_X2_from, b_X2_from_0, b_X2_from_9, b_X2_from_21, b_X2_from_25, b_X2_from_41, X2_isList, a, mf29, ld1, nI_pos' (show n < 2 ^ 31 by omega), c, d, Option.bind_some, bd2, b01, if_true, if_false, not_true_eq_false, not_false_eq_true, Bool.false_eq_true, eq_self, Int32.reduceAdd, Int32.reduceMul, Int32.reduceLE, Int32.reduceLT, reduceIte, Int32.add_assoc, ie_0_1, ie_0_2, ie_0_3, ie_0_4, ie_0_5, ie_0_6, ie_0_7, ie_0_8, ie_0_9, ie_1_0, ie_1_2, ie_1_3, ie_1_4, ie_1_5, ie_1_6, ie_1_7, ie_1_8, ie_1_9, ie_2_0, ie_2_1, ie_2_3, ie_2_4, ie_2_5, ie_2_6, ie_2_7, ie_2_8, ie_2_9, ie_3_0, ie_3_1, ie_3_2, ie_3_4, ie_3_5, ie_3_6, ie_3_7, ie_3_8, ie_3_9, ie_4_0, ie_4_1, ie_4_2, ie_4_3, ie_4_5, ie_4_6, ie_4_7, ie_4_8, ie_4_9, ie_5_0, ie_5_1, ie_5_2, ie_5_3, ie_5_4, ie_5_6, ie_5_7, ie_5_8, ie_5_9, ie_6_0, ie_6_1, ie_6_2, ie_6_3, ie_6_4, ie_6_5, ie_6_7, ie_6_8, ie_6_9, ie_7_0, ie_7_1, ie_7_2, ie_7_3, ie_7_4, ie_7_5, ie_7_6, ie_7_8, ie_7_9, ie_8_0, ie_8_1, ie_8_2, ie_8_3, ie_8_4, ie_8_5, ie_8_6, ie_8_7, ie_8_9, ie_9_0, ie_9_1, ie_9_2, ie_9_3, ie_9_4, ie_9_5, ie_9_6, ie_9_7, ie_9_8, nI_1, nI_pred, setC_21, setS_21, wI_same, Int32.reduceSub]
            exact lp
          obtain ⟨M', hM', hPo, -⟩ := com_Po (ev := ev) (V := V) (P := P) rc mV mP hfp
          rw [← hw1] at hPo
          refine ⟨outC M V, w1, comM w1 M P, by rw [hw1]; exact e1, e2, M', by omega, by omega, Rel_Po hR hPo (by omega), hPo.2.1.2.2.2.2, fun j hj => ?_⟩
          have s1 : sl w1 j = sl w j := by
            rw [hw1]
            unfold comC
            split
            · rw [sl_wI, sl_setC (by omega), sl_setC (by decide)]
            · rw [sl_setC (by decide)]
          unfold comM
          split
          · rw [sl_wI, sl_ne (by omega), sl_ne (by omega), s1]
          · rw [sl_ne (by omega), s1]
        · refine triv (-13) ?_ ?_
          · simp only [f_X0_from, b_X0_from_0, b_X0_from_9, b_X0_from_23, b_X0_from_27, b_X0_from_36, X0_isList, a, xf20, xrow hl, p1, ns, c, d_len p6 p2, d, Option.bind_some, bd2, b01, if_true, if_false, not_true_eq_false, not_false_eq_true, Bool.false_eq_true, eq_self, Int32.reduceAdd, Int32.reduceMul, Int32.reduceLE, Int32.reduceLT, reduceIte, Int32.add_assoc, ie_0_1, ie_0_2, ie_0_3, ie_0_4, ie_0_5, ie_0_6, ie_0_7, ie_0_8, ie_0_9, ie_1_0, ie_1_2, ie_1_3, ie_1_4, ie_1_5, ie_1_6, ie_1_7, ie_1_8, ie_1_9, ie_2_0, ie_2_1, ie_2_3, ie_2_4, ie_2_5, ie_2_6, ie_2_7, ie_2_8, ie_2_9, ie_3_0, ie_3_1, ie_3_2, ie_3_4, ie_3_5, ie_3_6, ie_3_7, ie_3_8, ie_3_9, ie_4_0, ie_4_1, ie_4_2, ie_4_3, ie_4_5, ie_4_6, ie_4_7, ie_4_8, ie_4_9, ie_5_0, ie_5_1, ie_5_2, ie_5_3, ie_5_4, ie_5_6, ie_5_7, ie_5_8, ie_5_9, ie_6_0, ie_6_1, ie_6_2, ie_6_3, ie_6_4, ie_6_5, ie_6_7, ie_6_8, ie_6_9, ie_7_0, ie_7_1, ie_7_2, ie_7_3, ie_7_4, ie_7_5, ie_7_6, ie_7_8, ie_7_9, ie_8_0, ie_8_1, ie_8_2, ie_8_3, ie_8_4, ie_8_5, ie_8_6, ie_8_7, ie_8_9, ie_9_0, ie_9_1, ie_9_2, ie_9_3, ie_9_4, ie_9_5, ie_9_6, ie_9_7, ie_9_8, nI_1, nI_pred, setC_21, setS_21, wI_same, Int32.reduceSub]
          · simp only [f_X2_from, b_X2_from_0, b_X2_from_9, b_X2_from_21, b_X2_from_25, b_X2_from_38, X2_isList, a, mf29, ld, nI_pos' (show n < 2 ^ 31 by omega), c, d, Option.bind_some, bd2, b01, if_true, if_false, not_true_eq_false, not_false_eq_true, Bool.false_eq_true, eq_self, Int32.reduceAdd, Int32.reduceMul, Int32.reduceLE, Int32.reduceLT, reduceIte, Int32.add_assoc, ie_0_1, ie_0_2, ie_0_3, ie_0_4, ie_0_5, ie_0_6, ie_0_7, ie_0_8, ie_0_9, ie_1_0, ie_1_2, ie_1_3, ie_1_4, ie_1_5, ie_1_6, ie_1_7, ie_1_8, ie_1_9, ie_2_0, ie_2_1, ie_2_3, ie_2_4, ie_2_5, ie_2_6, ie_2_7, ie_2_8, ie_2_9, ie_3_0, ie_3_1, ie_3_2, ie_3_4, ie_3_5, ie_3_6, ie_3_7, ie_3_8, ie_3_9, ie_4_0, ie_4_1, ie_4_2, ie_4_3, ie_4_5, ie_4_6, ie_4_7, ie_4_8, ie_4_9, ie_5_0, ie_5_1, ie_5_2, ie_5_3, ie_5_4, ie_5_6, ie_5_7, ie_5_8, ie_5_9, ie_6_0, ie_6_1, ie_6_2, ie_6_3, ie_6_4, ie_6_5, ie_6_7, ie_6_8, ie_6_9, ie_7_0, ie_7_1, ie_7_2, ie_7_3, ie_7_4, ie_7_5, ie_7_6, ie_7_8, ie_7_9, ie_8_0, ie_8_1, ie_8_2, ie_8_3, ie_8_4, ie_8_5, ie_8_6, ie_8_7, ie_8_9, ie_9_0, ie_9_1, ie_9_2, ie_9_3, ie_9_4, ie_9_5, ie_9_6, ie_9_7, ie_9_8, nI_1, nI_pred, setC_21, setS_21, wI_same, Int32.reduceSub]
  · refine triv (-1) ?_ ?_
    · simp only [f_X0_from, b_X0_from_0, b_X0_from_7, X0_isList, a, Option.bind_some, bd2, b01, if_true, if_false, not_true_eq_false, not_false_eq_true, Bool.false_eq_true, eq_self, Int32.reduceAdd, Int32.reduceMul, Int32.reduceLE, Int32.reduceLT, reduceIte, Int32.add_assoc, ie_0_1, ie_0_2, ie_0_3, ie_0_4, ie_0_5, ie_0_6, ie_0_7, ie_0_8, ie_0_9, ie_1_0, ie_1_2, ie_1_3, ie_1_4, ie_1_5, ie_1_6, ie_1_7, ie_1_8, ie_1_9, ie_2_0, ie_2_1, ie_2_3, ie_2_4, ie_2_5, ie_2_6, ie_2_7, ie_2_8, ie_2_9, ie_3_0, ie_3_1, ie_3_2, ie_3_4, ie_3_5, ie_3_6, ie_3_7, ie_3_8, ie_3_9, ie_4_0, ie_4_1, ie_4_2, ie_4_3, ie_4_5, ie_4_6, ie_4_7, ie_4_8, ie_4_9, ie_5_0, ie_5_1, ie_5_2, ie_5_3, ie_5_4, ie_5_6, ie_5_7, ie_5_8, ie_5_9, ie_6_0, ie_6_1, ie_6_2, ie_6_3, ie_6_4, ie_6_5, ie_6_7, ie_6_8, ie_6_9, ie_7_0, ie_7_1, ie_7_2, ie_7_3, ie_7_4, ie_7_5, ie_7_6, ie_7_8, ie_7_9, ie_8_0, ie_8_1, ie_8_2, ie_8_3, ie_8_4, ie_8_5, ie_8_6, ie_8_7, ie_8_9, ie_9_0, ie_9_1, ie_9_2, ie_9_3, ie_9_4, ie_9_5, ie_9_6, ie_9_7, ie_9_8, nI_1, nI_pred, setC_21, setS_21, wI_same, Int32.reduceSub]
    · simp only [f_X2_from, b_X2_from_0, b_X2_from_7, X2_isList, a, Option.bind_some, bd2, b01, if_true, if_false, not_true_eq_false, not_false_eq_true, Bool.false_eq_true, eq_self, Int32.reduceAdd, Int32.reduceMul, Int32.reduceLE, Int32.reduceLT, reduceIte, Int32.add_assoc, ie_0_1, ie_0_2, ie_0_3, ie_0_4, ie_0_5, ie_0_6, ie_0_7, ie_0_8, ie_0_9, ie_1_0, ie_1_2, ie_1_3, ie_1_4, ie_1_5, ie_1_6, ie_1_7, ie_1_8, ie_1_9, ie_2_0, ie_2_1, ie_2_3, ie_2_4, ie_2_5, ie_2_6, ie_2_7, ie_2_8, ie_2_9, ie_3_0, ie_3_1, ie_3_2, ie_3_4, ie_3_5, ie_3_6, ie_3_7, ie_3_8, ie_3_9, ie_4_0, ie_4_1, ie_4_2, ie_4_3, ie_4_5, ie_4_6, ie_4_7, ie_4_8, ie_4_9, ie_5_0, ie_5_1, ie_5_2, ie_5_3, ie_5_4, ie_5_6, ie_5_7, ie_5_8, ie_5_9, ie_6_0, ie_6_1, ie_6_2, ie_6_3, ie_6_4, ie_6_5, ie_6_7, ie_6_8, ie_6_9, ie_7_0, ie_7_1, ie_7_2, ie_7_3, ie_7_4, ie_7_5, ie_7_6, ie_7_8, ie_7_9, ie_8_0, ie_8_1, ie_8_2, ie_8_3, ie_8_4, ie_8_5, ie_8_6, ie_8_7, ie_8_9, ie_9_0, ie_9_1, ie_9_2, ie_9_3, ie_9_4, ie_9_5, ie_9_6, ie_9_7, ie_9_8, nI_1, nI_pred, setC_21, setS_21, wI_same, Int32.reduceSub]
end XIN
