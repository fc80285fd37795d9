/-! OPERATION step, RELATED -/
section XO15
variable {ev : Ev} {w w' w1 wb w2 : Wd} {fu M M' C F k n n' t : Nat} {x : Int32} {p ad qs ad' qs' : Nat → Nat} {K : Option Nat} {T : Nat} {S U : List Nat} {V v : Nat → Int64} {s : Nat × (Nat → Nat)}
theorem RLg_mk (h : LG ev w 43 5 970 n' ad' qs') (f : FrX S w w2) (h5 : 5 ∉ S) (h15 : 15 ∉ S) (fk : FrK n' ad' w w2) (ls : Ls ev w2 s n' ad') (lm : LM w2 4 969 s.1 s.2) : RLg ev w2 := by
  obtain ⟨-, ad, hL, hne⟩ := ls
  exact ⟨s.1, ad, s.2, n', ad', qs', ⟨hL, lm⟩, ⟨LL43_x h.1 f h5 fk.1.1 fk.2, LM5_x h.2 f h15⟩, hne⟩
theorem Rel_mk1 (h : Rel ev w M K T) (f : FrX [1, 11, 21, 4, 10, 14, 20] w w2) (d : FrD w w2) (r : ∃ (C F : Nat) (p : Nat → Nat), RCK ev w2 M C F p) (lg : RLg ev w2) (st : w2.2.1 0 5 = w2.2.1 966 8) : Rel ev w2 M K T := by
  obtain ⟨-, h2, h3, -, h5, h6, h7, h8, -, h10⟩ := h
  exact ⟨r, RT_x h2 f (by decide) (by decide), RIm_x h3 f (by decide) (by decide), lg, RQa_x h5 f (by decide) (by decide), RQb_x h6 f (by decide) (by decide), RRw_x h7 f (by decide) (by decide) d, RPp_x h8 f (by decide) (by decide) d, st, Nat.le_trans h10 d.1⟩
theorem Rel_sq (h : Rel ev w M K T) (q : Sq w w2) : Rel ev w2 M K T := by
  obtain ⟨C, F, p, r⟩ := h.1
  exact Rel_Po h (Po_sq r q) (Nat.le_refl _)
theorem nI_le0 (h : 0 < n) (h2 : n < 2 ^ 31) : (nI n ≤ 0) = False := eq_false (nI_nle h h2)
theorem X0_stepA (hf : 20 ≤ fu) (hM : w.2.1 0 1 = nI M) (a : isc (nI k) M = true) (hk : k < 6) (hv : cv w (3 + 2 * k) = v) : ∃ wA : Wd, Sq w wA ∧ cv wA 2 = goV v ∧ f_X0_step fu ev (mem ev w) ev.1 (nI k) = (if stV v = 0 then some (0, mem ev wA) else b_X0_step_36 fu ev (mem ev wA) ev.1 (nI k) (nI (stV v))) := by
  have mv : Mk v := hv ▸ Mk_cv
  obtain ⟨t, e⟩ := X1_steps (ev := ev) (w := setC w 2 v) (c := 2) (by decide) (show 10 ≤ fu by omega)
  rw [cv_mk mv] at e
  have h9 := st_lt9 v
  refine ⟨setC (setT (setC w 2 v) 2 t) 2 (goV v), Sq_trans (Sq_trans (Sq_setC (by decide)) (Sq_setT (by decide))) (Sq_setC (by decide)), cv_mk (Mk_go mv), ?_⟩
  have tk : f_X1_takes fu ev (mem ev w) (ev.1 + cr 2) (some (ev.1 + cr (3 + 2 * k))) = some (some (ev.1 + cr 2), mem ev (setC w 2 v)) := by rw [X1_takes (by decide) (by omega) (by omega) (by omega), hv]
  simp only [f_X0_step, b_X0_step_0, b_X0_step_10, xis, X0_isCell hM, a, xf4, xf0, xcells hk, cis (show 2 < 118 by decide), tk, e, Option.bind_some, bd2, b01, if_true, if_false, not_true_eq_false, not_false_eq_true, Bool.false_eq_true, eq_self, Int32.reduceAdd, Int32.reduceMul, Int32.reduceLE, Int32.reduceLT, reduceIte, Int32.add_assoc, ie_0_1, ie_0_2, ie_0_3, ie_0_4, ie_0_5, ie_0_6, ie_0_7, ie_0_8, ie_0_9, ie_1_0, ie_1_2, ie_1_3, ie_1_4, ie_1_5, ie_1_6, ie_1_7, ie_1_8, ie_1_9, ie_2_0, ie_2_1, ie_2_3, ie_2_4, ie_2_5, ie_2_6, ie_2_7, ie_2_8, ie_2_9, ie_3_0, ie_3_1, ie_3_2, ie_3_4, ie_3_5, ie_3_6, ie_3_7, ie_3_8, ie_3_9, ie_4_0, ie_4_1, ie_4_2, ie_4_3, ie_4_5, ie_4_6, ie_4_7, ie_4_8, ie_4_9, ie_5_0, ie_5_1, ie_5_2, ie_5_3, ie_5_4, ie_5_6, ie_5_7, ie_5_8, ie_5_9, ie_6_0, ie_6_1, ie_6_2, ie_6_3, ie_6_4, ie_6_5, ie_6_7, ie_6_8, ie_6_9, ie_7_0, ie_7_1, ie_7_2, ie_7_3, ie_7_4, ie_7_5, ie_7_6, ie_7_8, ie_7_9, ie_8_0, ie_8_1, ie_8_2, ie_8_3, ie_8_4, ie_8_5, ie_8_6, ie_8_7, ie_8_9, ie_9_0, ie_9_1, ie_9_2, ie_9_3, ie_9_4, ie_9_5, ie_9_6, ie_9_7, ie_9_8, nI_1, nI_pred, setC_21, setS_21, wI_same, Int32.reduceSub]
  by_cases h0 : stV v = 0
  · simp only [h0, nI_0, b_X0_step_61, Option.bind_some, bd2, b01, if_true, if_false, not_true_eq_false, not_false_eq_true, Bool.false_eq_true, eq_self, Int32.reduceAdd, Int32.reduceMul, Int32.reduceLE, Int32.reduceLT, reduceIte, Int32.add_assoc, ie_0_1, ie_0_2, ie_0_3, ie_0_4, ie_0_5, ie_0_6, ie_0_7, ie_0_8, ie_0_9, ie_1_0, ie_1_2, ie_1_3, ie_1_4, ie_1_5, ie_1_6, ie_1_7, ie_1_8, ie_1_9, ie_2_0, ie_2_1, ie_2_3, ie_2_4, ie_2_5, ie_2_6, ie_2_7, ie_2_8, ie_2_9, ie_3_0, ie_3_1, ie_3_2, ie_3_4, ie_3_5, ie_3_6, ie_3_7, ie_3_8, ie_3_9, ie_4_0, ie_4_1, ie_4_2, ie_4_3, ie_4_5, ie_4_6, ie_4_7, ie_4_8, ie_4_9, ie_5_0, ie_5_1, ie_5_2, ie_5_3, ie_5_4, ie_5_6, ie_5_7, ie_5_8, ie_5_9, ie_6_0, ie_6_1, ie_6_2, ie_6_3, ie_6_4, ie_6_5, ie_6_7, ie_6_8, ie_6_9, ie_7_0, ie_7_1, ie_7_2, ie_7_3, ie_7_4, ie_7_5, ie_7_6, ie_7_8, ie_7_9, ie_8_0, ie_8_1, ie_8_2, ie_8_3, ie_8_4, ie_8_5, ie_8_6, ie_8_7, ie_8_9, ie_9_0, ie_9_1, ie_9_2, ie_9_3, ie_9_4, ie_9_5, ie_9_6, ie_9_7, ie_9_8, nI_1, nI_pred, setC_21, setS_21, wI_same, Int32.reduceSub]
  · simp only [h0, nI_le0 (show 0 < stV v by omega) (show stV v < 2 ^ 31 by omega), Option.bind_some, bd2, b01, if_true, if_false, not_true_eq_false, not_false_eq_true, Bool.false_eq_true, eq_self, Int32.reduceAdd, Int32.reduceMul, Int32.reduceLE, Int32.reduceLT, reduceIte, Int32.add_assoc, ie_0_1, ie_0_2, ie_0_3, ie_0_4, ie_0_5, ie_0_6, ie_0_7, ie_0_8, ie_0_9, ie_1_0, ie_1_2, ie_1_3, ie_1_4, ie_1_5, ie_1_6, ie_1_7, ie_1_8, ie_1_9, ie_2_0, ie_2_1, ie_2_3, ie_2_4, ie_2_5, ie_2_6, ie_2_7, ie_2_8, ie_2_9, ie_3_0, ie_3_1, ie_3_2, ie_3_4, ie_3_5, ie_3_6, ie_3_7, ie_3_8, ie_3_9, ie_4_0, ie_4_1, ie_4_2, ie_4_3, ie_4_5, ie_4_6, ie_4_7, ie_4_8, ie_4_9, ie_5_0, ie_5_1, ie_5_2, ie_5_3, ie_5_4, ie_5_6, ie_5_7, ie_5_8, ie_5_9, ie_6_0, ie_6_1, ie_6_2, ie_6_3, ie_6_4, ie_6_5, ie_6_7, ie_6_8, ie_6_9, ie_7_0, ie_7_1, ie_7_2, ie_7_3, ie_7_4, ie_7_5, ie_7_6, ie_7_8, ie_7_9, ie_8_0, ie_8_1, ie_8_2, ie_8_3, ie_8_4, ie_8_5, ie_8_6, ie_8_7, ie_8_9, ie_9_0, ie_9_1, ie_9_2, ie_9_3, ie_9_4, ie_9_5, ie_9_6, ie_9_7, ie_9_8, nI_1, nI_pred, setC_21, setS_21, wI_same, Int32.reduceSub]
theorem OkV_go (h : OkV v) (hn : stV v ≠ 0) : OkV (goV v) := by
  have a := Stq_le (goV_stq h.1 hn) h.2.1 h.2.2.1 h.2.2.2
  exact ⟨(goV_good h.1 hn).1, a⟩
theorem keepC_222 : (keepC ev w p C k).2.2.2 = w.2.2.2 := by unfold keepC; split <;> rfl
theorem FrX_keepC (hk : k < 6) (h12 : C ≤ 12) (hp : Wp ev w p) : FrX [1, 11] w (setC (keepC ev w p C k) (3 + 2 * k) V) := by
  refine ⟨fun q i h0 hn => ?_, fun q i h0 hn => ?_, fun q hq _ i => ?_, ⟨fun _ j hj => ?_, fun _ j hj => ?_⟩, ⟨fun z => absurd (by decide) z, fun _ j hj => ?_⟩, fun z => absurd (by decide) z⟩
  · exact keepC_I ⟨fun z => hn (by subst z; exact List.mem_cons_self), fun z => hn (by obtain ⟨rfl, rfl⟩ := z; decide)⟩
  · show (keepC ev w p C k).2.2.1 q i = _
    unfold keepC
    split
    · rfl
    · show (if q = 26 ∧ i < 12 then some (ev.1 + cr (15 + pro p i)) else w.2.2.1 q i) = _
      rw [if_neg (fun z => hn (by rw [z.1]; decide))]
  · rw [row983C (by omega)]
    unfold keepC
    split
    · rename_i hlt
      have := (hp C hlt).2
      show (setC w (15 + p C) _).1 q i = _
      rw [row983C (by omega)]
    · have := (hp 0 (by decide)).2
      show (setC (rotW ev w p) (15 + p 0) _).1 q i = _
      rw [row983C (by omega)]
      rfl
  · rw [cv_ne (by omega), keepC_cv (by omega) hp h12]
  · rw [sl_setC (by omega), keepC_sl hp h12]
  · rw [sl_setC (by omega), keepC_sl hp h12]
theorem op_step (hE : EvOk ev) (hf : 1001 ≤ fu) (hR : Rel ev w M K T) (h1 : szW w + 1 ≤ ev.2.1) (h2 : slW w + 3 ≤ ev.2.2.1) : ∃ (r : Int32) (w1 w2 : Wd), f_X0_step fu ev (mem ev w) ev.1 x = some (r, mem ev w1) ∧ f_X2_step fu ev (mem ev w1) (ev.1 + 966) x = some (r, mem ev w2) ∧ Rel ev w2 M K T ∧ szW w2 ≤ szW w + 1 ∧ slW w2 ≤ slW w + 3 ∧ ∀ l : Nat, l < M → sl w2 l = sl w l ∨ stV (sl w l) ≠ 0 := by
  have hR0 := hR
  obtain ⟨⟨C, F, p, r⟩, -, -, ⟨n, ad, qs, n', ad', qs', ⟨l1, l2⟩, l3, l4⟩, -, -, -, -, st, h984⟩ := hR0
  have r0 := r
  obtain ⟨⟨hM6, hM, hN, hc⟩, h12, hF12, hC0, hC9, hF10, hp, -, -⟩ := r
  by_cases a : isc x M = true
  · obtain ⟨k, hk, rfl⟩ := isc_of hM6 a
    have hk6 : k < 6 := by omega
    obtain ⟨he, hok⟩ := hc k hk
    obtain ⟨v, hv⟩ : ∃ v, v = sl w k := ⟨_, rfl⟩
    rw [← hv] at he hok
    have mv : Mk v := by rw [hv]; exact Mk_sl
    obtain ⟨wA, hq, hcA, e1⟩ := X0_stepA (ev := ev) (fu := fu) (by omega) hM a hk6 he
    obtain ⟨N, -, hEn, hG, hEq⟩ := good_ends hok.1
    have hm : eqM v := hEq 0 (Nat.zero_le _)
    by_cases h0 : stV v = 0
    · rw [if_pos h0] at e1
      have sA : sl wA k = v := by rw [Sq_sl hq (by omega), hv]
      have e2 : f_X2_step fu ev (mem ev wA) (ev.1 + 966) (nI k) = some (0, mem ev wA) := by
        have ff := X2_firstOf (ev := ev) (w := wA) (K := k) (fu := fu) (by omega) (by omega) (by rw [sA]; exact hm)
        rw [sA, h0] at ff
        have hN' : wA.2.1 966 2 = nI M := by rw [hq.2.1 966 2 (by unfold sI; omega)]; exact hN
        simp only [b_X2_step_37, b_X2_step_20, b_X2_step_10, b_X2_step_8, b_X2_step_0, f_X2_step, mis, X2_isCell hN', a, ff, nI_0, Option.bind_some, bd2, b01, if_true, if_false, not_true_eq_false, not_false_eq_true, Bool.false_eq_true, eq_self, Int32.reduceAdd, Int32.reduceMul, Int32.reduceLE, Int32.reduceLT, reduceIte, Int32.add_assoc, ie_0_1, ie_0_2, ie_0_3, ie_0_4, ie_0_5, ie_0_6, ie_0_7, ie_0_8, ie_0_9, ie_1_0, ie_1_2, ie_1_3, ie_1_4, ie_1_5, ie_1_6, ie_1_7, ie_1_8, ie_1_9, ie_2_0, ie_2_1, ie_2_3, ie_2_4, ie_2_5, ie_2_6, ie_2_7, ie_2_8, ie_2_9, ie_3_0, ie_3_1, ie_3_2, ie_3_4, ie_3_5, ie_3_6, ie_3_7, ie_3_8, ie_3_9, ie_4_0, ie_4_1, ie_4_2, ie_4_3, ie_4_5, ie_4_6, ie_4_7, ie_4_8, ie_4_9, ie_5_0, ie_5_1, ie_5_2, ie_5_3, ie_5_4, ie_5_6, ie_5_7, ie_5_8, ie_5_9, ie_6_0, ie_6_1, ie_6_2, ie_6_3, ie_6_4, ie_6_5, ie_6_7, ie_6_8, ie_6_9, ie_7_0, ie_7_1, ie_7_2, ie_7_3, ie_7_4, ie_7_5, ie_7_6, ie_7_8, ie_7_9, ie_8_0, ie_8_1, ie_8_2, ie_8_3, ie_8_4, ie_8_5, ie_8_6, ie_8_7, ie_8_9, ie_9_0, ie_9_1, ie_9_2, ie_9_3, ie_9_4, ie_9_5, ie_9_6, ie_9_7, ie_9_8, nI_1, nI_pred, setC_21, setS_21, wI_same, Int32.reduceSub]
      have hs : wA.2.2 = w.2.2 := hq.2.2
      exact ⟨0, wA, wA, e1, e2, Rel_sq hR hq, by unfold szW; rw [hs]; omega, by unfold slW; rw [hs]; omega, fun l hl => Or.inl (Sq_sl hq (by omega))⟩
    · rw [if_neg h0] at e1
      have h9 := st_lt9 v
      have rA : RCK ev wA M C F p := RCK_sq hq r0
      obtain ⟨-, -, -, aC0, aC9, aF10, aP, -, -⟩ := rA
      have hg := OkV_go hok h0
      have mg := Mk_go mv
      obtain ⟨wB, hwB⟩ : ∃ wB, wB = keepC ev wA p C k := ⟨_, rfl⟩
      have cB : cv wB 2 = goV v := by rw [hwB, keepC_cv (by omega) aP h12, hcA]
      obtain ⟨w0, hw0⟩ : ∃ w0, w0 = setC wB (3 + 2 * k) (goV v) := ⟨_, rfl⟩
      have f0 : FrX [1, 11] wA w0 := by rw [hw0, hwB]; exact FrX_keepC hk6 h12 aP
      have d0 : w0.2.2.2 = w.2.2.2 := by
        rw [hw0]
        show wB.2.2.2 = _
        rw [hwB, keepC_222, hq.2.2]
      have f1 : FrX [1, 11] w w0 := FrX_trans (FrX_Sq hq) f0 (fun _ z => absurd z List.not_mem_nil) (fun _ z => z)
      have z0 : szW w0 = szW w := by unfold szW; rw [d0]
      have y0 : slW w0 = slW w := by unfold slW; rw [d0]
      have ls0 : Ls ev w0 (n, qs) n' ad' := Ls_x (w := w) ⟨l2.1, ad, l1, l4⟩ f1 (by decide) d0
      obtain ⟨w1, g1, ls1, g3, g4, g5, g6, g7, g8⟩ := cl_log (fu := fu) (k := k) (t := stV v) hE ls0 (fun j hj => by rw [z0]; exact (l3.1.2.2.2.2.2.1 j hj).2) hk6 (by omega) (by omega) (by omega) (by omega)
      have e1' : f_X0_step fu ev (mem ev w) ev.1 (nI k) = some (nI (stV v), mem ev w1) := by
        rw [e1]
        have kp := X0_keepsV (ev := ev) (w := wA) (fu := fu) (p := p) (by omega) hk6 aC0 h12 aP
        rw [← hwB] at kp
        have tk : f_X1_takes fu ev (mem ev wB) (ev.1 + cr (3 + 2 * k)) (some (ev.1 + cr 2)) = some (some (ev.1 + cr (3 + 2 * k)), mem ev w0) := by rw [X1_takes (by omega) (by omega) (by omega) (by omega), cB, hw0]
        simp only [b_X0_step_36, b_X0_step_61, xis, kp, xf0, xf4, xcells hk6, cis (show 3 + 2 * k < 118 by omega), tk, g1, Option.bind_some, bd2, b01, if_true, if_false, not_true_eq_false, not_false_eq_true, Bool.false_eq_true, eq_self, Int32.reduceAdd, Int32.reduceMul, Int32.reduceLE, Int32.reduceLT, reduceIte, Int32.add_assoc, ie_0_1, ie_0_2, ie_0_3, ie_0_4, ie_0_5, ie_0_6, ie_0_7, ie_0_8, ie_0_9, ie_1_0, ie_1_2, ie_1_3, ie_1_4, ie_1_5, ie_1_6, ie_1_7, ie_1_8, ie_1_9, ie_2_0, ie_2_1, ie_2_3, ie_2_4, ie_2_5, ie_2_6, ie_2_7, ie_2_8, ie_2_9, ie_3_0, ie_3_1, ie_3_2, ie_3_4, ie_3_5, ie_3_6, ie_3_7, ie_3_8, ie_3_9, ie_4_0, ie_4_1, ie_4_2, ie_4_3, ie_4_5, ie_4_6, ie_4_7, ie_4_8, ie_4_9, ie_5_0, ie_5_1, ie_5_2, ie_5_3, ie_5_4, ie_5_6, ie_5_7, ie_5_8, ie_5_9, ie_6_0, ie_6_1, ie_6_2, ie_6_3, ie_6_4, ie_6_5, ie_6_7, ie_6_8, ie_6_9, ie_7_0, ie_7_1, ie_7_2, ie_7_3, ie_7_4, ie_7_5, ie_7_6, ie_7_8, ie_7_9, ie_8_0, ie_8_1, ie_8_2, ie_8_3, ie_8_4, ie_8_5, ie_8_6, ie_8_7, ie_8_9, ie_9_0, ie_9_1, ie_9_2, ie_9_3, ie_9_4, ie_9_5, ie_9_6, ie_9_7, ie_9_8, nI_1, nI_pred, setC_21, setS_21, wI_same, Int32.reduceSub]
      have s1 : ∀ K : Nat, K ≠ 6 ∧ K ≠ 7 → sl w1 K = sl w K := fun K hK => by rw [sl_row g5, hw0, sl_setC (by omega), hwB, keepC_sl aP h12, Sq_sl hq hK]
      have i1 : ∀ q i : Nat, kI q i = 1 → ¬ (q = 27) ∧ ¬ (q = 0 ∧ i = 8) → w1.2.1 q i = w.2.1 q i := fun q i h h' => by
        rw [g3.1 q i (by omega) (by rw [h]; decide), hw0]
        show wB.2.1 q i = _
        rw [hwB, keepC_I h', hq.2.1 q i (kI_sI (by omega))]
      have sk1 : sl w1 k = v := by rw [s1 k (by omega), hv]
      obtain ⟨wR, hwR⟩ : ∃ wR, wR = keepM w1 C F k := ⟨_, rfl⟩
      have skR : sl wR k = v := by rw [hwR, keepM_sl (by omega), sk1]
      obtain ⟨wS, hwS⟩ : ∃ wS, wS = setS wR k (goV v) := ⟨_, rfl⟩
      have i14 : w1.2.1 966 4 = w.2.1 966 4 := by rw [g3.1 966 4 (by decide) (by decide), f1.1 966 4 (by decide) (by decide)]
      have lm1 : LM w1 4 969 n qs := LM4_x (LM4_x l2 f1 (by decide)) g3 (by decide)
      have lmS : LM wS 4 969 n qs := by
        obtain ⟨q1, q2, q3⟩ := lm1
        have hI : ∀ q i : Nat, q ≠ 973 ∧ ¬ (q = 966 ∧ (i = 9 ∨ i = 10)) → wS.2.1 q i = w1.2.1 q i := fun q i h => by
          rw [hwS]
          show wR.2.1 q i = _
          rw [hwR, keepM_I h]
        exact ⟨q1, (hI _ _ (by omega)).trans q2, fun i hi => by rw [hI _ _ (by omega)]; exact q3 i hi⟩
      obtain ⟨w2, m1, m2, m3, m4, m5, m6⟩ := ml_log (ev := ev) (fu := fu) (k := k) (t := stV v) (w := wS) (s := (n, qs)) (by omega) lmS hk6 (by omega)
      have e2 : f_X2_step fu ev (mem ev w1) (ev.1 + 966) (nI k) = some (nI (stV v), mem ev w2) := by
        have ff := X2_firstOf (ev := ev) (w := w1) (K := k) (fu := fu) (by omega) (by omega) (by rw [sk1]; exact hm)
        rw [sk1] at ff
        have hN' : w1.2.1 966 2 = nI M := by rw [i1 966 2 rfl (by omega)]; exact hN
        have rm := X2_remembersV (ev := ev) (w := w1) (fu := fu) (k := k) (by omega) hk6 (by rw [i1 966 9 rfl (by omega)]; exact hC9) h12 (by rw [i1 966 10 rfl (by omega)]; exact hF10) hF12
        rw [← hwR] at rm
        have ds := X2_doesV (ev := ev) (w := wR) (K := k) (fu := fu) (by omega) (by omega) (by rw [skR]; exact h0)
        rw [skR, ← hwS] at ds
        simp only [b_X2_step_37, b_X2_step_20, b_X2_step_10, b_X2_step_8, b_X2_step_0, f_X2_step, mis, X2_isCell hN', a, ff, rm, ds, m1, nI_le0 (show 0 < stV v by omega) (show stV v < 2 ^ 31 by omega), Option.bind_some, bd2, b01, if_true, if_false, not_true_eq_false, not_false_eq_true, Bool.false_eq_true, eq_self, Int32.reduceAdd, Int32.reduceMul, Int32.reduceLE, Int32.reduceLT, reduceIte, Int32.add_assoc, ie_0_1, ie_0_2, ie_0_3, ie_0_4, ie_0_5, ie_0_6, ie_0_7, ie_0_8, ie_0_9, ie_1_0, ie_1_2, ie_1_3, ie_1_4, ie_1_5, ie_1_6, ie_1_7, ie_1_8, ie_1_9, ie_2_0, ie_2_1, ie_2_3, ie_2_4, ie_2_5, ie_2_6, ie_2_7, ie_2_8, ie_2_9, ie_3_0, ie_3_1, ie_3_2, ie_3_4, ie_3_5, ie_3_6, ie_3_7, ie_3_8, ie_3_9, ie_4_0, ie_4_1, ie_4_2, ie_4_3, ie_4_5, ie_4_6, ie_4_7, ie_4_8, ie_4_9, ie_5_0, ie_5_1, ie_5_2, ie_5_3, ie_5_4, ie_5_6, ie_5_7, ie_5_8, ie_5_9, ie_6_0, ie_6_1, ie_6_2, ie_6_3, ie_6_4, ie_6_5, ie_6_7, ie_6_8, ie_6_9, ie_7_0, ie_7_1, ie_7_2, ie_7_3, ie_7_4, ie_7_5, ie_7_6, ie_7_8, ie_7_9, ie_8_0, ie_8_1, ie_8_2, ie_8_3, ie_8_4, ie_8_5, ie_8_6, ie_8_7, ie_8_9, ie_9_0, ie_9_1, ie_9_2, ie_9_3, ie_9_4, ie_9_5, ie_9_6, ie_9_7, ie_9_8, nI_1, nI_pred, setC_21, setS_21, wI_same, Int32.reduceSub]
      have fS : FrX [14, 20] (setS (keepM w1 C F k) k (goV v)) w2 := by rw [← hwR, ← hwS]; exact m3
      obtain ⟨r2, f2⟩ := RCK_mod2 (w := wA) (RCK_sq hq r0) hk mg hg (hw0.trans (by rw [hwB])) g3 (by decide) (by decide) (by decide) fS (by decide) (by decide) (by decide)
      have f3 : FrX [1, 11, 21, 4, 10, 14, 20] w w2 := FrX_trans (FrX_Sq hq) f2 (fun _ z => absurd z List.not_mem_nil) (fun _ z => z)
      have d2 : w2.2.2 = w1.2.2 := by
        rw [m5, hwS]
        show wR.2.2 = _
        rw [hwR, keepM_22]
      have fk : FrK n' ad' w w2 := FrK_trans (FrK_trans (FrK_eq d0) g4) (FrK_eq (by rw [d2]))
      have fx2 : FrX [1, 11, 21, 14, 20] w1 w2 := by
        refine FrX_trans (S := [1, 11, 21]) (T := [14, 20]) (w' := wS) ?_ m3 (by decide) (by decide)
        rw [hwS, hwR]
        refine ⟨fun q i h0 hn => keepM_I ⟨fun z => hn (by subst z; exact List.mem_cons_self), fun z => hn (by obtain ⟨rfl, rfl | rfl⟩ := z <;> decide)⟩, fun q i h0 hn => ?_, fun q hq _ i => ?_, ⟨fun _ j hj => ?_, fun _ j hj => ?_⟩, ⟨fun z => absurd (by decide) z, fun z => absurd (by decide) z⟩, fun z => absurd (by decide) z⟩
        · show (keepM w1 C F k).2.2.1 q i = _
          rw [keepM_22]
        · rw [row983S, keepM_983]
        · rw [cv_setS (by omega), keepM_cv (by omega)]
        · rw [sl_ne (by omega), keepM_sl (by omega)]
      refine ⟨nI (stV v), w1, w2, e1', e2, Rel_mk1 hR f3 fk.1 r2 (RLg_mk l3 f3 (by decide) (by decide) fk (Ls_x ls1 fx2 (by decide) (by rw [d2])) m2) ?_, by unfold szW at *; rw [d2]; omega, by unfold slW at *; rw [d2]; omega, fun l hl => ?_⟩
      · have c5 : w2.2.1 0 5 = w1.2.1 0 5 := fx2.1 0 5 (by decide) (by decide)
        have c8 : wS.2.1 966 8 = w1.2.1 966 8 := by
          rw [hwS]
          show wR.2.1 966 8 = _
          rw [hwR, keepM_I (by omega)]
        have c9 : w1.2.1 966 8 = w.2.1 966 8 := by rw [g3.1 966 8 (by decide) (by decide), f1.1 966 8 (by decide) (by decide)]
        rw [c5, g6, f1.1 0 5 (by decide) (by decide), m6, c8, c9, st]
      · by_cases e : l = k
        · subst e
          exact Or.inr (by rw [← hv]; exact h0)
        · refine Or.inl ?_
          rw [sl_row m4, hwS, sl_ne e, hwR, keepM_sl (by omega), s1 l (by omega)]
  · have e1 : f_X0_step fu ev (mem ev w) ev.1 x = some (-1, mem ev w) := by simp only [b_X0_step_61, b_X0_step_36, b_X0_step_10, b_X0_step_8, b_X0_step_0, f_X0_step, xis, X0_isCell hM, a, Option.bind_some, bd2, b01, if_true, if_false, not_true_eq_false, not_false_eq_true, Bool.false_eq_true, eq_self, Int32.reduceAdd, Int32.reduceMul, Int32.reduceLE, Int32.reduceLT, reduceIte, Int32.add_assoc, ie_0_1, ie_0_2, ie_0_3, ie_0_4, ie_0_5, ie_0_6, ie_0_7, ie_0_8, ie_0_9, ie_1_0, ie_1_2, ie_1_3, ie_1_4, ie_1_5, ie_1_6, ie_1_7, ie_1_8, ie_1_9, ie_2_0, ie_2_1, ie_2_3, ie_2_4, ie_2_5, ie_2_6, ie_2_7, ie_2_8, ie_2_9, ie_3_0, ie_3_1, ie_3_2, ie_3_4, ie_3_5, ie_3_6, ie_3_7, ie_3_8, ie_3_9, ie_4_0, ie_4_1, ie_4_2, ie_4_3, ie_4_5, ie_4_6, ie_4_7, ie_4_8, ie_4_9, ie_5_0, ie_5_1, ie_5_2, ie_5_3, ie_5_4, ie_5_6, ie_5_7, ie_5_8, ie_5_9, ie_6_0, ie_6_1, ie_6_2, ie_6_3, ie_6_4, ie_6_5, ie_6_7, ie_6_8, ie_6_9, ie_7_0, ie_7_1, ie_7_2, ie_7_3, ie_7_4, ie_7_5, ie_7_6, ie_7_8, ie_7_9, ie_8_0, ie_8_1, ie_8_2, ie_8_3, ie_8_4, ie_8_5, ie_8_6, ie_8_7, ie_8_9, ie_9_0, ie_9_1, ie_9_2, ie_9_3, ie_9_4, ie_9_5, ie_9_6, ie_9_7, ie_9_8, nI_1, nI_pred, setC_21, setS_21, wI_same, Int32.reduceSub]
    have e2 : f_X2_step fu ev (mem ev w) (ev.1 + 966) x = some (-1, mem ev w) := by simp only [b_X2_step_37, b_X2_step_20, b_X2_step_10, b_X2_step_8, b_X2_step_0, f_X2_step, mis, X2_isCell hN, a, Option.bind_some, bd2, b01, if_true, if_false, not_true_eq_false, not_false_eq_true, Bool.false_eq_true, eq_self, Int32.reduceAdd, Int32.reduceMul, Int32.reduceLE, Int32.reduceLT, reduceIte, Int32.add_assoc, ie_0_1, ie_0_2, ie_0_3, ie_0_4, ie_0_5, ie_0_6, ie_0_7, ie_0_8, ie_0_9, ie_1_0, ie_1_2, ie_1_3, ie_1_4, ie_1_5, ie_1_6, ie_1_7, ie_1_8, ie_1_9, ie_2_0, ie_2_1, ie_2_3, ie_2_4, ie_2_5, ie_2_6, ie_2_7, ie_2_8, ie_2_9, ie_3_0, ie_3_1, ie_3_2, ie_3_4, ie_3_5, ie_3_6, ie_3_7, ie_3_8, ie_3_9, ie_4_0, ie_4_1, ie_4_2, ie_4_3, ie_4_5, ie_4_6, ie_4_7, ie_4_8, ie_4_9, ie_5_0, ie_5_1, ie_5_2, ie_5_3, ie_5_4, ie_5_6, ie_5_7, ie_5_8, ie_5_9, ie_6_0, ie_6_1, ie_6_2, ie_6_3, ie_6_4, ie_6_5, ie_6_7, ie_6_8, ie_6_9, ie_7_0, ie_7_1, ie_7_2, ie_7_3, ie_7_4, ie_7_5, ie_7_6, ie_7_8, ie_7_9, ie_8_0, ie_8_1, ie_8_2, ie_8_3, ie_8_4, ie_8_5, ie_8_6, ie_8_7, ie_8_9, ie_9_0, ie_9_1, ie_9_2, ie_9_3, ie_9_4, ie_9_5, ie_9_6, ie_9_7, ie_9_8, nI_1, nI_pred, setC_21, setS_21, wI_same, Int32.reduceSub]
    exact ⟨-1, w, w, e1, e2, hR, by omega, by omega, fun _ _ => Or.inl rfl⟩
end XO15
