/-! OPERATION reduce, RELATED (the end) -/
section XO17
variable {ev : Ev} {w w' w1 wb w2 wR : Wd} {fu M M' C F k n n' t B : Nat} {x : Int32} {p ad qs ad' qs' : Nat → Nat} {K : Option Nat} {T : Nat} {S U : List Nat} {V v : Nat → Int64} {s : Nat × (Nat → Nat)}
theorem FrX_keepS (hk : k < 6) : FrX [1, 11, 21] w (setS (keepM w C F k) k V) := by
  refine ⟨fun q i h0 hn => keepM_I ⟨fun z => hn (by subst z; exact List.mem_cons_self), fun z => hn (by obtain ⟨rfl, rfl | rfl⟩ := z <;> decide)⟩, fun q i h0 hn => ?_, fun q hq _ i => ?_, ⟨fun _ j hj => ?_, fun _ j hj => ?_⟩, ⟨fun z => absurd (by decide) z, fun z => absurd (by decide) z⟩, fun z => absurd (by decide) z⟩
  · show (keepM w C F k).2.2.1 q i = _
    rw [keepM_22]
  · rw [row983S, keepM_983]
  · rw [cv_setS (by omega), keepM_cv (by omega)]
  · rw [sl_ne (by omega), keepM_sl (by omega)]
theorem op_reduce (hE : EvOk ev) (hB : B < 1000000) (hSB : ∀ (v : Nat → Int64) (N : Nat), OkV v → Ends v N → N ≤ B) (hf : 1000000 ≤ fu) (hR : Rel ev w M K T) (h1 : szW w + B ≤ ev.2.1) (h2 : slW w + 3 * B ≤ ev.2.2.1) : ∃ (r : Int32) (w1 w2 : Wd), f_X0_reduce fu ev (mem ev w) ev.1 x = some (r, mem ev w1) ∧ f_X2_reduce fu ev (mem ev w1) (ev.1 + 966) x = some (r, mem ev w2) ∧ Rel ev w2 M K T ∧ slW w2 ≤ slW w + 3 * B ∧
    ((szW w2 = szW w ∧ ∀ l : Nat, l < M → sl w2 l = sl w l) ∨ (szW w2 ≤ szW w + B ∧ ∃ k : Nat, k < M ∧ stV (sl w k) ≠ 0 ∧ stV (sl w2 k) = 0 ∧ ∀ l : Nat, l < M → l ≠ k → sl w2 l = sl w l)) := by
  have hR0 := hR
  obtain ⟨⟨C, F, p, r⟩, -, -, ⟨n, ad, qs, n', ad', qs', ⟨l1, l2⟩, l3, l4⟩, -, -, -, -, st, h984⟩ := hR0
  have r0 := r
  obtain ⟨⟨hM6, hM, hN, hc⟩, h12, hF12, hC0, hC9, hF10, hp, -, -⟩ := r
  by_cases a : isc x M = true
  · obtain ⟨k, hk, rfl⟩ := isc_of hM6 a
    have hk6 : k < 6 := by omega
    obtain ⟨he, hok⟩ := hc k hk
    obtain ⟨v, hv⟩ : ∃ v, v = sl w k := ⟨_, rfl⟩
    rw [← hv] at he hok
    have mv : Mk v := by rw [hv]; exact Mk_sl
    obtain ⟨N, -, hEn, hG, hEq⟩ := good_ends hok.1
    have hNB := hSB v N hok hEn
    -- the class
    obtain ⟨t, e⟩ := X1_steps (ev := ev) (w := setC w 2 v) (c := 2) (by decide) (show 10 ≤ fu by omega)
    rw [cv_mk mv] at e
    obtain ⟨wA, hwA⟩ : ∃ wA, wA = setC (setT (setC w 2 v) 2 t) 2 (goV v) := ⟨_, rfl⟩
    rw [← hwA] at e
    have qA : Sq w wA := by rw [hwA]; exact Sq_trans (Sq_trans (Sq_setC (by decide)) (Sq_setT (by decide))) (Sq_setC (by decide))
    have dA : wA.2.2 = w.2.2 := qA.2.2
    have zA : szW wA = szW w := by unfold szW; rw [dA]
    have yA : slW wA = slW w := by unfold slW; rw [dA]
    have cA : cv wA 2 = goV v := by rw [hwA, cv_mk (Mk_go mv)]
    have lsA : Ls ev wA (n, qs) n' ad' := Ls_x (w := w) ⟨l2.1, ad, l1, l4⟩ (FrX_Sq qA) (by decide) (by rw [dA])
    obtain ⟨wE, g1, g2, g3, g4, g5, g6, g7, g8⟩ := Lx_red (fu := fu) (k := k) hE (by omega) hk6 N fu wA v (n, qs) 0 hEn mv cA lsA (fun j hj => by rw [zA]; exact (l3.1.2.2.2.2.2.1 j hj).2) (by omega) (by omega) (by omega) (by omega)
    have fE : FrX [4, 10] w wE := FrX_trans (FrX_Sq qA) g4 (by decide) (by decide)
    have kE : FrK n' ad' w wE := FrK_trans (FrK_eq (by rw [dA])) g5
    have e0 : f_X0_reduce fu ev (mem ev w) ev.1 (nI k) = b_X0_reduce_58 fu ev (mem ev wE) ev.1 (nI k) (nI N) := by
      have tk : f_X1_takes fu ev (mem ev w) (ev.1 + cr 2) (some (ev.1 + cr (3 + 2 * k))) = some (some (ev.1 + cr 2), mem ev (setC w 2 v)) := by rw [X1_takes (by decide) (by omega) (by omega) (by omega), he]
      rw [Int32.zero_add] at g1
      simp only [f_X0_reduce, b_X0_reduce_0, b_X0_reduce_10, xis, X0_isCell hM, a, xf4, xf0, xcells hk6, cis (show 2 < 118 by decide), tk, e, Option.bind_some, bd2, b01, if_true, if_false, not_true_eq_false, not_false_eq_true, Bool.false_eq_true, eq_self, Int32.reduceAdd, Int32.reduceMul, Int32.reduceLE, Int32.reduceLT, reduceIte, Int32.add_assoc, ie_0_1, ie_0_2, ie_0_3, ie_0_4, ie_0_5, ie_0_6, ie_0_7, ie_0_8, ie_0_9, ie_1_0, ie_1_2, ie_1_3, ie_1_4, ie_1_5, ie_1_6, ie_1_7, ie_1_8, ie_1_9, ie_2_0, ie_2_1, ie_2_3, ie_2_4, ie_2_5, ie_2_6, ie_2_7, ie_2_8, ie_2_9, ie_3_0, ie_3_1, ie_3_2, ie_3_4, ie_3_5, ie_3_6, ie_3_7, ie_3_8, ie_3_9, ie_4_0, ie_4_1, ie_4_2, ie_4_3, ie_4_5, ie_4_6, ie_4_7, ie_4_8, ie_4_9, ie_5_0, ie_5_1, ie_5_2, ie_5_3, ie_5_4, ie_5_6, ie_5_7, ie_5_8, ie_5_9, ie_6_0, ie_6_1, ie_6_2, ie_6_3, ie_6_4, ie_6_5, ie_6_7, ie_6_8, ie_6_9, ie_7_0, ie_7_1, ie_7_2, ie_7_3, ie_7_4, ie_7_5, ie_7_6, ie_7_8, ie_7_9, ie_8_0, ie_8_1, ie_8_2, ie_8_3, ie_8_4, ie_8_5, ie_8_6, ie_8_7, ie_8_9, ie_9_0, ie_9_1, ie_9_2, ie_9_3, ie_9_4, ie_9_5, ie_9_6, ie_9_7, ie_9_8, nI_1, nI_pred, setC_21, setS_21, wI_same, Int32.reduceSub]
      exact g1
    have rE : RCK ev wE M C F p := RCK_x r0 fE (by decide) (by decide) (by decide)
    cases N with
    | zero =>
      have hz : stV v = 0 := hEn.2
      have sE : sl wE k = v := by rw [fE.2.2.2.2.1.2 (by decide) k hk6, hv]
      have e2 : f_X2_reduce fu ev (mem ev wE) (ev.1 + 966) (nI k) = some (nI 0, mem ev wE) := by
        have ff := X2_firstOf (ev := ev) (w := wE) (K := k) (fu := fu) (by omega) (by omega) (by rw [sE]; exact hEq 0 (Nat.le_refl _))
        rw [sE, hz] at ff
        obtain ⟨g, rfl⟩ : ∃ g, fu = g + 1 := ⟨fu - 1, by omega⟩
        have hN' : wE.2.1 966 2 = nI M := rE.1.2.2.1
        simp only [f_X2_reduce, b_X2_reduce_0, b_X2_reduce_10, b_X2_reduce_23, mis, X2_isCell hN', a, ff, nI_0, L_X2_reduce_31, b_X2_reduce_31, b_X2_reduce_59, Option.bind_some, bd2, b01, if_true, if_false, not_true_eq_false, not_false_eq_true, Bool.false_eq_true, eq_self, Int32.reduceAdd, Int32.reduceMul, Int32.reduceLE, Int32.reduceLT, reduceIte, Int32.add_assoc, ie_0_1, ie_0_2, ie_0_3, ie_0_4, ie_0_5, ie_0_6, ie_0_7, ie_0_8, ie_0_9, ie_1_0, ie_1_2, ie_1_3, ie_1_4, ie_1_5, ie_1_6, ie_1_7, ie_1_8, ie_1_9, ie_2_0, ie_2_1, ie_2_3, ie_2_4, ie_2_5, ie_2_6, ie_2_7, ie_2_8, ie_2_9, ie_3_0, ie_3_1, ie_3_2, ie_3_4, ie_3_5, ie_3_6, ie_3_7, ie_3_8, ie_3_9, ie_4_0, ie_4_1, ie_4_2, ie_4_3, ie_4_5, ie_4_6, ie_4_7, ie_4_8, ie_4_9, ie_5_0, ie_5_1, ie_5_2, ie_5_3, ie_5_4, ie_5_6, ie_5_7, ie_5_8, ie_5_9, ie_6_0, ie_6_1, ie_6_2, ie_6_3, ie_6_4, ie_6_5, ie_6_7, ie_6_8, ie_6_9, ie_7_0, ie_7_1, ie_7_2, ie_7_3, ie_7_4, ie_7_5, ie_7_6, ie_7_8, ie_7_9, ie_8_0, ie_8_1, ie_8_2, ie_8_3, ie_8_4, ie_8_5, ie_8_6, ie_8_7, ie_8_9, ie_9_0, ie_9_1, ie_9_2, ie_9_3, ie_9_4, ie_9_5, ie_9_6, ie_9_7, ie_9_8, nI_1, nI_pred, setC_21, setS_21, wI_same, Int32.reduceSub]
      have e1 : f_X0_reduce fu ev (mem ev w) ev.1 (nI k) = some (nI 0, mem ev wE) := by
        rw [e0]
        simp only [b_X0_reduce_58, b_X0_reduce_81, nI_0, Option.bind_some, bd2, b01, if_true, if_false, not_true_eq_false, not_false_eq_true, Bool.false_eq_true, eq_self, Int32.reduceAdd, Int32.reduceMul, Int32.reduceLE, Int32.reduceLT, reduceIte, Int32.add_assoc, ie_0_1, ie_0_2, ie_0_3, ie_0_4, ie_0_5, ie_0_6, ie_0_7, ie_0_8, ie_0_9, ie_1_0, ie_1_2, ie_1_3, ie_1_4, ie_1_5, ie_1_6, ie_1_7, ie_1_8, ie_1_9, ie_2_0, ie_2_1, ie_2_3, ie_2_4, ie_2_5, ie_2_6, ie_2_7, ie_2_8, ie_2_9, ie_3_0, ie_3_1, ie_3_2, ie_3_4, ie_3_5, ie_3_6, ie_3_7, ie_3_8, ie_3_9, ie_4_0, ie_4_1, ie_4_2, ie_4_3, ie_4_5, ie_4_6, ie_4_7, ie_4_8, ie_4_9, ie_5_0, ie_5_1, ie_5_2, ie_5_3, ie_5_4, ie_5_6, ie_5_7, ie_5_8, ie_5_9, ie_6_0, ie_6_1, ie_6_2, ie_6_3, ie_6_4, ie_6_5, ie_6_7, ie_6_8, ie_6_9, ie_7_0, ie_7_1, ie_7_2, ie_7_3, ie_7_4, ie_7_5, ie_7_6, ie_7_8, ie_7_9, ie_8_0, ie_8_1, ie_8_2, ie_8_3, ie_8_4, ie_8_5, ie_8_6, ie_8_7, ie_8_9, ie_9_0, ie_9_1, ie_9_2, ie_9_3, ie_9_4, ie_9_5, ie_9_6, ie_9_7, ie_9_8, nI_1, nI_pred, setC_21, setS_21, wI_same, Int32.reduceSub]
      have s5 : wE.2.1 0 5 = wE.2.1 966 8 := by rw [g6, nI_0, Int32.add_zero, qA.2.1 0 5 (by unfold sI; omega), fE.1 966 8 (by decide) (by decide), st]
      obtain ⟨lsE, adE, LE, neE⟩ := g3
      exact ⟨nI 0, wE, wE, e1, e2, Rel_mk1 hR (FrX_mono fE (by decide)) kE.1 ⟨C, F, p, rE⟩ (RLg_mk l3 fE (by decide) (by decide) kE ⟨lsE, adE, LE, neE⟩ (LM4_x l2 fE (by decide))) s5, by omega, Or.inl ⟨by omega, fun l hl => fE.2.2.2.2.1.2 (by decide) l (by omega)⟩⟩
    | succ N =>
      have hz : stV v ≠ 0 := hEn.1 0 (by omega)
      have h9 := st_lt9 v
      have mN := Mk_it mv (N + 1)
      have okN := OkV_it (N + 1) v hok hEn
      obtain ⟨-, -, -, aC0, aC9, aF10, aP, -, -⟩ := id rE
      obtain ⟨wB, hwB⟩ : ∃ wB, wB = keepC ev wE p C k := ⟨_, rfl⟩
      have cB : cv wB 2 = itV (N + 1) v := by rw [hwB, keepC_cv (by omega) aP h12, g2]
      obtain ⟨w1, hw1⟩ : ∃ w1, w1 = setC wB (3 + 2 * k) (itV (N + 1) v) := ⟨_, rfl⟩
      have f1 : FrX [1, 11] wE w1 := by rw [hw1, hwB]; exact FrX_keepC hk6 h12 aP
      have d1 : w1.2.2.2 = wE.2.2.2 := by
        rw [hw1]
        show wB.2.2.2 = _
        rw [hwB, keepC_222]
      have e1 : f_X0_reduce fu ev (mem ev w) ev.1 (nI k) = some (nI (N + 1), mem ev w1) := by
        rw [e0]
        have kp := X0_keepsV (ev := ev) (w := wE) (fu := fu) (p := p) (by omega) hk6 aC0 h12 aP
        rw [← hwB] at kp
        have tk : f_X1_takes fu ev (mem ev wB) (ev.1 + cr (3 + 2 * k)) (some (ev.1 + cr 2)) = some (some (ev.1 + cr (3 + 2 * k)), mem ev w1) := by rw [X1_takes (by omega) (by omega) (by omega) (by omega), cB, hw1]
        simp only [b_X0_reduce_58, b_X0_reduce_62, b_X0_reduce_81, nI_le0 (show 0 < N + 1 by omega) (show N + 1 < 2 ^ 31 by omega), xis, kp, xf0, xf4, xcells hk6, cis (show 3 + 2 * k < 118 by omega), tk, Option.bind_some, bd2, b01, if_true, if_false, not_true_eq_false, not_false_eq_true, Bool.false_eq_true, eq_self, Int32.reduceAdd, Int32.reduceMul, Int32.reduceLE, Int32.reduceLT, reduceIte, Int32.add_assoc, ie_0_1, ie_0_2, ie_0_3, ie_0_4, ie_0_5, ie_0_6, ie_0_7, ie_0_8, ie_0_9, ie_1_0, ie_1_2, ie_1_3, ie_1_4, ie_1_5, ie_1_6, ie_1_7, ie_1_8, ie_1_9, ie_2_0, ie_2_1, ie_2_3, ie_2_4, ie_2_5, ie_2_6, ie_2_7, ie_2_8, ie_2_9, ie_3_0, ie_3_1, ie_3_2, ie_3_4, ie_3_5, ie_3_6, ie_3_7, ie_3_8, ie_3_9, ie_4_0, ie_4_1, ie_4_2, ie_4_3, ie_4_5, ie_4_6, ie_4_7, ie_4_8, ie_4_9, ie_5_0, ie_5_1, ie_5_2, ie_5_3, ie_5_4, ie_5_6, ie_5_7, ie_5_8, ie_5_9, ie_6_0, ie_6_1, ie_6_2, ie_6_3, ie_6_4, ie_6_5, ie_6_7, ie_6_8, ie_6_9, ie_7_0, ie_7_1, ie_7_2, ie_7_3, ie_7_4, ie_7_5, ie_7_6, ie_7_8, ie_7_9, ie_8_0, ie_8_1, ie_8_2, ie_8_3, ie_8_4, ie_8_5, ie_8_6, ie_8_7, ie_8_9, ie_9_0, ie_9_1, ie_9_2, ie_9_3, ie_9_4, ie_9_5, ie_9_6, ie_9_7, ie_9_8, nI_1, nI_pred, setC_21, setS_21, wI_same, Int32.reduceSub]
      -- the model
      have s1 : ∀ K : Nat, K < 6 → sl w1 K = sl w K := fun K hK => by rw [hw1, sl_setC (by omega), hwB, keepC_sl aP h12, fE.2.2.2.2.1.2 (by decide) K hK]
      have sk1 : sl w1 k = v := by rw [s1 k hk6, hv]
      have i1 : ∀ q i : Nat, kI q i = 1 → ¬ (q = 27) ∧ ¬ (q = 0 ∧ i = 8) → w1.2.1 q i = wE.2.1 q i := fun q i h h' => by
        rw [hw1]
        show wB.2.1 q i = _
        rw [hwB, keepC_I h']
      have hN' : w1.2.1 966 2 = nI M := by rw [i1 966 2 rfl (by omega)]; exact rE.1.2.2.1
      obtain ⟨wR, hwR⟩ : ∃ wR, wR = keepM w1 C F k := ⟨_, rfl⟩
      have skR : sl wR k = v := by rw [hwR, keepM_sl (by omega), sk1]
      have fR : FrX [14, 20] (setS wR k v) wR := by
        have hh : sl wR k = v := skR
        refine ⟨fun _ _ _ _ => rfl, fun _ _ _ _ => rfl, fun q hq _ i => by rw [row983S], ⟨fun _ j hj => by rw [cv_setS (by omega)], fun _ j hj => by rw [sl_ne (by omega)]⟩, ⟨fun _ j hj => by rw [cv_setS (by omega)], fun _ j hj => ?_⟩, fun _ j hj => ⟨by rw [cv_setS (by omega)], by rw [sl_ne (by omega)]⟩⟩
        by_cases e : j = k
        · rw [e, sl_mk mv, hh]
        · rw [sl_ne e]
      have lm1 : LM w1 4 969 n qs := LM4_x (LM4_x l2 fE (by decide)) f1 (by decide)
      have lmR : LM wR 4 969 n qs := by
        obtain ⟨q1, q2, q3⟩ := lm1
        have hI : ∀ q i : Nat, q ≠ 973 ∧ ¬ (q = 966 ∧ (i = 9 ∨ i = 10)) → wR.2.1 q i = w1.2.1 q i := fun q i h => by rw [hwR, keepM_I h]
        exact ⟨q1, (hI _ _ (by omega)).trans q2, fun i hi => by rw [hI _ _ (by omega)]; exact q3 i hi⟩
      obtain ⟨w2, m1, m2, m3, m4, m5, m6, m7⟩ := Lm_red (ev := ev) (fu := fu) (wR := wR) (k := k) (by omega) hk6 (N + 1) fu wR v (n, qs) 0 hEn hEq mv fR skR lmR (by omega)
      rw [Int32.zero_add] at m1
      have e2 : f_X2_reduce fu ev (mem ev w1) (ev.1 + 966) (nI k) = some (nI (N + 1), mem ev w2) := by
        have ff := X2_firstOf (ev := ev) (w := w1) (K := k) (fu := fu) (by omega) (by omega) (by rw [sk1]; exact hEq 0 (Nat.zero_le _))
        have fg := X2_firstOf (ev := ev) (w := wR) (K := k) (fu := fu) (by omega) (by omega) (by rw [skR]; exact hEq 0 (Nat.zero_le _))
        rw [sk1] at ff
        rw [skR] at fg
        have rm := X2_remembersV (ev := ev) (w := w1) (fu := fu) (k := k) (by omega) hk6 (by rw [i1 966 9 rfl (by omega)]; exact aC9) h12 (by rw [i1 966 10 rfl (by omega)]; exact aF10) hF12
        rw [← hwR] at rm
        simp only [f_X2_reduce, b_X2_reduce_0, b_X2_reduce_10, b_X2_reduce_18, b_X2_reduce_23, mis, X2_isCell hN', a, ff, fg, rm, nI_le0 (show 0 < stV v by omega) (show stV v < 2 ^ 31 by omega), Option.bind_some, bd2, b01, if_true, if_false, not_true_eq_false, not_false_eq_true, Bool.false_eq_true, eq_self, Int32.reduceAdd, Int32.reduceMul, Int32.reduceLE, Int32.reduceLT, reduceIte, Int32.add_assoc, ie_0_1, ie_0_2, ie_0_3, ie_0_4, ie_0_5, ie_0_6, ie_0_7, ie_0_8, ie_0_9, ie_1_0, ie_1_2, ie_1_3, ie_1_4, ie_1_5, ie_1_6, ie_1_7, ie_1_8, ie_1_9, ie_2_0, ie_2_1, ie_2_3, ie_2_4, ie_2_5, ie_2_6, ie_2_7, ie_2_8, ie_2_9, ie_3_0, ie_3_1, ie_3_2, ie_3_4, ie_3_5, ie_3_6, ie_3_7, ie_3_8, ie_3_9, ie_4_0, ie_4_1, ie_4_2, ie_4_3, ie_4_5, ie_4_6, ie_4_7, ie_4_8, ie_4_9, ie_5_0, ie_5_1, ie_5_2, ie_5_3, ie_5_4, ie_5_6, ie_5_7, ie_5_8, ie_5_9, ie_6_0, ie_6_1, ie_6_2, ie_6_3, ie_6_4, ie_6_5, ie_6_7, ie_6_8, ie_6_9, ie_7_0, ie_7_1, ie_7_2, ie_7_3, ie_7_4, ie_7_5, ie_7_6, ie_7_8, ie_7_9, ie_8_0, ie_8_1, ie_8_2, ie_8_3, ie_8_4, ie_8_5, ie_8_6, ie_8_7, ie_8_9, ie_9_0, ie_9_1, ie_9_2, ie_9_3, ie_9_4, ie_9_5, ie_9_6, ie_9_7, ie_9_8, nI_1, nI_pred, setC_21, setS_21, wI_same, Int32.reduceSub]
        exact m1
      have fS : FrX [14, 20] (setS (keepM w1 C F k) k (itV (N + 1) v)) w2 := by rw [← hwR]; exact m2
      obtain ⟨r2, f2⟩ := RCK_mod2 (w := wE) (S := []) rE hk mN okN (hw1.trans (by rw [hwB])) FrX_refl (by decide) (by decide) (by decide) fS (by decide) (by decide) (by decide)
      have f3 : FrX [1, 11, 21, 4, 10, 14, 20] w w2 := FrX_trans fE f2 (by decide) (by decide)
      have d2 : w2.2.2 = w1.2.2 := by rw [m4, hwR, keepM_22]
      have d3 : w2.2.2.2 = wE.2.2.2 := by rw [d2, d1]
      have fk : FrK n' ad' w w2 := FrK_trans kE (FrK_eq d3)
      have fy : FrX [1, 11, 21, 14, 20] wE w2 := FrX_mono f2 (by decide)
      have z2 : szW w2 = szW wE := by unfold szW; rw [d3]
      have y2 : slW w2 = slW wE := by unfold slW; rw [d3]
      refine ⟨nI (N + 1), w1, w2, e1, e2, Rel_mk1 hR f3 fk.1 r2 (RLg_mk l3 f3 (by decide) (by decide) fk (Ls_x g3 fy (by decide) d3) m3) ?_, by omega, Or.inr ⟨by omega, k, hk, by rw [← hv]; exact hz, by rw [m6]; exact hEn.2, fun l hl hne => ?_⟩⟩
      · have c8 : wR.2.1 966 8 = wE.2.1 966 8 := by rw [hwR, keepM_I (by omega), f1.1 966 8 (by decide) (by decide)]
        rw [fy.1 0 5 (by decide) (by decide), g6, qA.2.1 0 5 (by unfold sI; omega), m5, c8, fE.1 966 8 (by decide) (by decide), st]
      · rw [m7 l hne, hwR, keepM_sl (by omega), s1 l (by omega)]
  · have e1 : f_X0_reduce fu ev (mem ev w) ev.1 x = some (-1, mem ev w) := by simp only [f_X0_reduce, b_X0_reduce_0, b_X0_reduce_8, xis, X0_isCell hM, a, Option.bind_some, bd2, b01, if_true, if_false, not_true_eq_false, not_false_eq_true, Bool.false_eq_true, eq_self, Int32.reduceAdd, Int32.reduceMul, Int32.reduceLE, Int32.reduceLT, reduceIte, Int32.add_assoc, ie_0_1, ie_0_2, ie_0_3, ie_0_4, ie_0_5, ie_0_6, ie_0_7, ie_0_8, ie_0_9, ie_1_0, ie_1_2, ie_1_3, ie_1_4, ie_1_5, ie_1_6, ie_1_7, ie_1_8, ie_1_9, ie_2_0, ie_2_1, ie_2_3, ie_2_4, ie_2_5, ie_2_6, ie_2_7, ie_2_8, ie_2_9, ie_3_0, ie_3_1, ie_3_2, ie_3_4, ie_3_5, ie_3_6, ie_3_7, ie_3_8, ie_3_9, ie_4_0, ie_4_1, ie_4_2, ie_4_3, ie_4_5, ie_4_6, ie_4_7, ie_4_8, ie_4_9, ie_5_0, ie_5_1, ie_5_2, ie_5_3, ie_5_4, ie_5_6, ie_5_7, ie_5_8, ie_5_9, ie_6_0, ie_6_1, ie_6_2, ie_6_3, ie_6_4, ie_6_5, ie_6_7, ie_6_8, ie_6_9, ie_7_0, ie_7_1, ie_7_2, ie_7_3, ie_7_4, ie_7_5, ie_7_6, ie_7_8, ie_7_9, ie_8_0, ie_8_1, ie_8_2, ie_8_3, ie_8_4, ie_8_5, ie_8_6, ie_8_7, ie_8_9, ie_9_0, ie_9_1, ie_9_2, ie_9_3, ie_9_4, ie_9_5, ie_9_6, ie_9_7, ie_9_8, nI_1, nI_pred, setC_21, setS_21, wI_same, Int32.reduceSub]
    have e2 : f_X2_reduce fu ev (mem ev w) (ev.1 + 966) x = some (-1, mem ev w) := by simp only [f_X2_reduce, b_X2_reduce_0, b_X2_reduce_8, mis, X2_isCell hN, a, Option.bind_some, bd2, b01, if_true, if_false, not_true_eq_false, not_false_eq_true, Bool.false_eq_true, eq_self, Int32.reduceAdd, Int32.reduceMul, Int32.reduceLE, Int32.reduceLT, reduceIte, Int32.add_assoc, ie_0_1, ie_0_2, ie_0_3, ie_0_4, ie_0_5, ie_0_6, ie_0_7, ie_0_8, ie_0_9, ie_1_0, ie_1_2, ie_1_3, ie_1_4, ie_1_5, ie_1_6, ie_1_7, ie_1_8, ie_1_9, ie_2_0, ie_2_1, ie_2_3, ie_2_4, ie_2_5, ie_2_6, ie_2_7, ie_2_8, ie_2_9, ie_3_0, ie_3_1, ie_3_2, ie_3_4, ie_3_5, ie_3_6, ie_3_7, ie_3_8, ie_3_9, ie_4_0, ie_4_1, ie_4_2, ie_4_3, ie_4_5, ie_4_6, ie_4_7, ie_4_8, ie_4_9, ie_5_0, ie_5_1, ie_5_2, ie_5_3, ie_5_4, ie_5_6, ie_5_7, ie_5_8, ie_5_9, ie_6_0, ie_6_1, ie_6_2, ie_6_3, ie_6_4, ie_6_5, ie_6_7, ie_6_8, ie_6_9, ie_7_0, ie_7_1, ie_7_2, ie_7_3, ie_7_4, ie_7_5, ie_7_6, ie_7_8, ie_7_9, ie_8_0, ie_8_1, ie_8_2, ie_8_3, ie_8_4, ie_8_5, ie_8_6, ie_8_7, ie_8_9, ie_9_0, ie_9_1, ie_9_2, ie_9_3, ie_9_4, ie_9_5, ie_9_6, ie_9_7, ie_9_8, nI_1, nI_pred, setC_21, setS_21, wI_same, Int32.reduceSub]
    exact ⟨-1, w, w, e1, e2, hR, by omega, Or.inl ⟨rfl, fun _ _ => rfl⟩⟩
end XO17
