/-! OPERATION prints: the whole; the law's call -/
section XPC
variable {ev : Ev} {w : Wd} {fu M T j B s0 : Nat} {K : Option Nat} {u z : Int32} {a : Nat → Int32}
theorem op_prints (hE : EvOk ev) (hf : 10 ^ 46 + 20 ≤ fu) (hR : Rel ev w M K T) (h1 : szW w + 70 ≤ ev.2.1) (h2 : slW w + 300 ≤ ev.2.2.1) : ∃ (r : Int32) (w1 w2 : Wd), f_X0_prints fu ev (mem ev w) ev.1 u z = some (r, mem ev w1) ∧ f_X2_prints fu ev (mem ev w1) (ev.1 + 966) u z = some (r, mem ev w2) ∧ Rel ev w2 M K T ∧ (∀ l : Nat, l < 6 → sl w2 l = sl w l) ∧ szW w2 ≤ szW w + 300 ∧ slW w2 ≤ slW w + 300 := by
  have hfu : 10000 ≤ fu := Nat.le_trans (by decide) hf
  obtain ⟨⟨C, F, q, rc⟩, -, -, ⟨n, ad, qs, n', ad', qs', ⟨hLL, hLM⟩, -, -⟩, -⟩ := id hR
  obtain ⟨hM6, hM, hN, hc⟩ := rc.1
  have hz : ev.1 + 984 ≤ szW w := hR.2.2.2.2.2.2.2.2.2
  have bad : f_X0_prints fu ev (mem ev w) ev.1 u z = some (-1, mem ev w) → f_X2_prints fu ev (mem ev w) (ev.1 + 966) u z = some (-1, mem ev w) → ∃ (r : Int32) (w1 w2 : Wd), f_X0_prints fu ev (mem ev w) ev.1 u z = some (r, mem ev w1) ∧ f_X2_prints fu ev (mem ev w1) (ev.1 + 966) u z = some (r, mem ev w2) ∧ Rel ev w2 M K T ∧ (∀ l : Nat, l < 6 → sl w2 l = sl w l) ∧ szW w2 ≤ szW w + 300 ∧ slW w2 ≤ slW w + 300 := fun e1 e2 => ⟨-1, w, w, e1, e2, hR, fun _ _ => rfl, Nat.le_add_right _ _, Nat.le_add_right _ _⟩
  -- what the class answers when the paper is there
  have fin : ∀ (w1 : Wd) (a b L : Nat) (g : Nat → Int32), ev.1 + 984 ≤ a → ev.1 + 984 ≤ b → L ≤ 80 → dyn w1 a = some (.inr (14, [.ref b, .int 0, .int 0, .int 0])) → dyn w1 b = oBy L g → (pfA ev (mem ev w1) ev.1 0 19 (some a)).bind (fun s => b_X0_prints_88 fu ev s ev.1) = some (nI L, mem ev (wA w1 0 19 (some a))) := by
    intro w1 a b L g ha hb hL d1 d2
    have sg : Sg (mem ev (wA w1 0 19 (some a))) a b L g := ⟨⟨[.int 0, .int 0], by rw [mem_dyn ha]; exact d1⟩, by rw [mem_dyn hb]; exact d2⟩
    have a19 : (wA w1 0 19 (some a)).2.2.1 0 19 = some a := by
      show (if 0 = 0 ∧ 19 = 19 then some a else w1.2.2.1 0 19) = some a
      rw [if_pos ⟨rfl, rfl⟩]
    rw [xp19, Option.bind_some]
    unfold b_X0_prints_88
    rw [xf19, Option.bind_some, a19, Option.bind_some, sg_is sg, Option.bind_some, str_len hE sg (by omega)]
    rfl
  -- the model's start
  have st0 : ∀ u : Wd, MT (wI u 966 26 0) 0 (fun _ => 0) ∧ Ri PP u (wI u 966 26 0) := fun u => by
    refine ⟨⟨?_, fun i hi => absurd hi (by omega)⟩, ⟨rfl, rfl, fun q i hq => ?_⟩⟩
    · show (if 966 = 966 ∧ 26 = 26 then (0 : Int32) else u.2.1 966 26) = nI 0
      rw [if_pos ⟨rfl, rfl⟩]
      rfl
    · show (if q = 966 ∧ i = 26 then (0 : Int32) else u.2.1 q i) = _
      rw [if_neg (fun z => hq (Or.inr z))]
  by_cases a0 : inJ z.toInt64 0 2 = true
  · obtain ⟨k, -, hk, rfl⟩ := inJ_nI (A := 0) (B := 2) (by decide) (by decide) (by decide) a0
    by_cases k2 : k = 2
    · subst k2
      obtain ⟨w1, a, b, g, e1, e2, e3, e4, e5, e6, e7, e8, e9, e10, e11⟩ := X0_toldLog_c (fu := fu) (w := w) hE (by omega) hLM.1 (fun j hj => by have := (hLM.2.2 j hj).2; omega) hLL hz h1 h2
      obtain ⟨w2, hw2⟩ : ∃ w2, w2 = wA w1 0 19 (some a) := ⟨_, rfl⟩
      have c1 := fin w1 a b (2 * n) g e5 e6 (by have := hLM.1; omega) e2 e3
      rw [← hw2] at c1
      obtain ⟨s1, s2⟩ := st0 w2
      have i2 : w2.2.1 = w.2.1 := by rw [hw2]; exact e9.2.1
      have LM2 : LM (wI w2 966 26 0) 4 969 n qs := ⟨hLM.1, by rw [s2.2.2 966 4 (by unfold PP; omega), i2]; exact hLM.2.1, fun j hj => by rw [s2.2.2 969 j (by unfold PP; omega), i2]; exact hLM.2.2 j hj⟩
      obtain ⟨w3, m1, m2, m3⟩ := ml_l (ev := ev) (fu := fu) (qs := qs) hLM.1 n 0 fu (wI w2 966 26 0) (by omega) (by have := hLM.1; omega) ⟨s1.1, fun i hi => absurd hi (by omega)⟩ LM2
      obtain ⟨r1, r2, r3, r4⟩ := pap_fin (tx := txL qs) hR (Sq_refl w) e9 e2 e3 e4 e5 e6 e7 e8 (by have := hLM.1; omega) (fun i hi => txL_127 (by have := (hLM.2.2 (i / 2) (by omega)).2; omega)) hw2 (by omega) (by omega) s2 (Sq_refl _) m3 m2
      refine ⟨nI (2 * n), w2, w3, ?_, ?_, r1, r2, r3, r4⟩
      · unfold f_X0_prints b_X0_prints_0
        rw [X0_isIn, b2s, if_pos a0, if_neg (show ¬ (1 : Int32) = 0 by decide)]
        unfold b_X0_prints_12
        rw [if_pos (show (2 : Int32) ≤ nI 2 by decide)]
        unfold b_X0_prints_27
        rw [if_pos (show nI 2 = (2 : Int32) from rfl)]
        unfold b_X0_prints_32
        rw [xis, Option.bind_some, e1, b2s]
        exact c1
      · unfold f_X2_prints b_X2_prints_0
        rw [X2_isIn, b2s, if_pos a0, if_neg (show ¬ (1 : Int32) = 0 by decide)]
        unfold b_X2_prints_12
        rw [if_pos (show (2 : Int32) ≤ nI 2 by decide)]
        unfold b_X2_prints_27
        rw [mp26, Option.bind_some, if_pos (show nI 2 = (2 : Int32) from rfl)]
        unfold b_X2_prints_37
        exact m1
    · have n2 : ¬ (2 : Int32) ≤ nI k := fun z => absurd ((s_le (i := 2) (by decide) (by omega)).mp z) (by omega)
      have n22 : ¬ nI k = (2 : Int32) := nI_ne (b := 2) (by omega) (by decide) k2
      by_cases a1 : isc u M = true
      · obtain ⟨c, hck, rfl⟩ := isc_of hM6 a1
        obtain ⟨he, hok⟩ := hc c hck
        have hc6 : c < 6 := by omega
        have clsS : f_X0_prints fu ev (mem ev w) ev.1 (nI c) (nI k) = if nI k = 0 then b_X0_prints_47 fu ev (mem ev w) ev.1 (nI c) else b_X0_prints_63 fu ev (mem ev w) ev.1 (nI c) := by
          unfold f_X0_prints b_X0_prints_0
          rw [X0_isIn, b2s, if_pos a0, if_neg (show ¬ (1 : Int32) = 0 by decide)]
          unfold b_X0_prints_12
          rw [if_neg n2]
          unfold b_X0_prints_17
          rw [xis, Option.bind_some, X0_isCell hM, b2s, if_pos a1, if_neg (show ¬ (1 : Int32) = 0 by decide)]
          unfold b_X0_prints_27
          rw [if_neg n22]
          rfl
        have mdlS : ∀ u : Wd, u.2.1 966 2 = nI M → f_X2_prints fu ev (mem ev u) (ev.1 + 966) (nI c) (nI k) = if nI k = 1 then b_X2_prints_95 fu ev (mem ev (wI u 966 26 0)) (ev.1 + 966) (nI c) (nI k) else b_X2_prints_103 fu ev (mem ev (wI u 966 26 0)) (ev.1 + 966) (nI c) (nI k) := fun u hu => by
          unfold f_X2_prints b_X2_prints_0
          rw [X2_isIn, b2s, if_pos a0, if_neg (show ¬ (1 : Int32) = 0 by decide)]
          unfold b_X2_prints_12
          rw [if_neg n2]
          unfold b_X2_prints_17
          rw [mis, Option.bind_some, X2_isCell hu, b2s, if_pos a1, if_neg (show ¬ (1 : Int32) = 0 by decide)]
          unfold b_X2_prints_27
          rw [mp26, Option.bind_some, if_neg n22]
          rfl
        by_cases k0 : k = 0
        · subst k0
          have hv := OkV_mg hok
          rw [← he] at hv
          obtain ⟨w1, a, b, g, e1, e2, e3, e4, e5, e6, e7, e8, e9, e10, e11⟩ := X0_told_c (fu := fu) (w := w) (c := 3 + 2 * c) hE (by omega) (by omega) hv hz (by omega) h2
          rw [he] at e3 e4 hv
          obtain ⟨L, hL⟩ : ∃ L, L = (txN (sl w c) 6).1 := ⟨_, rfl⟩
          have tl := tx_le (v := sl w c) 6
          obtain ⟨w2, hw2⟩ : ∃ w2, w2 = wA w1 0 19 (some a) := ⟨_, rfl⟩
          have c1 := fin w1 a b _ g e5 e6 (by omega) e2 e3
          rw [← hw2] at c1
          obtain ⟨s1, s2⟩ := st0 w2
          have i2 : w2.2.1 = w.2.1 := by rw [hw2]; exact e9.2.1
          have j2 : w2.1 = w.1 := by rw [hw2]; exact e9.1
          obtain ⟨w3, p1, p2, p3⟩ := p_put (fu := fu) (ev := ev) (x := 103) s1 (by decide)
          have T0 : MT w3 (txN (sl w c) 0).1 (txN (sl w c) 0).2 := MT_ext (show MT w3 (txN (sl w c) 0).1 _ from p2) (fun i hi => by
            have : i = 0 := by have : (txN (sl w c) 0).1 = 1 := rfl; omega
            subst this
            rfl)
          obtain ⟨w4, m1, m2, m3⟩ := mp_l (ev := ev) (fu := fu) (v := sl w c) (K := c) (x1 := nI c) (x2 := nI 0) (by omega) (by omega) (Or.inr ⟨by decide, rfl⟩) hv 6 0 fu w3 (by decide) (by omega) T0 (fun i _ => by rw [sl_row p3.1, sl_row (show (wI w2 966 26 0).1 = w.1 from j2)])
          obtain ⟨r1, r2, r3, r4⟩ := pap_fin (tx := (txN (sl w c) 6).2) hR (Sq_refl w) e9 e2 e3 e4 e5 e6 e7 e8 (by omega) (fun i _ => tx_127 6 i) hw2 (by omega) (by omega) s2 (Sq_refl _) (PP_t p3 m3) m2
          refine ⟨nI (txN (sl w c) 6).1, w2, w4, ?_, ?_, r1, r2, r3, r4⟩
          · rw [clsS, if_pos (show nI 0 = (0 : Int32) from rfl)]
            unfold b_X0_prints_47
            rw [xf0, Option.bind_some, Option.bind_some, xcells hc6, Option.bind_some, e1, b2s]
            exact c1
          · rw [mdlS w2 (by rw [i2]; exact hN), if_neg (show ¬ nI 0 = (1 : Int32) by decide)]
            unfold b_X2_prints_103
            rw [mis, Option.bind_some, p1, b2s]
            exact m1
        · have k1 : k = 1 := by omega
          subst k1
          obtain ⟨N, hN46, hEn, hG, hEq⟩ := good_ends (OkV_fresh hok).1
          have hokN := OkV_it N _ (OkV_fresh hok) hEn
          have mv : Mk (sl w c) := Mk_sl
          obtain ⟨v, hvd⟩ : ∃ v, v = itV N (sFresh (sl w c)) := ⟨_, rfl⟩
          have mkv : Mk v := by rw [hvd]; exact Mk_it (Mk_fresh mv) N
          obtain ⟨t, no⟩ := X1_normalOf (ev := ev) (w := w) (fu := fu) (c := 0) (c2 := 3 + 2 * c) (N := N) (by decide) (by omega) (by omega) (by rw [he]; exact hEn) (by omega)
          rw [he, ← hvd] at no
          obtain ⟨wq, hwq⟩ : ∃ wq, wq = setC (setT w 0 t) 0 v := ⟨_, rfl⟩
          rw [← hwq] at no
          have hSq : Sq w wq := by rw [hwq]; exact Sq_trans (Sq_setT (by decide)) (Sq_setC (by decide))
          have hcv : cv wq 0 = v := by rw [hwq]; exact cv_mk mkv
          have zq : szW wq = szW w := by unfold szW; rw [hSq.2.2]
          have lq : slW wq = slW w := by unfold slW; rw [hSq.2.2]
          have hv := OkV_mg hokN
          rw [← hvd] at hv
          have hv' := hv
          rw [← hcv] at hv'
          obtain ⟨w1, a, b, g, e1, e2, e3, e4, e5, e6, e7, e8, e9, e10, e11⟩ := X0_told_c (fu := fu) (w := wq) (c := 0) hE (by omega) (by decide) hv' (by omega) (by omega) (by omega)
          rw [hcv] at e3 e4
          have tl := tx_le (v := v) 6
          obtain ⟨w2, hw2⟩ : ∃ w2, w2 = wA w1 0 19 (some a) := ⟨_, rfl⟩
          have c1 := fin w1 a b _ g e5 e6 (by omega) e2 e3
          rw [← hw2] at c1
          obtain ⟨s1, s2⟩ := st0 w2
          obtain ⟨wr, hwr⟩ : ∃ wr, wr = wI w2 966 26 0 := ⟨_, rfl⟩
          rw [← hwr] at s1 s2
          have i2 : w2.2.1 = wq.2.1 := by rw [hw2]; exact e9.2.1
          have j2 : wr.1 = wq.1 := by rw [hwr, hw2]; exact e9.1
          have slr : sl wr c = sl w c := (sl_row j2).trans (Sq_sl hSq (by omega))
          have nm := X2_normals (ev := ev) (w := wr) (K := c) (K2 := 6) (fu := fu) (N := N) (by omega) (by decide) (by omega) (by rw [slr]; exact hEn) (by rw [slr]; exact hEq) (by omega)
          rw [slr, ← hvd] at nm
          have nm' : f_X2_normals fu ev (mem ev wr) (ev.1 + 966) (nI c) 6 = some (nI N, mem ev (setS wr 6 v)) := nm
          have hS2 : Sq wr (setS wr 6 v) := Sq_setS (by decide)
          have T1 : MT (setS wr 6 v) 0 (fun _ => 0) := ⟨by rw [hS2.2.1 966 26 (by unfold sI; omega)]; exact s1.1, fun i hi => absurd hi (by omega)⟩
          obtain ⟨w3, p1, p2, p3⟩ := p_put (fu := fu) (ev := ev) (x := 103) T1 (by decide)
          have T0 : MT w3 (txN v 0).1 (txN v 0).2 := MT_ext (show MT w3 (txN v 0).1 _ from p2) (fun i hi => by
            have : i = 0 := by have : (txN v 0).1 = 1 := rfl; omega
            subst this
            rfl)
          obtain ⟨w4, m1, m2, m3⟩ := mp_l (ev := ev) (fu := fu) (v := v) (K := 6) (x1 := nI c) (x2 := nI 1) (by omega) (by decide) (Or.inl ⟨rfl, rfl⟩) hv 6 0 fu w3 (by decide) (by omega) T0 (fun i _ => by rw [sl_row p3.1, sl_mk mkv])
          obtain ⟨r1, r2, r3, r4⟩ := pap_fin (tx := (txN v 6).2) hR hSq e9 e2 e3 e4 e5 e6 e7 e8 (by omega) (fun i _ => tx_127 6 i) hw2 (by omega) (by omega) s2 hS2 (PP_t p3 m3) m2
          refine ⟨nI (txN v 6).1, w2, w4, ?_, ?_, r1, r2, r3, r4⟩
          · rw [clsS, if_neg (show ¬ nI 1 = (0 : Int32) by decide)]
            unfold b_X0_prints_63
            rw [xf2, Option.bind_some, xf0, Option.bind_some, Option.bind_some, xcells hc6, Option.bind_some, Option.bind_some, cis (show 0 < 118 by decide), Option.bind_some, no, b2s, xf2, Option.bind_some, e1, b2s]
            exact c1
          · rw [mdlS w2 (by rw [i2, hSq.2.1 966 2 (by unfold sI; omega)]; exact hN), if_pos (show nI 1 = (1 : Int32) from rfl), ← hwr]
            unfold b_X2_prints_95
            rw [mis, Option.bind_some, nm', b2s]
            unfold b_X2_prints_103
            rw [mis, Option.bind_some, p1, b2s]
            exact m1
      · exact bad (by simp only [b_X0_prints_25, b_X0_prints_88, b_X0_prints_63, b_X0_prints_47, b_X0_prints_43, b_X0_prints_32, b_X0_prints_27, b_X0_prints_17, b_X0_prints_12, b_X0_prints_0, f_X0_prints, X0_isIn, xis, X0_isCell hM, a0, a1, n2, Option.bind_some, bd2, b01, if_true, if_false, not_true_eq_false, not_false_eq_true, Bool.false_eq_true, eq_self, Int32.reduceAdd, Int32.reduceMul, Int32.reduceLE, Int32.reduceLT, reduceIte, Int32.add_assoc, ie_0_1, ie_0_2, ie_0_3, ie_0_4, ie_0_5, ie_0_6, ie_0_7, ie_0_8, ie_0_9, ie_1_0, ie_1_2, ie_1_3, ie_1_4, ie_1_5, ie_1_6, ie_1_7, ie_1_8, ie_1_9, ie_2_0, ie_2_1, ie_2_3, ie_2_4, ie_2_5, ie_2_6, ie_2_7, ie_2_8, ie_2_9, ie_3_0, ie_3_1, ie_3_2, ie_3_4, ie_3_5, ie_3_6, ie_3_7, ie_3_8, ie_3_9, ie_4_0, ie_4_1, ie_4_2, ie_4_3, ie_4_5, ie_4_6, ie_4_7, ie_4_8, ie_4_9, ie_5_0, ie_5_1, ie_5_2, ie_5_3, ie_5_4, ie_5_6, ie_5_7, ie_5_8, ie_5_9, ie_6_0, ie_6_1, ie_6_2, ie_6_3, ie_6_4, ie_6_5, ie_6_7, ie_6_8, ie_6_9, ie_7_0, ie_7_1, ie_7_2, ie_7_3, ie_7_4, ie_7_5, ie_7_6, ie_7_8, ie_7_9, ie_8_0, ie_8_1, ie_8_2, ie_8_3, ie_8_4, ie_8_5, ie_8_6, ie_8_7, ie_8_9, ie_9_0, ie_9_1, ie_9_2, ie_9_3, ie_9_4, ie_9_5, ie_9_6, ie_9_7, ie_9_8, nI_1, nI_pred, setC_21, setS_21, wI_same, Int32.reduceSub]) (by simp only [b_X2_prints_25, b_X2_prints_149, b_X2_prints_136, b_X2_prints_135, b_X2_prints_130, b_X2_prints_117, b_X2_prints_111, b_X2_prints_103, b_X2_prints_95, b_X2_prints_90, b_X2_prints_85, b_X2_prints_47, b_X2_prints_39, b_X2_prints_37, b_X2_prints_27, b_X2_prints_17, b_X2_prints_12, b_X2_prints_0, f_X2_prints, X2_isIn, mis, X2_isCell hN, a0, a1, n2, Option.bind_some, bd2, b01, if_true, if_false, not_true_eq_false, not_false_eq_true, Bool.false_eq_true, eq_self, Int32.reduceAdd, Int32.reduceMul, Int32.reduceLE, Int32.reduceLT, reduceIte, Int32.add_assoc, ie_0_1, ie_0_2, ie_0_3, ie_0_4, ie_0_5, ie_0_6, ie_0_7, ie_0_8, ie_0_9, ie_1_0, ie_1_2, ie_1_3, ie_1_4, ie_1_5, ie_1_6, ie_1_7, ie_1_8, ie_1_9, ie_2_0, ie_2_1, ie_2_3, ie_2_4, ie_2_5, ie_2_6, ie_2_7, ie_2_8, ie_2_9, ie_3_0, ie_3_1, ie_3_2, ie_3_4, ie_3_5, ie_3_6, ie_3_7, ie_3_8, ie_3_9, ie_4_0, ie_4_1, ie_4_2, ie_4_3, ie_4_5, ie_4_6, ie_4_7, ie_4_8, ie_4_9, ie_5_0, ie_5_1, ie_5_2, ie_5_3, ie_5_4, ie_5_6, ie_5_7, ie_5_8, ie_5_9, ie_6_0, ie_6_1, ie_6_2, ie_6_3, ie_6_4, ie_6_5, ie_6_7, ie_6_8, ie_6_9, ie_7_0, ie_7_1, ie_7_2, ie_7_3, ie_7_4, ie_7_5, ie_7_6, ie_7_8, ie_7_9, ie_8_0, ie_8_1, ie_8_2, ie_8_3, ie_8_4, ie_8_5, ie_8_6, ie_8_7, ie_8_9, ie_9_0, ie_9_1, ie_9_2, ie_9_3, ie_9_4, ie_9_5, ie_9_6, ie_9_7, ie_9_8, nI_1, nI_pred, setC_21, setS_21, wI_same, Int32.reduceSub])
  · exact bad (by simp only [b_X0_prints_25, b_X0_prints_88, b_X0_prints_63, b_X0_prints_47, b_X0_prints_43, b_X0_prints_32, b_X0_prints_27, b_X0_prints_17, b_X0_prints_12, b_X0_prints_0, f_X0_prints, X0_isIn, a0, Option.bind_some, bd2, b01, if_true, if_false, not_true_eq_false, not_false_eq_true, Bool.false_eq_true, eq_self, Int32.reduceAdd, Int32.reduceMul, Int32.reduceLE, Int32.reduceLT, reduceIte, Int32.add_assoc, ie_0_1, ie_0_2, ie_0_3, ie_0_4, ie_0_5, ie_0_6, ie_0_7, ie_0_8, ie_0_9, ie_1_0, ie_1_2, ie_1_3, ie_1_4, ie_1_5, ie_1_6, ie_1_7, ie_1_8, ie_1_9, ie_2_0, ie_2_1, ie_2_3, ie_2_4, ie_2_5, ie_2_6, ie_2_7, ie_2_8, ie_2_9, ie_3_0, ie_3_1, ie_3_2, ie_3_4, ie_3_5, ie_3_6, ie_3_7, ie_3_8, ie_3_9, ie_4_0, ie_4_1, ie_4_2, ie_4_3, ie_4_5, ie_4_6, ie_4_7, ie_4_8, ie_4_9, ie_5_0, ie_5_1, ie_5_2, ie_5_3, ie_5_4, ie_5_6, ie_5_7, ie_5_8, ie_5_9, ie_6_0, ie_6_1, ie_6_2, ie_6_3, ie_6_4, ie_6_5, ie_6_7, ie_6_8, ie_6_9, ie_7_0, ie_7_1, ie_7_2, ie_7_3, ie_7_4, ie_7_5, ie_7_6, ie_7_8, ie_7_9, ie_8_0, ie_8_1, ie_8_2, ie_8_3, ie_8_4, ie_8_5, ie_8_6, ie_8_7, ie_8_9, ie_9_0, ie_9_1, ie_9_2, ie_9_3, ie_9_4, ie_9_5, ie_9_6, ie_9_7, ie_9_8, nI_1, nI_pred, setC_21, setS_21, wI_same, Int32.reduceSub]) (by simp only [b_X2_prints_25, b_X2_prints_149, b_X2_prints_136, b_X2_prints_135, b_X2_prints_130, b_X2_prints_117, b_X2_prints_111, b_X2_prints_103, b_X2_prints_95, b_X2_prints_90, b_X2_prints_85, b_X2_prints_47, b_X2_prints_39, b_X2_prints_37, b_X2_prints_27, b_X2_prints_17, b_X2_prints_12, b_X2_prints_0, f_X2_prints, X2_isIn, a0, Option.bind_some, bd2, b01, if_true, if_false, not_true_eq_false, not_false_eq_true, Bool.false_eq_true, eq_self, Int32.reduceAdd, Int32.reduceMul, Int32.reduceLE, Int32.reduceLT, reduceIte, Int32.add_assoc, ie_0_1, ie_0_2, ie_0_3, ie_0_4, ie_0_5, ie_0_6, ie_0_7, ie_0_8, ie_0_9, ie_1_0, ie_1_2, ie_1_3, ie_1_4, ie_1_5, ie_1_6, ie_1_7, ie_1_8, ie_1_9, ie_2_0, ie_2_1, ie_2_3, ie_2_4, ie_2_5, ie_2_6, ie_2_7, ie_2_8, ie_2_9, ie_3_0, ie_3_1, ie_3_2, ie_3_4, ie_3_5, ie_3_6, ie_3_7, ie_3_8, ie_3_9, ie_4_0, ie_4_1, ie_4_2, ie_4_3, ie_4_5, ie_4_6, ie_4_7, ie_4_8, ie_4_9, ie_5_0, ie_5_1, ie_5_2, ie_5_3, ie_5_4, ie_5_6, ie_5_7, ie_5_8, ie_5_9, ie_6_0, ie_6_1, ie_6_2, ie_6_3, ie_6_4, ie_6_5, ie_6_7, ie_6_8, ie_6_9, ie_7_0, ie_7_1, ie_7_2, ie_7_3, ie_7_4, ie_7_5, ie_7_6, ie_7_8, ie_7_9, ie_8_0, ie_8_1, ie_8_2, ie_8_3, ie_8_4, ie_8_5, ie_8_6, ie_8_7, ie_8_9, ie_9_0, ie_9_1, ie_9_2, ie_9_3, ie_9_4, ie_9_5, ie_9_6, ie_9_7, ie_9_8, nI_1, nI_pred, setC_21, setS_21, wI_same, Int32.reduceSub])
theorem call_prints (hE : EvOk ev) (hf : 10 ^ 46 + 1000000 ≤ fu) (hm : Rm ev B s0) (hj : j + 1 ≤ 64) (hR : Rel ev w M K T) (hb : Bd ev B s0 j w M T K) : lc_prints fu ev (mem ev w) ev.1 (ev.1 + 966) a (JJ ev B s0 (j + 1)) := by
  obtain ⟨rb, rc, rs⟩ := Bd_room hb hm hj
  have h6 := Rel_6 hR
  obtain ⟨r, w1, w2, e1, e2, hr, hs, z1, z2⟩ := op_prints (ev := ev) (fu := fu) (w := w) (u := a 1) (z := a 2) hE (Nat.le_trans (by decide) hf) hR (by omega) (by omega)
  exact ⟨r, _, _, xis, e1, mis, e2, JJ_s hb hr (fun l q => hs l (by omega)) z1 z2⟩
end XPC
