/-! OPERATION turns -/
def tuC (v : Nat → Int64) (x : Int32) : Int32 := match tun2 (q1V v) (t2V v x) 27 0 0 with
  | .inl r => r
  | .inr m => if x = -1 then m else -2
section XTX
variable {ev : Ev} {w w' : Wd} {fu k n a b c K N M T : Nat} {x u : Int32} {v : Nat → Int64} {Kp : Option Nat}
theorem OkV_fresh (h : OkV v) : OkV (sFresh v) := ⟨Gd_ext (f := I6 v) (g := I6 (sFresh v)) (fun i hi => by match i, hi with | 0, _ => rfl | 1, _ => rfl | 2, _ => rfl | 3, _ => rfl | 4, _ => rfl | 5, _ => rfl) h.1, h.2.1, h.2.2.1, h.2.2.2⟩
theorem X0_turnsOfV (hf : N + 28 ≤ fu) (hc : c < 6) (hv : cv w (3 + 2 * c) = v) (ok : OkV v) (hE : Ends (sFresh v) N) : ∃ w' : Wd, Sq w w' ∧ f_X0_turnsOf fu ev (mem ev w) ev.1 (nI c) x = some (tuC (itV N (sFresh v)) x, mem ev w') := by
  have mv : Mk v := hv ▸ Mk_cv
  obtain ⟨t, no⟩ := X1_normalOf (ev := ev) (w := w) (c := 0) (c2 := 3 + 2 * c) (fu := fu) (N := N) (by decide) (by omega) (by omega) (by rw [hv]; exact hE) (by omega)
  rw [hv] at no
  obtain ⟨wa, hwa⟩ : ∃ wa, wa = setC (setT w 0 t) 0 (itV N (sFresh v)) := ⟨_, rfl⟩
  rw [← hwa] at no
  have qa : Sq w wa := by rw [hwa]; exact Sq_trans (Sq_setT (by decide)) (Sq_setC (by decide))
  have va : cv wa 0 = itV N (sFresh v) := by rw [hwa]; exact cv_mk (Mk_it (Mk_fresh mv) N)
  obtain ⟨w', s1, s2⟩ := Lx_t1 (ev := ev) (fu := fu) (x := x) (by omega) (OkV_it N _ (OkV_fresh ok) hE) 27 fu 0 wa 0 (by omega) (by omega) va
  refine ⟨w', Sq_trans qa s1, ?_⟩
  rw [nI_0] at s2
  refine Eq.trans ?_ (s2.trans (by unfold tuC; rfl))
  simp only [f_X0_turnsOf, b_X0_turnsOf_0, xf2, xf0, xcells hc, cis (show 0 < 118 by decide), no, Option.bind_some, bd2]
theorem X2_turningV (hf : N + 28 ≤ fu) (hx : (-1 : Int32) ≤ x) (hc : c < 6) (hv : sl w c = v) (hE : Ends (sFresh v) N) (hM : ∀ i : Nat, i ≤ N → eqM (itV i (sFresh v))) : f_X2_turning fu ev (mem ev w) (ev.1 + 966) (nI c) x = some (tuC (itV N (sFresh v)) x, mem ev (setS w 6 (itV N (sFresh v)))) := by
  have mv : Mk v := hv ▸ Mk_sl
  have nm := X2_normals (ev := ev) (w := w) (K := c) (K2 := 6) (fu := fu) (N := N) (by omega) (by decide) (by omega) (by rw [hv]; exact hE) (by rw [hv]; exact hM) (by omega)
  rw [hv] at nm
  have nm' : f_X2_normals fu ev (mem ev w) (ev.1 + 966) (nI c) 6 = some (nI N, mem ev (setS w 6 (itV N (sFresh v)))) := nm
  have lp := Lm_t1 (ev := ev) (fu := fu) (x := x) (w := setS w 6 (itV N (sFresh v))) (v := itV N (sFresh v)) (by omega) (sl_mk (Mk_it (Mk_fresh mv) N)) 27 fu 0 0 (by omega) (by omega)
  rw [nI_0] at lp
  have e : ∀ m : Int32, (if 0 ≤ x then (-2 : Int32) else m) = if x = -1 then m else -2 := by
    intro m
    by_cases e : x = -1
    · subst e
      rfl
    · rw [if_neg e, if_pos (Int32.not_lt.mp (lg_pos hx e))]
  simp only [e] at lp
  refine Eq.trans ?_ (lp.trans (by unfold tuC; rfl))
  simp only [f_X2_turning, b_X2_turning_0, mis, nm', Option.bind_some, bd2]
theorem op_turns (hf : ∀ N : Nat, N ≤ 10 ^ 46 → N + 28 ≤ fu) (hR : Rel ev w M Kp T) : ∃ (r : Int32) (w1 w2 : Wd), f_X0_turns fu ev (mem ev w) ev.1 u x = some (r, mem ev w1) ∧ f_X2_turns fu ev (mem ev w1) (ev.1 + 966) u x = some (r, mem ev w2) ∧ Sq w w2 := by
  obtain ⟨⟨C, F, q, rc⟩, -⟩ := hR
  obtain ⟨hM6, hM, hN, hc⟩ := rc.1
  by_cases a1 : isc u M = true
  · obtain ⟨c, hck, rfl⟩ := isc_of hM6 a1
    obtain ⟨he, hok⟩ := hc c hck
    obtain ⟨v, hv⟩ : ∃ v, v = sl w c := ⟨_, rfl⟩
    rw [← hv] at he hok
    by_cases a2 : (-1 : Int32) ≤ x
    · obtain ⟨N, hN46, hEn, hG, hEq⟩ := good_ends (OkV_fresh hok).1
      obtain ⟨w1, q1, e1⟩ := X0_turnsOfV (ev := ev) (fu := fu) (x := x) (hf N hN46) (by omega) he hok hEn
      have s1 : sl w1 c = v := by rw [Sq_sl q1 (by omega), hv]
      have e2 := X2_turningV (ev := ev) (fu := fu) (w := w1) (hf N hN46) a2 (show c < 6 by omega) s1 hEn hEq
      have hN' : w1.2.1 966 2 = nI M := by rw [q1.2.1 966 2 (by unfold sI; omega)]; exact hN
      have a3 : ¬ x < (-1 : Int32) := Int32.not_lt.mpr a2
      refine ⟨tuC (itV N (sFresh v)) x, w1, setS w1 6 (itV N (sFresh v)), ?_, ?_, Sq_trans q1 (Sq_setS (Or.inl rfl))⟩
      · simp only [b_X0_turns_23, b_X0_turns_22, b_X0_turns_13, b_X0_turns_8, b_X0_turns_0, f_X0_turns, xis, X0_isCell hM, a1, a3, e1, Option.bind_some, bd2, b01, if_true, if_false, not_true_eq_false, not_false_eq_true, Bool.false_eq_true, eq_self, Int32.reduceAdd, Int32.reduceMul, Int32.reduceLE, Int32.reduceLT, reduceIte, Int32.add_assoc, ie_0_1, ie_0_2, ie_0_3, ie_0_4, ie_0_5, ie_0_6, ie_0_7, ie_0_8, ie_0_9, ie_1_0, ie_1_2, ie_1_3, ie_1_4, ie_1_5, ie_1_6, ie_1_7, ie_1_8, ie_1_9, ie_2_0, ie_2_1, ie_2_3, ie_2_4, ie_2_5, ie_2_6, ie_2_7, ie_2_8, ie_2_9, ie_3_0, ie_3_1, ie_3_2, ie_3_4, ie_3_5, ie_3_6, ie_3_7, ie_3_8, ie_3_9, ie_4_0, ie_4_1, ie_4_2, ie_4_3, ie_4_5, ie_4_6, ie_4_7, ie_4_8, ie_4_9, ie_5_0, ie_5_1, ie_5_2, ie_5_3, ie_5_4, ie_5_6, ie_5_7, ie_5_8, ie_5_9, ie_6_0, ie_6_1, ie_6_2, ie_6_3, ie_6_4, ie_6_5, ie_6_7, ie_6_8, ie_6_9, ie_7_0, ie_7_1, ie_7_2, ie_7_3, ie_7_4, ie_7_5, ie_7_6, ie_7_8, ie_7_9, ie_8_0, ie_8_1, ie_8_2, ie_8_3, ie_8_4, ie_8_5, ie_8_6, ie_8_7, ie_8_9, ie_9_0, ie_9_1, ie_9_2, ie_9_3, ie_9_4, ie_9_5, ie_9_6, ie_9_7, ie_9_8, nI_1, nI_pred, setC_21, setS_21, wI_same, Int32.reduceSub]
      · simp only [b_X2_turns_23, b_X2_turns_13, b_X2_turns_17, b_X2_turns_8, b_X2_turns_0, f_X2_turns, mis, X2_isCell hN', a1, a2, e2, Option.bind_some, bd2, b01, if_true, if_false, not_true_eq_false, not_false_eq_true, Bool.false_eq_true, eq_self, Int32.reduceAdd, Int32.reduceMul, Int32.reduceLE, Int32.reduceLT, reduceIte, Int32.add_assoc, ie_0_1, ie_0_2, ie_0_3, ie_0_4, ie_0_5, ie_0_6, ie_0_7, ie_0_8, ie_0_9, ie_1_0, ie_1_2, ie_1_3, ie_1_4, ie_1_5, ie_1_6, ie_1_7, ie_1_8, ie_1_9, ie_2_0, ie_2_1, ie_2_3, ie_2_4, ie_2_5, ie_2_6, ie_2_7, ie_2_8, ie_2_9, ie_3_0, ie_3_1, ie_3_2, ie_3_4, ie_3_5, ie_3_6, ie_3_7, ie_3_8, ie_3_9, ie_4_0, ie_4_1, ie_4_2, ie_4_3, ie_4_5, ie_4_6, ie_4_7, ie_4_8, ie_4_9, ie_5_0, ie_5_1, ie_5_2, ie_5_3, ie_5_4, ie_5_6, ie_5_7, ie_5_8, ie_5_9, ie_6_0, ie_6_1, ie_6_2, ie_6_3, ie_6_4, ie_6_5, ie_6_7, ie_6_8, ie_6_9, ie_7_0, ie_7_1, ie_7_2, ie_7_3, ie_7_4, ie_7_5, ie_7_6, ie_7_8, ie_7_9, ie_8_0, ie_8_1, ie_8_2, ie_8_3, ie_8_4, ie_8_5, ie_8_6, ie_8_7, ie_8_9, ie_9_0, ie_9_1, ie_9_2, ie_9_3, ie_9_4, ie_9_5, ie_9_6, ie_9_7, ie_9_8, nI_1, nI_pred, setC_21, setS_21, wI_same, Int32.reduceSub]
    · have a3 : x < (-1 : Int32) := Int32.not_le.mp a2
      exact ⟨-1, w, w, by simp only [b_X0_turns_23, b_X0_turns_22, b_X0_turns_13, b_X0_turns_8, b_X0_turns_0, f_X0_turns, xis, X0_isCell hM, a1, a3, Option.bind_some, bd2, b01, if_true, if_false, not_true_eq_false, not_false_eq_true, Bool.false_eq_true, eq_self, Int32.reduceAdd, Int32.reduceMul, Int32.reduceLE, Int32.reduceLT, reduceIte, Int32.add_assoc, ie_0_1, ie_0_2, ie_0_3, ie_0_4, ie_0_5, ie_0_6, ie_0_7, ie_0_8, ie_0_9, ie_1_0, ie_1_2, ie_1_3, ie_1_4, ie_1_5, ie_1_6, ie_1_7, ie_1_8, ie_1_9, ie_2_0, ie_2_1, ie_2_3, ie_2_4, ie_2_5, ie_2_6, ie_2_7, ie_2_8, ie_2_9, ie_3_0, ie_3_1, ie_3_2, ie_3_4, ie_3_5, ie_3_6, ie_3_7, ie_3_8, ie_3_9, ie_4_0, ie_4_1, ie_4_2, ie_4_3, ie_4_5, ie_4_6, ie_4_7, ie_4_8, ie_4_9, ie_5_0, ie_5_1, ie_5_2, ie_5_3, ie_5_4, ie_5_6, ie_5_7, ie_5_8, ie_5_9, ie_6_0, ie_6_1, ie_6_2, ie_6_3, ie_6_4, ie_6_5, ie_6_7, ie_6_8, ie_6_9, ie_7_0, ie_7_1, ie_7_2, ie_7_3, ie_7_4, ie_7_5, ie_7_6, ie_7_8, ie_7_9, ie_8_0, ie_8_1, ie_8_2, ie_8_3, ie_8_4, ie_8_5, ie_8_6, ie_8_7, ie_8_9, ie_9_0, ie_9_1, ie_9_2, ie_9_3, ie_9_4, ie_9_5, ie_9_6, ie_9_7, ie_9_8, nI_1, nI_pred, setC_21, setS_21, wI_same, Int32.reduceSub], by simp only [b_X2_turns_23, b_X2_turns_13, b_X2_turns_17, b_X2_turns_8, b_X2_turns_0, f_X2_turns, mis, X2_isCell hN, a1, a2, Option.bind_some, bd2, b01, if_true, if_false, not_true_eq_false, not_false_eq_true, Bool.false_eq_true, eq_self, Int32.reduceAdd, Int32.reduceMul, Int32.reduceLE, Int32.reduceLT, reduceIte, Int32.add_assoc, ie_0_1, ie_0_2, ie_0_3, ie_0_4, ie_0_5, ie_0_6, ie_0_7, ie_0_8, ie_0_9, ie_1_0, ie_1_2, ie_1_3, ie_1_4, ie_1_5, ie_1_6, ie_1_7, ie_1_8, ie_1_9, ie_2_0, ie_2_1, ie_2_3, ie_2_4, ie_2_5, ie_2_6, ie_2_7, ie_2_8, ie_2_9, ie_3_0, ie_3_1, ie_3_2, ie_3_4, ie_3_5, ie_3_6, ie_3_7, ie_3_8, ie_3_9, ie_4_0, ie_4_1, ie_4_2, ie_4_3, ie_4_5, ie_4_6, ie_4_7, ie_4_8, ie_4_9, ie_5_0, ie_5_1, ie_5_2, ie_5_3, ie_5_4, ie_5_6, ie_5_7, ie_5_8, ie_5_9, ie_6_0, ie_6_1, ie_6_2, ie_6_3, ie_6_4, ie_6_5, ie_6_7, ie_6_8, ie_6_9, ie_7_0, ie_7_1, ie_7_2, ie_7_3, ie_7_4, ie_7_5, ie_7_6, ie_7_8, ie_7_9, ie_8_0, ie_8_1, ie_8_2, ie_8_3, ie_8_4, ie_8_5, ie_8_6, ie_8_7, ie_8_9, ie_9_0, ie_9_1, ie_9_2, ie_9_3, ie_9_4, ie_9_5, ie_9_6, ie_9_7, ie_9_8, nI_1, nI_pred, setC_21, setS_21, wI_same, Int32.reduceSub], Sq_refl w⟩
  · exact ⟨-1, w, w, by simp only [b_X0_turns_23, b_X0_turns_22, b_X0_turns_13, b_X0_turns_8, b_X0_turns_0, f_X0_turns, xis, X0_isCell hM, a1, Option.bind_some, bd2, b01, if_true, if_false, not_true_eq_false, not_false_eq_true, Bool.false_eq_true, eq_self, Int32.reduceAdd, Int32.reduceMul, Int32.reduceLE, Int32.reduceLT, reduceIte, Int32.add_assoc, ie_0_1, ie_0_2, ie_0_3, ie_0_4, ie_0_5, ie_0_6, ie_0_7, ie_0_8, ie_0_9, ie_1_0, ie_1_2, ie_1_3, ie_1_4, ie_1_5, ie_1_6, ie_1_7, ie_1_8, ie_1_9, ie_2_0, ie_2_1, ie_2_3, ie_2_4, ie_2_5, ie_2_6, ie_2_7, ie_2_8, ie_2_9, ie_3_0, ie_3_1, ie_3_2, ie_3_4, ie_3_5, ie_3_6, ie_3_7, ie_3_8, ie_3_9, ie_4_0, ie_4_1, ie_4_2, ie_4_3, ie_4_5, ie_4_6, ie_4_7, ie_4_8, ie_4_9, ie_5_0, ie_5_1, ie_5_2, ie_5_3, ie_5_4, ie_5_6, ie_5_7, ie_5_8, ie_5_9, ie_6_0, ie_6_1, ie_6_2, ie_6_3, ie_6_4, ie_6_5, ie_6_7, ie_6_8, ie_6_9, ie_7_0, ie_7_1, ie_7_2, ie_7_3, ie_7_4, ie_7_5, ie_7_6, ie_7_8, ie_7_9, ie_8_0, ie_8_1, ie_8_2, ie_8_3, ie_8_4, ie_8_5, ie_8_6, ie_8_7, ie_8_9, ie_9_0, ie_9_1, ie_9_2, ie_9_3, ie_9_4, ie_9_5, ie_9_6, ie_9_7, ie_9_8, nI_1, nI_pred, setC_21, setS_21, wI_same, Int32.reduceSub], by simp only [b_X2_turns_23, b_X2_turns_13, b_X2_turns_17, b_X2_turns_8, b_X2_turns_0, f_X2_turns, mis, X2_isCell hN, a1, Option.bind_some, bd2, b01, if_true, if_false, not_true_eq_false, not_false_eq_true, Bool.false_eq_true, eq_self, Int32.reduceAdd, Int32.reduceMul, Int32.reduceLE, Int32.reduceLT, reduceIte, Int32.add_assoc, ie_0_1, ie_0_2, ie_0_3, ie_0_4, ie_0_5, ie_0_6, ie_0_7, ie_0_8, ie_0_9, ie_1_0, ie_1_2, ie_1_3, ie_1_4, ie_1_5, ie_1_6, ie_1_7, ie_1_8, ie_1_9, ie_2_0, ie_2_1, ie_2_3, ie_2_4, ie_2_5, ie_2_6, ie_2_7, ie_2_8, ie_2_9, ie_3_0, ie_3_1, ie_3_2, ie_3_4, ie_3_5, ie_3_6, ie_3_7, ie_3_8, ie_3_9, ie_4_0, ie_4_1, ie_4_2, ie_4_3, ie_4_5, ie_4_6, ie_4_7, ie_4_8, ie_4_9, ie_5_0, ie_5_1, ie_5_2, ie_5_3, ie_5_4, ie_5_6, ie_5_7, ie_5_8, ie_5_9, ie_6_0, ie_6_1, ie_6_2, ie_6_3, ie_6_4, ie_6_5, ie_6_7, ie_6_8, ie_6_9, ie_7_0, ie_7_1, ie_7_2, ie_7_3, ie_7_4, ie_7_5, ie_7_6, ie_7_8, ie_7_9, ie_8_0, ie_8_1, ie_8_2, ie_8_3, ie_8_4, ie_8_5, ie_8_6, ie_8_7, ie_8_9, ie_9_0, ie_9_1, ie_9_2, ie_9_3, ie_9_4, ie_9_5, ie_9_6, ie_9_7, ie_9_8, nI_1, nI_pred, setC_21, setS_21, wI_same, Int32.reduceSub], Sq_refl w⟩
end XTX
