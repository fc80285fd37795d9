/-! OPERATIONS drop, clears -/
section XDR
variable {ev : Ev} {w w' w'' : Wd} {fu k n t h c j M T : Nat} {x : Int32} {qs : Nat → Nat} {K : Option Nat} {D : Nat → Bool}
theorem op_drop (hE : EvOk ev) (hf : 1001 ≤ fu) (hR : Rel ev w M K T) (h1 : szW w + 2 ≤ ev.2.1) (h2 : slW w + 9 ≤ ev.2.2.1) : ∃ (r : Int32) (w1 w2 : Wd), f_X0_drop fu ev (mem ev w) ev.1 = some (r, mem ev w1) ∧ f_X2_drop fu ev (mem ev w1) (ev.1 + 966) = some (r, mem ev w2) ∧ Rel ev w2 (M - 1) K T ∧ szW w2 ≤ szW w + 2 ∧ slW w2 ≤ slW w + 9 ∧ w2.1 = w.1 := by
  obtain ⟨⟨C, F, p, rc⟩, hT, hI, ⟨n, ad, qs, n', ad', qs', ⟨l1, l2⟩, l3, l4⟩, ⟨h, m, ls, hQ, hm⟩, hQb, hRw, hP, st, h984⟩ := id hR
  obtain ⟨⟨hM6, hM, hN, hc⟩, h12, hF12, hC0, hC9, hF10, hp, hinj, -⟩ := id rc
  cases M with
  | zero => exact ⟨-5, w, w, by simp only [f_X0_drop, b_X0_drop_0, b_X0_drop_7, xi1, hM, nI_0, Option.bind_some, bd2, b01, if_true, if_false, not_true_eq_false, not_false_eq_true, Bool.false_eq_true, eq_self, Int32.reduceAdd, Int32.reduceMul, Int32.reduceLE, Int32.reduceLT, reduceIte, Int32.add_assoc, ie_0_1, ie_0_2, ie_0_3, ie_0_4, ie_0_5, ie_0_6, ie_0_7, ie_0_8, ie_0_9, ie_1_0, ie_1_2, ie_1_3, ie_1_4, ie_1_5, ie_1_6, ie_1_7, ie_1_8, ie_1_9, ie_2_0, ie_2_1, ie_2_3, ie_2_4, ie_2_5, ie_2_6, ie_2_7, ie_2_8, ie_2_9, ie_3_0, ie_3_1, ie_3_2, ie_3_4, ie_3_5, ie_3_6, ie_3_7, ie_3_8, ie_3_9, ie_4_0, ie_4_1, ie_4_2, ie_4_3, ie_4_5, ie_4_6, ie_4_7, ie_4_8, ie_4_9, ie_5_0, ie_5_1, ie_5_2, ie_5_3, ie_5_4, ie_5_6, ie_5_7, ie_5_8, ie_5_9, ie_6_0, ie_6_1, ie_6_2, ie_6_3, ie_6_4, ie_6_5, ie_6_7, ie_6_8, ie_6_9, ie_7_0, ie_7_1, ie_7_2, ie_7_3, ie_7_4, ie_7_5, ie_7_6, ie_7_8, ie_7_9, ie_8_0, ie_8_1, ie_8_2, ie_8_3, ie_8_4, ie_8_5, ie_8_6, ie_8_7, ie_8_9, ie_9_0, ie_9_1, ie_9_2, ie_9_3, ie_9_4, ie_9_5, ie_9_6, ie_9_7, ie_9_8, nI_1, nI_pred, setC_21, setS_21, wI_same, Int32.reduceSub], by simp only [f_X2_drop, b_X2_drop_0, b_X2_drop_7, mi2, hN, nI_0, Option.bind_some, bd2, b01, if_true, if_false, not_true_eq_false, not_false_eq_true, Bool.false_eq_true, eq_self, Int32.reduceAdd, Int32.reduceMul, Int32.reduceLE, Int32.reduceLT, reduceIte, Int32.add_assoc, ie_0_1, ie_0_2, ie_0_3, ie_0_4, ie_0_5, ie_0_6, ie_0_7, ie_0_8, ie_0_9, ie_1_0, ie_1_2, ie_1_3, ie_1_4, ie_1_5, ie_1_6, ie_1_7, ie_1_8, ie_1_9, ie_2_0, ie_2_1, ie_2_3, ie_2_4, ie_2_5, ie_2_6, ie_2_7, ie_2_8, ie_2_9, ie_3_0, ie_3_1, ie_3_2, ie_3_4, ie_3_5, ie_3_6, ie_3_7, ie_3_8, ie_3_9, ie_4_0, ie_4_1, ie_4_2, ie_4_3, ie_4_5, ie_4_6, ie_4_7, ie_4_8, ie_4_9, ie_5_0, ie_5_1, ie_5_2, ie_5_3, ie_5_4, ie_5_6, ie_5_7, ie_5_8, ie_5_9, ie_6_0, ie_6_1, ie_6_2, ie_6_3, ie_6_4, ie_6_5, ie_6_7, ie_6_8, ie_6_9, ie_7_0, ie_7_1, ie_7_2, ie_7_3, ie_7_4, ie_7_5, ie_7_6, ie_7_8, ie_7_9, ie_8_0, ie_8_1, ie_8_2, ie_8_3, ie_8_4, ie_8_5, ie_8_6, ie_8_7, ie_8_9, ie_9_0, ie_9_1, ie_9_2, ie_9_3, ie_9_4, ie_9_5, ie_9_6, ie_9_7, ie_9_8, nI_1, nI_pred, setC_21, setS_21, wI_same, Int32.reduceSub], hR, by omega, by omega, rfl⟩
  | succ M =>
    have hm6 := hQ.2.1
    -- the class
    obtain ⟨wa, hwa⟩ : ∃ wa, wa = wI w 0 1 (nI M) := ⟨_, rfl⟩
    have fa : FrX [1] w wa := by rw [hwa]; exact FrX_wI (Or.inr (by decide))
    have ha2 : wa.2.2 = w.2.2 := by rw [hwa]; rfl
    have za : szW wa = szW w := by unfold szW; rw [ha2]
    have ya : slW wa = slW w := by unfold slW; rw [ha2]
    have oc : ∃ (r : Int32) (h' m' : Nat) (ls' : Nat → Nat) (wb : Wd), f_X0_goesOut fu ev (mem ev wa) ev.1 (nI M) = some (r, mem ev wb) ∧ DQ ev wb 38 h' m' ls' ∧ wb.1 = wa.1 ∧ FrX [6] wa wb ∧ szW wb = szW wa + 1 ∧ slW wb = slW wa + 4 ∧ (∀ a : Nat, a < szW wa → dyn wb a = dyn wa a) ∧ ∀ wm : Wd, QM wm 6 971 m ls (M + 1) → ∃ wn : Wd, f_X2_leavesLine fu ev (mem ev wm) (ev.1 + 966) (nI M) = some (r, mem ev wn) ∧ QM wn 6 971 m' ls' M ∧ Ri (fun q i => q = 971 ∨ (q = 966 ∧ i = 6)) wm wn := by
      have up : ∀ {wn : Wd} {m' : Nat} {ls' : Nat → Nat}, QM wn 6 971 m' ls' (M + 1) → (∀ i : Nat, i < m' → ls' i ≠ M) → QM wn 6 971 m' ls' M := fun z y => ⟨z.1, fun i hi => ⟨(z.2.1 i hi).1, by have a1 := (z.2.1 i hi).2; have a2 := y i hi; omega⟩, z.2.2⟩
      rcases cx_out (fu := fu) (c := M) (w := wa) hE (by omega) (by omega) (DQ38_x hQ fa (by decide)) (by omega) (by omega) (by omega) with ⟨j, h', w1, a1, a2, a3, a4, a5, a6, a7, a8, a9⟩ | ⟨a1, w1, a3, a4, a5, a6, a7, a8, a9⟩
      · refine ⟨nI j, h', m - 1, dl j ls, w1, a3, a4, a5, a6, a7, a8, a9, fun wm qm => ?_⟩
        obtain ⟨wn, b1, b2, b3⟩ := (mx_out (fu := fu) (ev := ev) (c := M) (by omega) qm hm6 hM6 (by omega)).1 j a1 a2
        refine ⟨wn, b1, up b2 (fun i hi => ?_), b3⟩
        unfold dl
        split
        · intro e
          have := hm.2.2 i j (by omega) a1 (e.trans a2.symm)
          omega
        · intro e
          have := hm.2.2 (i + 1) j (by omega) a1 (e.trans a2.symm)
          omega
      · exact ⟨-1, h, m, ls, w1, a3, a4, a5, a6, a7, a8, a9, fun wm qm => ⟨wm, (mx_out (fu := fu) (ev := ev) (c := M) (by omega) qm hm6 hM6 (by omega)).2 a1, up qm a1, Ri_refl⟩⟩
    obtain ⟨r0, h', m', ls', wb, b1, b2, b3, b4, b5, b6, b7, bm⟩ := oc
    have b7' : ∀ a : Nat, a < szW w → dyn wb a = dyn w a := fun a ha => by rw [b7 a (by omega)]; unfold dyn; rw [ha2]
    have f1 : FrX [1, 6] w wb := FrX_trans fa b4 (by decide) (by decide)
    have lsb : Ls ev wb (n, qs) n' ad' := ⟨l2.1, ad, LL28_x l1 f1 (by decide) (by omega) (fun j hj => b7' _ (l1.2.2.2.2.2.1 j hj).2), l4⟩
    obtain ⟨wc, c1, c2, c3, c4, c5, c6, c7⟩ := cx_forgets (c := nI M) (st := 0) (fu := fu) (s := (n, qs)) (w := wb) hE hf lsb (fun j hj => (l2.2.2 j hj).2) (fun j hj => by have := (l3.1.2.2.2.2.2.1 j hj).2; omega) (by omega) (by omega) (by omega)
    obtain ⟨w1, hw1⟩ : ∃ w1, w1 = wI wc 0 8 0 := ⟨_, rfl⟩
    have i1b : wb.2.1 0 1 = nI M := by
      rw [b4.1 0 1 (by decide) (by decide), hwa]
      exact wI_same
    have i1c : wc.2.1 0 1 = nI M := by rw [c4.1 0 1 (by decide) (by decide)]; exact i1b
    have i11 : w1.2.1 0 1 = nI M := by rw [hw1, wI_ne (by omega)]; exact i1c
    have e1 : f_X0_drop fu ev (mem ev w) ev.1 = some (nI M, mem ev w1) := by
      have ww : wa.2.1 0 1 = nI M := by rw [hwa]; exact wI_same
      have pw : pfI ev (mem ev w) ev.1 0 1 (nI M) = some (mem ev wa) := by rw [xp1, hwa]
      have pc : pfI ev (mem ev wc) ev.1 0 8 0 = some (mem ev w1) := by rw [xp8, hw1]
      simp only [f_X0_drop, b_X0_drop_0, b_X0_drop_10, xi1, hM, nI_pred, nI_s0 (show M < 100 by omega), pw, ww, xis, b1, i1b, c1, pc, i11, Option.bind_some, bd2, b01, if_true, if_false, not_true_eq_false, not_false_eq_true, Bool.false_eq_true, eq_self, Int32.reduceAdd, Int32.reduceMul, Int32.reduceLE, Int32.reduceLT, reduceIte, Int32.add_assoc, ie_0_1, ie_0_2, ie_0_3, ie_0_4, ie_0_5, ie_0_6, ie_0_7, ie_0_8, ie_0_9, ie_1_0, ie_1_2, ie_1_3, ie_1_4, ie_1_5, ie_1_6, ie_1_7, ie_1_8, ie_1_9, ie_2_0, ie_2_1, ie_2_3, ie_2_4, ie_2_5, ie_2_6, ie_2_7, ie_2_8, ie_2_9, ie_3_0, ie_3_1, ie_3_2, ie_3_4, ie_3_5, ie_3_6, ie_3_7, ie_3_8, ie_3_9, ie_4_0, ie_4_1, ie_4_2, ie_4_3, ie_4_5, ie_4_6, ie_4_7, ie_4_8, ie_4_9, ie_5_0, ie_5_1, ie_5_2, ie_5_3, ie_5_4, ie_5_6, ie_5_7, ie_5_8, ie_5_9, ie_6_0, ie_6_1, ie_6_2, ie_6_3, ie_6_4, ie_6_5, ie_6_7, ie_6_8, ie_6_9, ie_7_0, ie_7_1, ie_7_2, ie_7_3, ie_7_4, ie_7_5, ie_7_6, ie_7_8, ie_7_9, ie_8_0, ie_8_1, ie_8_2, ie_8_3, ie_8_4, ie_8_5, ie_8_6, ie_8_7, ie_8_9, ie_9_0, ie_9_1, ie_9_2, ie_9_3, ie_9_4, ie_9_5, ie_9_6, ie_9_7, ie_9_8, nI_1, nI_pred, setC_21, setS_21, wI_same, Int32.reduceSub]
    -- the model
    have fc : FrX [1, 6, 4] w w1 := by
      refine FrX_trans (FrX_trans (U := [1, 6, 4]) f1 c4 (by decide) (by decide)) (T := [1]) ?_ (by decide) (by decide)
      rw [hw1]
      exact FrX_wI (Or.inr (by decide))
    have hmN : w1.2.1 966 2 = nI (M + 1) := by
      rw [hw1, wI_ne (by omega), c4.1 966 2 (by decide) (by decide), b4.1 966 2 (by decide) (by decide), hwa, wI_ne (by omega)]
      exact hN
    obtain ⟨wd, hwd⟩ : ∃ wd, wd = wI w1 966 2 (nI M) := ⟨_, rfl⟩
    have qd : QM wd 6 971 m ls (M + 1) := by rw [hwd]; exact QM6_x (QM6_x hm fc (by decide)) (FrX_wI (S := [1]) (Or.inr (by decide))) (by decide)
    obtain ⟨we, d1, d2, d3⟩ := bm wd qd
    have f16 := FrX_16 d3
    have lme : LM we 4 969 n qs := by
      refine LM4_x (LM4_x (LM4_x l2 fc (by decide)) (w' := wd) (S := [1]) ?_ (by decide)) f16 (by decide)
      rw [hwd]
      exact FrX_wI (Or.inr (by decide))
    obtain ⟨wg, g1, g2, g3, g4, g5⟩ := mx_forgets (c := nI M) (st := 0) (fu := fu) (ev := ev) (s := (n, qs)) (w := we) (by omega) lme
    obtain ⟨w2, hw2⟩ : ∃ w2, w2 = wI wg 966 9 0 := ⟨_, rfl⟩
    have ie : we.2.1 966 2 = nI M := by
      rw [f16.1 966 2 (by decide) (by decide), hwd]
      exact wI_same
    have ig : wg.2.1 966 2 = nI M := by rw [g5.1 966 2 (by decide) (by decide)]; exact ie
    have i2 : w2.2.1 966 2 = nI M := by rw [hw2, wI_ne (by omega)]; exact ig
    have e2 : f_X2_drop fu ev (mem ev w1) (ev.1 + 966) = some (nI M, mem ev w2) := by
      have ww : wd.2.1 966 2 = nI M := by rw [hwd]; exact wI_same
      have pw : pfI ev (mem ev w1) (ev.1 + 966) 2 2 (nI M) = some (mem ev wd) := by rw [mp2, hwd]
      have pc : pfI ev (mem ev wg) (ev.1 + 966) 2 9 0 = some (mem ev w2) := by rw [mp9, hw2]
      simp only [f_X2_drop, b_X2_drop_0, b_X2_drop_10, mi2, hmN, nI_pred, nI_s0 (show M < 100 by omega), pw, ww, mis, d1, ie, g1, pc, i2, Option.bind_some, bd2, b01, if_true, if_false, not_true_eq_false, not_false_eq_true, Bool.false_eq_true, eq_self, Int32.reduceAdd, Int32.reduceMul, Int32.reduceLE, Int32.reduceLT, reduceIte, Int32.add_assoc, ie_0_1, ie_0_2, ie_0_3, ie_0_4, ie_0_5, ie_0_6, ie_0_7, ie_0_8, ie_0_9, ie_1_0, ie_1_2, ie_1_3, ie_1_4, ie_1_5, ie_1_6, ie_1_7, ie_1_8, ie_1_9, ie_2_0, ie_2_1, ie_2_3, ie_2_4, ie_2_5, ie_2_6, ie_2_7, ie_2_8, ie_2_9, ie_3_0, ie_3_1, ie_3_2, ie_3_4, ie_3_5, ie_3_6, ie_3_7, ie_3_8, ie_3_9, ie_4_0, ie_4_1, ie_4_2, ie_4_3, ie_4_5, ie_4_6, ie_4_7, ie_4_8, ie_4_9, ie_5_0, ie_5_1, ie_5_2, ie_5_3, ie_5_4, ie_5_6, ie_5_7, ie_5_8, ie_5_9, ie_6_0, ie_6_1, ie_6_2, ie_6_3, ie_6_4, ie_6_5, ie_6_7, ie_6_8, ie_6_9, ie_7_0, ie_7_1, ie_7_2, ie_7_3, ie_7_4, ie_7_5, ie_7_6, ie_7_8, ie_7_9, ie_8_0, ie_8_1, ie_8_2, ie_8_3, ie_8_4, ie_8_5, ie_8_6, ie_8_7, ie_8_9, ie_9_0, ie_9_1, ie_9_2, ie_9_3, ie_9_4, ie_9_5, ie_9_6, ie_9_7, ie_9_8, nI_1, nI_pred, setC_21, setS_21, wI_same, Int32.reduceSub]
    -- all of it
    have fm : FrX [1, 16, 14] w1 w2 := by
      refine FrX_trans (FrX_trans (U := [1, 16, 14]) (S := [1]) (w' := wd) ?_ (FrX_trans (U := [16, 14]) f16 g5 (by decide) (by decide)) (by decide) (by decide)) (T := [1]) ?_ (by decide) (by decide)
      · rw [hwd]; exact FrX_wI (Or.inr (by decide))
      · rw [hw2]; exact FrX_wI (Or.inr (by decide))
    have f : FrX [1, 6, 4, 16, 14] w w2 := FrX_trans fc fm (by decide) (by decide)
    have q2 : w2.2.2 = w1.2.2 := by
      rw [hw2]
      show wg.2.2 = _
      rw [g4, d3.2.1, hwd]
      rfl
    have q1 : w1.2.2 = wc.2.2 := by rw [hw1]; rfl
    have jj : w2.1 = w.1 := by
      rw [hw2]
      show wg.1 = _
      rw [g3, d3.1, hwd]
      show w1.1 = _
      rw [hw1]
      show wc.1 = _
      rw [c3, b3, hwa]
      rfl
    have kb : FrK n' ad' w wb := ⟨⟨by omega, fun a ha _ => b7' a ha⟩, fun j hj => b7' _ (l3.1.2.2.2.2.2.1 j hj).2⟩
    have fk : FrK n' ad' w w2 := FrK_trans (FrK_trans kb c5) (FrK_eq (by rw [q2, q1]))
    have a26 : ∀ i : Nat, w2.2.2.1 26 i = w.2.2.1 26 i := fun i => by rw [q2, q1, c4.2.1 26 i (by decide) (by decide), b4.2.1 26 i (by decide) (by decide), ha2]
    refine ⟨nI M, w1, w2, e1, e2, ⟨⟨0, F, p, ⟨by omega, ?_, i2, fun k hk => ?_⟩, by omega, hF12, ?_, ?_, ?_, fun i hi => by rw [a26]; exact hp i hi, hinj, fun i hi => absurd hi (by omega)⟩, RT_x hT f (by decide) (by decide), RIm_x hI f (by decide) (by decide), RLg_mk (s := flt (Dlg (nI M) 0) n 0 qs) l3 f (by decide) (by decide) fk ?_ ?_, ⟨h', m', ls', ?_, ?_⟩, RQb_x hQb f (by decide) (by decide), RRw_x hRw f (by decide) (by decide) fk.1, RPp_x hP f (by decide) (by decide) fk.1, St_x st f (by decide) (by decide), Nat.le_trans h984 fk.1.1⟩, by unfold szW at *; rw [q2, q1]; omega, by unfold slW at *; rw [q2, q1]; omega, jj⟩
    · rw [hw2, wI_ne (by omega), g5.1 0 1 (by decide) (by decide), f16.1 0 1 (by decide) (by decide), hwd, wI_ne (by omega)]
      exact i11
    · rw [cv_row jj, sl_row jj]
      exact hc k (by omega)
    · rw [hw2, wI_ne (by omega), g5.1 0 8 (by decide) (by decide), f16.1 0 8 (by decide) (by decide), hwd, wI_ne (by omega), hw1]
      exact wI_same
    · rw [hw2]
      exact wI_same
    · rw [hw2, wI_ne (by omega), g5.1 966 10 (by decide) (by decide), f16.1 966 10 (by decide) (by decide), hwd, wI_ne (by omega), hw1, wI_ne (by omega), c4.1 966 10 (by decide) (by decide), b4.1 966 10 (by decide) (by decide), hwa, wI_ne (by omega)]
      exact hF10
    · exact Ls_x (Ls_x c2 (w' := w1) (S := [1]) (by rw [hw1]; exact FrX_wI (Or.inr (by decide))) (by decide) (by rw [q1])) fm (by decide) (by rw [q2])
    · rw [hw2]
      exact LM4_x g2 (FrX_wI (S := [1]) (Or.inr (by decide))) (by decide)
    · exact DQ38_x (DQ38_x (DQ38_x b2 c4 (by decide)) (w' := w1) (S := [1]) (by rw [hw1]; exact FrX_wI (Or.inr (by decide))) (by decide)) fm (by decide)
    · rw [hw2]
      exact QM6_x (QM6_x d2 g5 (by decide)) (FrX_wI (S := [1]) (Or.inr (by decide))) (by decide)
/-! clears -/
theorem dl_dl {i : Nat} (hk : k ≤ i) : dl i (dl k qs) = dl k (dl (i + 1) qs) := by
  funext a
  unfold dl
  by_cases e1 : a < k
  · rw [if_pos (by omega), if_pos e1, if_pos e1, if_pos (by omega)]
  · by_cases e2 : a < i
    · rw [if_pos e2, if_neg e1, if_neg e1, if_pos (by omega)]
    · rw [if_neg e2, if_neg (by omega), if_neg e1, if_neg (by omega)]
theorem flt_dl : ∀ (d i k : Nat) (qs : Nat → Nat), k ≤ i → flt D d i (dl k qs) = ((flt D d (i + 1) qs).1 - 1, dl k (flt D d (i + 1) qs).2) := by
  intro d
  induction d with
  | zero => intro i k qs _; rfl
  | succ d ih =>
    intro i k qs hk
    have e : dl k qs i = qs (i + 1) := by unfold dl; rw [if_neg (by omega)]
    show (if D (dl k qs i) = true then flt D d i (dl i (dl k qs)) else flt D d (i + 1) (dl k qs)) = ((if D (qs (i + 1)) = true then flt D d (i + 1) (dl (i + 1) qs) else flt D d (i + 1 + 1) qs).1 - 1, dl k (if D (qs (i + 1)) = true then flt D d (i + 1) (dl (i + 1) qs) else flt D d (i + 1 + 1) qs).2)
    rw [e]
    by_cases hD : D (qs (i + 1)) = true
    · rw [if_pos hD, if_pos hD, dl_dl hk, ih i k _ hk]
    · rw [if_neg hD, if_neg hD, ih (i + 1) k _ (by omega)]
/-- what is in front stays -/
theorem flt_pre : ∀ (d i : Nat) (qs : Nat → Nat) (a : Nat), a < i → (flt D d i qs).2 a = qs a := by
  intro d
  induction d with
  | zero => intro i qs a _; rfl
  | succ d ih =>
    intro i qs a ha
    show (if D (qs i) = true then flt D d i (dl i qs) else flt D d (i + 1) qs).2 a = _
    split
    · rw [ih i _ a ha]
      unfold dl
      rw [if_pos ha]
    · rw [ih (i + 1) _ a (by omega)]
theorem faV_0 {v : Nat → Int64} : faV v = 0 ↔ stV v = 0 := by
  unfold faV stV
  generalize ap1 v = a1
  generalize ap2 v = a2
  generalize ap3 v = a3
  generalize ap4 v = a4
  generalize ap5 v = a5
  generalize ap6 v = a6
  generalize ap7 v = a7
  generalize ap8 v = a8
  revert a1 a2 a3 a4 a5 a6 a7 a8
  decide +kernel
theorem isc_k (hk : k < M) (hM : M ≤ 6) : isc (nI k) M = true := by
  have key : ∀ k : Nat, k < 6 → ∀ M : Nat, M < 7 → k < M → isc (nI k) M = true := by decide +kernel
  exact key k (by omega) M (by omega) hk
theorem Lx_clr {cl : Nat → Nat → Int64} (hE : EvOk ev) (hf : 20 ≤ fu) (hM6 : M ≤ 6) (hD : ∀ c : Nat, c < M → (D c = true ↔ stV (cl c) = 0)) : ∀ (d f i : Nat) (w : Wd) (h : Nat) (qs : Nat → Nat) (l x : Int32), DQ ev w 38 h (i + d) qs → Di ev w 38 t h (i + d) i l → (∀ j : Nat, j < i + d → qs j < M) → w.2.1 0 1 = nI M → (∀ c : Nat, c < M → cv w (3 + 2 * c) = cl c) → d < f →
    ∃ (h' : Nat) (w' : Wd), L_X0_clears_10 fu ev f (mem ev w) ev.1 x (some t) = some (x + nI (i + d - (flt D d i qs).1), mem ev w') ∧ DQ ev w' 38 h' (flt D d i qs).1 (flt D d i qs).2 ∧ FrU t w w' := by
  have hr : Hq 38 := Or.inl rfl
  intro d
  induction d with
  | zero =>
    intro f i w h qs l x hQ hT hB hM hc hf
    obtain ⟨g, rfl⟩ : ∃ g, f = g + 1 := ⟨f - 1, by omega⟩
    have hn := dq_hasNext (fu := fu) hQ.2.1 (by omega) hT
    rw [if_neg (by omega)] at hn
    refine ⟨h, w, ?_, hQ, FrU_refl⟩
    have e0 : i + 0 - (flt D 0 i qs).1 = 0 := by show i + 0 - i = 0; omega
    show b_X0_clears_10 _ fu ev _ _ _ _ = _
    unfold b_X0_clears_10
    rw [Option.bind_some, di_is hT.2.1 hT.1, Option.bind_some, hn, e0, nI_0, Int32.add_zero]
    rfl
  | succ d ih =>
    intro f i w h qs l x hQ hT hB hM hc hf
    obtain ⟨g, rfl⟩ : ∃ g, f = g + 1 := ⟨f - 1, by omega⟩
    have hn := dq_hasNext (fu := fu) hQ.2.1 (by omega) hT
    rw [if_pos (by omega)] at hn
    obtain ⟨wa, Qa, Ta, Fa, e1, e2, e3, e4⟩ := out_next (fu := fu) hE hQ (show i < i + (d + 1) by omega) hT
    have hqM := hB i (by omega)
    have Ma : wa.2.1 0 1 = nI M := by rw [Fa.2.1.1 0 1 (by decide) (by decide)]; exact hM
    have ca : ∀ c : Nat, c < M → cv wa (3 + 2 * c) = cl c := fun c h => by rw [cv_row Fa.1]; exact hc c h
    have ff := X0_fails (ev := ev) (w := wa) (fu := fu) (k := qs i) (M := M) (by omega) Ma (isc_k hqM hM6) (by omega)
    rw [ca _ hqM] at ff
    have hd : L_X0_clears_10 fu ev (g + 1) (mem ev w) ev.1 x (some t) = if faV (cl (qs i)) = 0 then b_X0_clears_38 (L_X0_clears_10 fu ev g) fu ev (mem ev wa) ev.1 x t else L_X0_clears_10 fu ev g (mem ev wa) ev.1 x (some t) := by
      show b_X0_clears_10 _ fu ev _ _ _ _ = _
      unfold b_X0_clears_10
      rw [Option.bind_some, di_is hT.2.1 hT.1, Option.bind_some, hn]
      show b_X0_clears_19 (L_X0_clears_10 fu ev g) fu ev (mem ev w) ev.1 x t = _
      unfold b_X0_clears_19
      rw [di_is hT.2.1 hT.1, Option.bind_some, e1]
      show (ckC (mem ev wa) (some (ia ev (qs i))) "java/lang/Integer").bind _ = _
      rw [e2, Option.bind_some]
      show (isC (mem ev wa) (ia ev (qs i)) 15).bind _ = _
      rw [e3, Option.bind_some, e4]
      show (isC (mem ev wa) ev.1 0).bind _ = _
      rw [xis, Option.bind_some, ff]
      rfl
    by_cases hq : D (qs i) = true
    · obtain ⟨h', wb, r1, r2, r3, r4, r5, r6, r7, r8⟩ := dq_remove (fu := fu) (n := i + d) hr hE Qa (show i < i + d + 1 by omega) Ta
      have Fb : FrU t wa wb := ⟨r4, FrX_q38 r4 r5 r6, r8, r7⟩
      obtain ⟨h2, w', s1, s2, s3⟩ := ih g i wb h' (dl i qs) (-1) (x + 1) r2 r3 (fun j hj => by unfold dl; split; exact hB j (by omega); exact hB (j + 1) (by omega)) (by rw [Fb.2.1.1 0 1 (by decide) (by decide)]; exact Ma) (fun c h => by rw [cv_row Fb.1]; exact ca c h) (by omega)
      have e5 : flt D (d + 1) i qs = flt D d i (dl i qs) := by
        show (if D (qs i) = true then _ else _) = _
        rw [if_pos hq]
      have le := flt_le (D := D) d i (dl i qs)
      refine ⟨h2, w', ?_, by rw [e5]; exact s2, FrU_trans (FrU_trans Fa Fb) s3⟩
      rw [hd, if_pos (faV_0.mpr ((hD _ hqM).mp hq)), e5]
      unfold b_X0_clears_38
      rw [di_is Ta.2.1 Ta.1, Option.bind_some, r1]
      show L_X0_clears_10 fu ev g (mem ev wb) ev.1 (x + 1) (some t) = _
      rw [s1, Int32.add_assoc, show (1 : Int32) = nI 1 from rfl, nI_add, show i + (d + 1) - (flt D d i (dl i qs)).1 = 1 + (i + d - (flt D d i (dl i qs)).1) by omega]
    · have e6 : i + 1 + d = i + (d + 1) := by omega
      obtain ⟨h2, w', s1, s2, s3⟩ := ih g (i + 1) wa h qs (nI ((h + i) % 17)) x (by rw [e6]; exact Qa) (by rw [e6]; exact Ta) (by rw [e6]; exact hB) Ma ca (by omega)
      have e5 : flt D (d + 1) i qs = flt D d (i + 1) qs := by
        show (if D (qs i) = true then _ else _) = _
        rw [if_neg hq]
      refine ⟨h2, w', ?_, by rw [e5]; exact s2, FrU_trans Fa s3⟩
      rw [hd, if_neg (fun z => hq ((hD _ hqM).mpr (faV_0.mp z))), e5, ← e6]
      exact s1
theorem Lm_clr {cl : Nat → Nat → Int64} (hf : 40 ≤ fu) (hM6 : M ≤ 6) (hD : ∀ c : Nat, c < M → (D c = true ↔ stV (cl c) = 0)) (hm : ∀ c : Nat, c < M → eqM (cl c)) (hn : n ≤ 6) : ∀ (k f : Nat) (w : Wd) (x : Int32), QM w 6 971 (flt D (n - k) k qs).1 (flt D (n - k) k qs).2 M → (∀ c : Nat, c < M → sl w c = cl c) → k ≤ n → k < f → ∃ w' : Wd, L_X2_clears_9 fu ev f (mem ev w) (ev.1 + 966) x (nI k - 1) = some (x + nI ((flt D (n - k) k qs).1 - (flt D n 0 qs).1), mem ev w') ∧ QM w' 6 971 (flt D n 0 qs).1 (flt D n 0 qs).2 M ∧ Ri (fun q i => q = 971 ∨ (q = 966 ∧ i = 6)) w w' ∧ (flt D n 0 qs).1 ≤ (flt D (n - k) k qs).1 := by
  intro k
  induction k with
  | zero =>
    intro f w x hQ hc hk hf
    obtain ⟨g, rfl⟩ : ∃ g, f = g + 1 := ⟨f - 1, by omega⟩
    refine ⟨w, ?_, hQ, Ri_refl, Nat.le_refl _⟩
    show b_X2_clears_9 _ fu ev _ _ _ _ = _
    unfold b_X2_clears_9
    rw [if_pos (show nI 0 - 1 < (0 : Int32) by decide), Nat.sub_zero, Nat.sub_self, nI_0, Int32.add_zero]
    rfl
  | succ k ih =>
    intro f w x hQ hc hk hf
    obtain ⟨g, rfl⟩ : ∃ g, f = g + 1 := ⟨f - 1, by omega⟩
    have le := flt_le (D := D) (n - (k + 1)) (k + 1) qs
    have pre : (flt D (n - (k + 1)) (k + 1) qs).2 k = qs k := flt_pre _ _ _ _ (by omega)
    obtain ⟨v1, v2⟩ := hQ.2.1 k (by omega)
    rw [pre] at v1 v2
    have ff := X2_firstOf (ev := ev) (w := w) (K := qs k) (fu := fu) (by omega) (by omega) (by rw [hc _ v2]; exact hm _ v2)
    rw [hc _ v2] at ff
    have h9 := st_lt9 (cl (qs k))
    have e0 : n - k = n - (k + 1) + 1 := by omega
    have ld := rdI (ev := ev) (w := w) (r := 971) (k := k) (N := 6) rfl (by decide) (by decide) (by omega)
    rw [v1] at ld
    have hd : L_X2_clears_9 fu ev (g + 1) (mem ev w) (ev.1 + 966) x (nI (k + 1) - 1) = if nI (stV (cl (qs k))) ≤ 0 then b_X2_clears_29 (L_X2_clears_9 fu ev g) fu ev (mem ev w) (ev.1 + 966) x (nI k) else b_X2_clears_26 (L_X2_clears_9 fu ev g) fu ev (mem ev w) (ev.1 + 966) x (nI k) := by
      show b_X2_clears_9 _ fu ev _ _ _ _ = _
      unfold b_X2_clears_9
      rw [nI_pred, if_neg (nI_pos (by omega))]
      unfold b_X2_clears_13
      rw [mf14, Option.bind_some, Option.bind_some, ld, Option.bind_some, mis, Option.bind_some, ff]
      rfl
    have am : ∀ y : Int32, y + (-1) = y - 1 := fun y => (Int32.sub_eq_add_neg y 1).symm
    by_cases hq : D (qs k) = true
    · have e5 : flt D (n - k) k qs = ((flt D (n - (k + 1)) (k + 1) qs).1 - 1, dl k (flt D (n - (k + 1)) (k + 1) qs).2) := by
        rw [e0]
        show (if D (qs k) = true then _ else _) = _
        rw [if_pos hq, flt_dl _ _ _ _ (Nat.le_refl _)]
      obtain ⟨wa, a1, a2, a3⟩ := (mx_out (fu := fu) (ev := ev) (c := qs k) (by omega) hQ (by omega) hM6 (by omega)).1 k (by omega) pre
      have ja : wa.1 = w.1 := a3.1
      obtain ⟨w', b1, b2, b3, le3⟩ := ih g wa (x + 1) (by rw [e5]; exact a2) (fun c h => by rw [sl_row ja]; exact hc c h) (by omega) (by omega)
      have le2 := flt_le (D := D) (n - k) k qs
      have e7 : (flt D (n - k) k qs).1 = (flt D (n - (k + 1)) (k + 1) qs).1 - 1 := by rw [e5]
      refine ⟨w', ?_, b2, Ri_trans a3 b3 (fun _ _ z => z) (fun _ _ z => z), by omega⟩
      have h0 : stV (cl (qs k)) = 0 := (hD _ v2).mp hq
      rw [hd, h0, if_pos (by decide)]
      unfold b_X2_clears_29
      rw [mf14, Option.bind_some, Option.bind_some, ld, Option.bind_some, mis, Option.bind_some, a1]
      show b_X2_clears_43 (L_X2_clears_9 fu ev g) fu ev (mem ev wa) (ev.1 + 966) (x + 1) (nI k) = _
      unfold b_X2_clears_43
      rw [am, b1, Int32.add_assoc, show (1 : Int32) = nI 1 from rfl, nI_add, show (flt D (n - (k + 1)) (k + 1) qs).1 - (flt D n 0 qs).1 = 1 + ((flt D (n - k) k qs).1 - (flt D n 0 qs).1) by omega]
    · have e5 : flt D (n - k) k qs = flt D (n - (k + 1)) (k + 1) qs := by
        rw [e0]
        show (if D (qs k) = true then _ else _) = _
        rw [if_neg hq]
      obtain ⟨w', b1, b2, b3, le3⟩ := ih g w x (by rw [e5]; exact hQ) hc (by omega) (by omega)
      refine ⟨w', ?_, b2, b3, by rw [← e5]; exact le3⟩
      have h0 : stV (cl (qs k)) ≠ 0 := fun z => hq ((hD _ v2).mpr z)
      rw [hd, if_neg (nI_nle (by omega) (by omega))]
      unfold b_X2_clears_26 b_X2_clears_43
      rw [am, b1, e5]
theorem op_clears (hE : EvOk ev) (hf : 40 ≤ fu) (hR : Rel ev w M K T) (h1 : szW w + 1 ≤ ev.2.1) (h2 : slW w + 4 ≤ ev.2.2.1) : ∃ (r : Int32) (w1 w2 : Wd), f_X0_clears fu ev (mem ev w) ev.1 = some (r, mem ev w1) ∧ f_X2_clears fu ev (mem ev w1) (ev.1 + 966) = some (r, mem ev w2) ∧ Rel ev w2 M K T ∧ szW w2 ≤ szW w + 1 ∧ slW w2 ≤ slW w + 4 ∧ w2.1 = w.1 := by
  have hr : Hq 38 := Or.inl rfl
  obtain ⟨⟨C, F, p, rc⟩, -, -, -, ⟨h, n, qs, hQ, hm⟩, -, -, -, -, h984⟩ := id hR
  obtain ⟨hM6, hM, hN, hc⟩ := rc.1
  have hn6 := hQ.2.1
  obtain ⟨wa, e1, Qa, Ta, hwa⟩ := dq_iter (fu := fu) hr hQ h984 h1 h2
  have za : szW wa = szW w + 1 := by rw [hwa]; rfl
  have ya : slW wa = slW w + 4 := by rw [hwa]; rfl
  have Fa : FrX [6] w wa := by rw [hwa]; exact FrX_row rfl (fun _ _ _ _ => rfl) (fun _ _ _ _ => rfl)
  have ja : wa.1 = w.1 := by rw [hwa]; rfl
  have da : ∀ a : Nat, a < szW w → dyn wa a = dyn w a := fun a ha => by rw [hwa, dyn_nw, if_neg (by omega)]
  have e0 : 0 + n = n := Nat.zero_add _
  have hDD : ∀ c : Nat, c < M → ((fun c => decide (stV (sl w c) = 0)) c = true ↔ stV (sl w c) = 0) := fun c _ => decide_eq_true_iff
  obtain ⟨h', w1, a1, a2, a3, a4, a5, a6⟩ := Lx_clr (fu := fu) (D := fun c => decide (stV (sl w c) = 0)) (cl := fun c => sl w c) hE (by omega) hM6 hDD n fu 0 wa h qs (-1) 0 (by rw [e0]; exact Qa) (by rw [e0]; exact Ta) (fun j hj => (hm.2.1 j (by omega)).2) (by rw [Fa.1 0 1 (by decide) (by decide)]; exact hM) (fun c h => by rw [cv_row ja]; exact (hc c h).1) (by omega)
  have zz : szW w1 = szW wa := congrArg Prod.fst a5
  have yy : slW w1 = slW wa := congrArg Prod.snd a5
  have f1 : FrX [6] w w1 := FrX_trans Fa a4 (by decide) (by decide)
  have j1 : w1.1 = w.1 := a3.trans ja
  have m1 := QM6_x hm f1 (by decide)
  obtain ⟨w2, b1, b2, b3, -⟩ := Lm_clr (fu := fu) (ev := ev) (D := fun c => decide (stV (sl w c) = 0)) (cl := fun c => sl w c) (n := n) (qs := qs) hf hM6 hDD (fun c h => by obtain ⟨N, -, -, -, z⟩ := good_ends (hc c h).2.1; exact z 0 (Nat.zero_le _)) hn6 n fu w1 0 (by rw [Nat.sub_self]; exact m1) (fun c h => by rw [sl_row j1]) (Nat.le_refl _) (by omega)
  have f16 := FrX_16 b3
  have d2 : w2.2.2 = w1.2.2 := b3.2.1
  rw [e0, Int32.zero_add] at a1
  rw [Nat.sub_self, Int32.zero_add] at b1
  refine ⟨nI (n - (flt (fun c => decide (stV (sl w c) = 0)) n 0 qs).1), w1, w2, ?_, ?_, Rel_ln hR (FrX_trans f1 f16 (by decide) (by decide)) (by unfold szW at *; rw [d2]; omega) (fun a ha => ?_) ⟨h', _, _, DQ38_x a2 f16 (by decide), b2⟩, by unfold szW at *; rw [d2]; omega, by unfold slW at *; rw [d2]; omega, b3.1.trans j1⟩
  · unfold f_X0_clears b_X0_clears_0
    rw [xf16, Option.bind_some, Option.bind_some, qIs hr, Option.bind_some, e1]
    exact a1
  · unfold f_X2_clears b_X2_clears_0
    rw [mi6, Option.bind_some, m1.1]
    exact b1
  · have q1 := a6 a (show a ≠ szW w by omega)
    rw [← da a ha, ← q1]
    unfold dyn
    rw [d2]
end XDR
