/-! OPERATION works, RELATED -/
section XWM
variable {ev : Ev} {w w' w'' : Wd} {fu k n t h c j M T n' N C F : Nat} {x : Int32} {qs ad' p : Nat → Nat} {K : Option Nat} {V v : Nat → Int64} {z : Wk}
theorem OkV_eqM (h : OkV v) : eqM v := by obtain ⟨N, -, -, -, z⟩ := good_ends h.1; exact z 0 (Nat.zero_le _)
theorem Lm_wk (hf4 : 40 ≤ fu) (hM6 : M ≤ 6) (hN : N < 2 ^ 31) : ∀ (d f k : Nat) (w : Wd) (z : Wk) (x : Int32), k + d = N → WM w z M → z.2.1.1 ≤ 6 → (∀ c : Nat, c < M → Mk (z.1 c) ∧ OkV (z.1 c)) → d < f →
    ∃ w' : Wd, L_X2_works_18 fu ev f (mem ev w) (ev.1 + 966) (nI N) x (nI k) = some (x + nI (wkN d z).2, mem ev w') ∧ WM w' (wkN d z).1 M ∧ FrX [14, 20, 16, 21] w w' ∧ w'.2.2 = w.2.2 ∧ w'.2.1 966 8 = w.2.1 966 8 + nI (wkN d z).2 ∧ (∀ c : Nat, c < M → OkV ((wkN d z).1.1 c) ∧ ((wkN d z).1.1 c = z.1 c ∨ stV (z.1 c) ≠ 0)) := by
  intro d
  induction d with
  | zero =>
    intro f k w z x hk hW h6 hok hf
    obtain ⟨g, rfl⟩ : ∃ g, f = g + 1 := ⟨f - 1, by omega⟩
    refine ⟨w, ?_, hW, FrX_refl, rfl, by show _ = _ + nI 0; rw [nI_0, Int32.add_zero], fun c hc => ⟨(hok c hc).2, Or.inl rfl⟩⟩
    show b_X2_works_18 _ fu ev _ _ _ _ _ = some (x + nI 0, _)
    unfold b_X2_works_18
    rw [if_pos (nI_le (by omega) (by omega)), nI_0, Int32.add_zero]
    rfl
  | succ d ih =>
    intro f k w z x hk hW h6 hok hf
    obtain ⟨g, rfl⟩ : ∃ g, f = g + 1 := ⟨f - 1, by omega⟩
    obtain ⟨hc, hQ, hL⟩ := hW
    have hd0 : L_X2_works_18 fu ev (g + 1) (mem ev w) (ev.1 + 966) (nI N) x (nI k) = if nI z.2.1.1 ≤ 0 then some (x, mem ev w) else b_X2_works_30 (L_X2_works_18 fu ev g) fu ev (mem ev w) (ev.1 + 966) (nI N) x (nI k) := by
      show b_X2_works_18 _ fu ev _ _ _ _ _ = _
      unfold b_X2_works_18
      rw [if_neg (nI_ge (by omega) (by omega))]
      unfold b_X2_works_23
      rw [mi6, Option.bind_some, hQ.1]
      rfl
    by_cases hz : z.2.1.1 = 0
    · have e5 : wkN (d + 1) z = (z, 0) := by
        show (if z.2.1.1 = 0 then (z, 0) else _) = _
        rw [if_pos hz]
      rw [e5]
      refine ⟨w, ?_, ⟨hc, hQ, hL⟩, FrX_refl, rfl, by show _ = _ + nI 0; rw [nI_0, Int32.add_zero], fun c hc => ⟨(hok c hc).2, Or.inl rfl⟩⟩
      rw [hd0, hz, if_pos (by decide)]
      show some (x, _) = some (x + nI 0, _)
      rw [nI_0, Int32.add_zero]
    · have e5 : wkN (d + 1) z = ((wkN d (wk1 z)).1, wkd z + (wkN d (wk1 z)).2) := by
        show (if z.2.1.1 = 0 then (z, 0) else _) = _
        rw [if_neg hz]
      rw [hd0, if_neg (nI_nle (by omega) (by omega)), e5]
      obtain ⟨c, hcc⟩ : ∃ c, z.2.1.2 0 = c := ⟨_, rfl⟩
      obtain ⟨q1, q2⟩ := hQ.2.1 0 (by omega)
      rw [hcc] at q1 q2
      obtain ⟨v, hv⟩ : ∃ v, z.1 c = v := ⟨_, rfl⟩
      obtain ⟨mv, ov⟩ := hok c q2
      rw [hv] at mv ov
      have h9 := st_lt9 v
      obtain ⟨wa, a1, a2, a3⟩ := (mx_out (fu := fu) (ev := ev) (c := c) hf4 hQ h6 hM6 (by omega)).1 0 (by omega) hcc
      have fa := FrX_16 a3
      have ca : ∀ l : Nat, l < M → sl wa l = z.1 l := fun l hl => by rw [sl_row a3.1]; exact hc l hl
      have ff := X2_firstOf (ev := ev) (w := wa) (K := c) (fu := fu) (by omega) (by omega) (by rw [ca c q2, hv]; exact OkV_eqM ov)
      rw [ca c q2, hv] at ff
      have ld := rdI (ev := ev) (w := w) (r := 971) (k := 0) (N := 6) rfl (by decide) (by decide) (by omega)
      rw [q1, nI_0] at ld
      have hne : ∀ i : Nat, i < z.2.1.1 - 1 → dl 0 z.2.1.2 i ≠ c := by
        intro i hi e
        have e' : z.2.1.2 (i + 1) = c := e
        have := hQ.2.2 (i + 1) 0 (by omega) (by omega) (e'.trans hcc.symm)
        omega
      have hd1 : b_X2_works_30 (L_X2_works_18 fu ev g) fu ev (mem ev w) (ev.1 + 966) (nI N) x (nI k) = if nI (stV v) = 0 then b_X2_works_58 (L_X2_works_18 fu ev g) fu ev (mem ev wa) (ev.1 + 966) (nI N) x (nI k) else b_X2_works_61 (L_X2_works_18 fu ev g) fu ev (mem ev wa) (ev.1 + 966) (nI N) x (nI k) (nI c) (nI (stV v)) := by
        unfold b_X2_works_30
        rw [mf14, Option.bind_some, Option.bind_some, ld, Option.bind_some, mis, Option.bind_some, a1]
        show (isC (mem ev wa) (ev.1 + 966) 2).bind _ = _
        rw [mis, Option.bind_some, ff]
        rfl
      by_cases h00 : stV v = 0
      · have ek : wk1 z = (z.1, (z.2.1.1 - 1, fun i => z.2.1.2 (i + 1)), z.2.2) := by
          show (if stV (z.1 (z.2.1.2 0)) = 0 then _ else _) = _
          rw [hcc, hv, if_pos h00]
        have ed : wkd z = 0 := by unfold wkd; rw [hcc, hv, if_pos h00]
        obtain ⟨w', r1, r2, r3, r4, r5, r6⟩ := ih g (k + 1) wa (wk1 z) x (by omega) (by
            rw [ek]
            exact ⟨ca, a2, LM4_x hL fa (by decide)⟩) (by rw [ek]; show z.2.1.1 - 1 ≤ 6; omega) (by rw [ek]; exact hok) (by omega)
        rw [ek] at r6
        refine ⟨w', ?_, r2, FrX_trans fa r3 (by decide) (by decide), r4.trans a3.2.1, ?_, ?_⟩
        · rw [hd1, h00, if_pos (by decide), ed, Nat.zero_add]
          unfold b_X2_works_58 b_X2_works_101
          rw [nI_1]
          exact r1
        · rw [r5, fa.1 966 8 (by decide) (by decide), ed, Nat.zero_add]
        · rw [← ek] at r6
          intro l hl
          have := r6 l hl
          rw [ek] at this ⊢
          exact this
      · have ek : wk1 z = (fun k => if k = c then goV v else z.1 k, (z.2.1.1, fun i => if i = z.2.1.1 - 1 then c else z.2.1.2 (i + 1)), lgA z.2.2 (10 * c + stV v)) := by
          show (if stV (z.1 (z.2.1.2 0)) = 0 then _ else _) = _
          rw [hcc, hv, if_neg h00]
        have ed : wkd z = 1 := by unfold wkd; rw [hcc, hv, if_neg h00]
        have dd := X2_doesV (ev := ev) (w := wa) (K := c) (fu := fu) (by omega) (by omega) (by rw [ca c q2, hv]; exact h00)
        rw [ca c q2, hv] at dd
        obtain ⟨wb, hwb⟩ : ∃ wb, wb = setS wa c (goV v) := ⟨_, rfl⟩
        rw [← hwb] at dd
        have fb : FrX [21] wa wb := by rw [hwb]; exact FrX_setSk (by omega)
        have Lb : LM wb 4 969 z.2.2.1 z.2.2.2 := LM4_x (LM4_x hL fa (by decide)) fb (by decide)
        have Qb : QM wb 6 971 (z.2.1.1 - 1) (dl 0 z.2.1.2) M := QM6_x a2 fb (by decide)
        obtain ⟨wl, m1, m2, m3, m4, m5, m6⟩ := ml_log (ev := ev) (fu := fu) (k := c) (t := stV v) (w := wb) hf4 Lb (by omega) (by omega)
        have Ql : QM wl 6 971 (z.2.1.1 - 1) (dl 0 z.2.1.2) M := QM6_x Qb m3 (by decide)
        obtain ⟨wq, hwq⟩ : ∃ wq, wq = wI (wI wl 971 (z.2.1.1 - 1) (nI c)) 966 6 (nI (z.2.1.1 - 1 + 1)) := ⟨_, rfl⟩
        have Qq := QM_add Ql q2 hne
        rw [← hwq] at Qq
        have fq : FrX [16] wl wq := by rw [hwq]; exact FrX_trans (U := [16]) (FrX_wI (S := [16]) (Or.inr List.mem_cons_self)) (FrX_wI (S := [16]) (Or.inr (by decide))) (by decide) (by decide)
        have sq : ∀ l : Nat, l < M → sl wq l = if l = c then goV v else z.1 l := by
          intro l hl
          rw [hwq, sl_wI, sl_wI, sl_row m4, hwb]
          by_cases el : l = c
          · rw [el, if_pos rfl, sl_mk (Mk_go mv)]
          · rw [if_neg el, sl_ne el, ca l hl]
        have e11 : z.2.1.1 - 1 + 1 = z.2.1.1 := by omega
        obtain ⟨w', r1, r2, r3, r4, r5, r6⟩ := ih g (k + 1) wq (wk1 z) (x + 1) (by omega) (by
            rw [ek]
            refine ⟨sq, ?_, LM4_x m2 fq (by decide)⟩
            show QM wq 6 971 z.2.1.1 (fun i => if i = z.2.1.1 - 1 then c else z.2.1.2 (i + 1)) M
            rw [e11] at Qq
            exact Qq) (by rw [ek]; exact h6) (by
            rw [ek]
            intro l hl
            show Mk (if l = c then goV v else z.1 l) ∧ OkV (if l = c then goV v else z.1 l)
            split
            · exact ⟨Mk_go mv, OkV_go ov h00⟩
            · exact hok l hl) (by omega)
        have fal : FrX [16, 21, 14, 20] w wq := FrX_trans (FrX_trans (U := [16, 21, 14, 20]) fa (FrX_trans (U := [21, 14, 20]) fb m3 (by decide) (by decide)) (by decide) (by decide)) fq (by decide) (by decide)
        refine ⟨w', ?_, r2, FrX_trans fal r3 (by decide) (by decide), ?_, ?_, fun l hl => ⟨(r6 l hl).1, ?_⟩⟩
        · rw [hd1, if_neg (fun y => nI_ne0 (by omega) (by omega) y)]
          have g6 : (wI wl 971 (z.2.1.1 - 1) (nI c)).2.1 966 6 = nI (z.2.1.1 - 1) := by rw [wI_ne (by omega)]; exact Ql.1
          unfold b_X2_works_61
          rw [mis, Option.bind_some, dd]
          show (isC (mem ev wb) (ev.1 + 966) 2).bind _ = _
          rw [mis, Option.bind_some, m1]
          show (gfA (mem ev wl) (ev.1 + 966) 2 14).bind _ = _
          rw [mf14, Option.bind_some, mi6, Option.bind_some, Option.bind_some, Ql.1, wrI (N := 6) rfl (by decide) (by decide) (by omega), Option.bind_some, mi6, Option.bind_some, g6, nI_1, mp6, Option.bind_some, ← hwq]
          unfold b_X2_works_101
          rw [nI_1, r1, ed, Int32.add_assoc, show (1 : Int32) = nI 1 from rfl, nI_add]
        · rw [r4, hwq]
          show wl.2.2 = _
          rw [m5, hwb]
          show wa.2.2 = _
          exact a3.2.1
        · rw [r5, fq.1 966 8 (by decide) (by decide), m6, fb.1 966 8 (by decide) (by decide), fa.1 966 8 (by decide) (by decide), ed, Int32.add_assoc, show (1 : Int32) = nI 1 from rfl, nI_add]
        · by_cases el : l = c
          · right
            rw [el, hv]
            exact h00
          · rcases (r6 l hl).2 with y | y
            · left
              rw [y, ek]
              show (if l = c then goV v else z.1 l) = z.1 l
              rw [if_neg el]
            · right
              rw [ek] at y
              have y' : stV (if l = c then goV v else z.1 l) ≠ 0 := y
              rw [if_neg el] at y'
              exact y'
/-- cells change in both, what was stays -/
theorem RCK_cl (r : RCK ev w M C F p) {S : List Nat} (f : FrX S w w') (hS : 1 ∉ S) (hc : ∀ k : Nat, k < M → cv w' (3 + 2 * k) = sl w' k ∧ OkV (sl w' k)) : RCK ev w' M C F p := by
  obtain ⟨⟨h6, h0, h2, -⟩, h12, hF, hC0, hC9, hF10, hp, hinj, hrel⟩ := r
  obtain ⟨fi, fa, -, -, -, fw⟩ := f
  have i : ∀ q j : Nat, kI q j = 1 → w'.2.1 q j = w.2.1 q j := fun q j e => fi q j (by omega) (by rw [e]; exact hS)
  refine ⟨⟨h6, (i 0 1 rfl).trans h0, (i 966 2 rfl).trans h2, hc⟩, h12, hF, (i 0 8 rfl).trans hC0, (i 966 9 rfl).trans hC9, (i 966 10 rfl).trans hF10, fun k hk => ?_, hinj, fun k hk => ?_⟩
  · rw [fa 26 k (by decide) hS]
    exact hp k hk
  · have hpk := (hp k (by omega)).2
    have hm : (F + k) % 12 < 12 := Nat.mod_lt _ (by decide)
    rw [(fw hS _ hpk).1, (fw hS _ hm).2, i 27 k rfl, i 973 _ rfl]
    exact hrel k hk
theorem inJ_nI {a b : Int64} {A B : Nat} (ha : a.toInt = A) (hb : b.toInt = B) (hB : B < 2 ^ 31) (h : inJ x.toInt64 a b = true) : ∃ N : Nat, A ≤ N ∧ N ≤ B ∧ x = nI N := by
  have h1 := inJ_iff.mp h
  rw [i_l, ha, hb] at h1
  refine ⟨x.toInt.toNat, by omega, by omega, Int32.toInt_inj.mp ?_⟩
  rw [nI_toInt (by omega)]
  omega
theorem op_works (hE : EvOk ev) (hf : 1001 ≤ fu) (hR : Rel ev w M K T) (h1 : szW w + 99 ≤ ev.2.1) (h2 : slW w + 297 ≤ ev.2.2.1) : ∃ (r : Int32) (w1 w2 : Wd), f_X0_works fu ev (mem ev w) ev.1 x = some (r, mem ev w1) ∧ f_X2_works fu ev (mem ev w1) (ev.1 + 966) x = some (r, mem ev w2) ∧ Rel ev w2 M K T ∧ szW w2 ≤ szW w + 99 ∧ slW w2 ≤ slW w + 297 ∧ ∀ l : Nat, l < M → sl w2 l = sl w l ∨ stV (sl w l) ≠ 0 := by
  by_cases a : inJ x.toInt64 1 99 = true
  · obtain ⟨N, hN1, hN2, rfl⟩ := inJ_nI (A := 1) (B := 99) (by decide) (by decide) (by decide) a
    obtain ⟨⟨C, F, p, rc⟩, hT, hI, ⟨n, ad, qs, n', ad', qs', ⟨l1, l2⟩, l3, l4⟩, ⟨h, m, ls, hQ, hm⟩, hQb, hRw, hP, st, h984⟩ := id hR
    obtain ⟨hM6, hM, hNn, hc⟩ := rc.1
    obtain ⟨z, hz⟩ : ∃ z : Wk, z = (fun c => sl w c, (m, ls), (n, qs)) := ⟨_, rfl⟩
    obtain ⟨w1, a1, ⟨b1, ⟨h', b2⟩, b3, b4⟩, a3, a4, a5, a6, a7⟩ := Lx_wk (fu := fu) (M := M) (n' := n') (ad' := ad') (N := N) hE (by omega) hM6 (by omega) N fu 0 w z 0 (by omega) (by rw [hz]; exact ⟨fun c hc' => (hc c hc').1, ⟨h, hQ⟩, fun i hi => (hm.2.1 i hi).2, l2.1, ad, l1, l4⟩) (by rw [hz]; exact fun c _ => Mk_sl) (fun j hj => (l3.1.2.2.2.2.2.1 j hj).2) (by omega) h984 (by omega) (by omega)
    have s1 : ∀ l : Nat, l < 6 → sl w1 l = sl w l := fun l hl => a3.2.2.2.2.1.2 (by decide) l hl
    obtain ⟨w2, c1, ⟨d1, d2, d3⟩, c3, c4, c5, c6⟩ := Lm_wk (fu := fu) (ev := ev) (M := M) (N := N) (by omega) hM6 (by omega) N fu 0 w1 z 0 (by omega) (by rw [hz]; exact ⟨fun c hc' => s1 c (by omega), QM6_x hm a3 (by decide), LM4_x l2 a3 (by decide)⟩) (by rw [hz]; exact hQ.2.1) (by rw [hz]; exact fun c hc' => ⟨Mk_sl, (hc c hc').2⟩) (by omega)
    rw [Int32.zero_add] at a1 c1
    have f : FrX [4, 10, 6, 11, 14, 20, 16, 21] w w2 := FrX_trans a3 c3 (by decide) (by decide)
    have fk : FrK n' ad' w w2 := FrK_trans a4 (FrK_eq (by rw [c4]))
    have hcc : ∀ k : Nat, k < M → cv w2 (3 + 2 * k) = sl w2 k ∧ OkV (sl w2 k) := fun k hk => by
      rw [c3.2.2.2.2.1.1 (by decide) k (by omega), b1 k hk, d1 k hk]
      exact ⟨rfl, (c6 k hk).1⟩
    refine ⟨nI (wkN N z).2, w1, w2, ?_, ?_, ⟨⟨C, F, p, RCK_cl rc f (by decide) hcc⟩, RT_x hT f (by decide) (by decide), RIm_x hI f (by decide) (by decide), RLg_mk l3 f (by decide) (by decide) fk (Ls_x b4 c3 (by decide) (by rw [c4])) d3, ⟨h', _, _, DQ38_x b2 c3 (by decide), d2⟩, RQb_x hQb f (by decide) (by decide), RRw_x hRw f (by decide) (by decide) fk.1, RPp_x hP f (by decide) (by decide) fk.1, ?_, Nat.le_trans h984 fk.1.1⟩, by unfold szW at *; rw [c4]; omega, by unfold slW at *; rw [c4]; omega, fun l hl => ?_⟩
    · rw [nI_0] at a1
      simp only [f_X0_works, b_X0_works_0, b_X0_works_14, X0_isIn, a, a1, Option.bind_some, bd2, b01, if_true, if_false, not_true_eq_false, not_false_eq_true, Bool.false_eq_true, eq_self, Int32.reduceAdd, Int32.reduceMul, Int32.reduceLE, Int32.reduceLT, reduceIte, Int32.add_assoc, ie_0_1, ie_0_2, ie_0_3, ie_0_4, ie_0_5, ie_0_6, ie_0_7, ie_0_8, ie_0_9, ie_1_0, ie_1_2, ie_1_3, ie_1_4, ie_1_5, ie_1_6, ie_1_7, ie_1_8, ie_1_9, ie_2_0, ie_2_1, ie_2_3, ie_2_4, ie_2_5, ie_2_6, ie_2_7, ie_2_8, ie_2_9, ie_3_0, ie_3_1, ie_3_2, ie_3_4, ie_3_5, ie_3_6, ie_3_7, ie_3_8, ie_3_9, ie_4_0, ie_4_1, ie_4_2, ie_4_3, ie_4_5, ie_4_6, ie_4_7, ie_4_8, ie_4_9, ie_5_0, ie_5_1, ie_5_2, ie_5_3, ie_5_4, ie_5_6, ie_5_7, ie_5_8, ie_5_9, ie_6_0, ie_6_1, ie_6_2, ie_6_3, ie_6_4, ie_6_5, ie_6_7, ie_6_8, ie_6_9, ie_7_0, ie_7_1, ie_7_2, ie_7_3, ie_7_4, ie_7_5, ie_7_6, ie_7_8, ie_7_9, ie_8_0, ie_8_1, ie_8_2, ie_8_3, ie_8_4, ie_8_5, ie_8_6, ie_8_7, ie_8_9, ie_9_0, ie_9_1, ie_9_2, ie_9_3, ie_9_4, ie_9_5, ie_9_6, ie_9_7, ie_9_8, nI_1, nI_pred, setC_21, setS_21, wI_same, Int32.reduceSub]
    · rw [nI_0] at c1
      simp only [f_X2_works, b_X2_works_0, b_X2_works_14, X2_isIn, a, c1, Option.bind_some, bd2, b01, if_true, if_false, not_true_eq_false, not_false_eq_true, Bool.false_eq_true, eq_self, Int32.reduceAdd, Int32.reduceMul, Int32.reduceLE, Int32.reduceLT, reduceIte, Int32.add_assoc, ie_0_1, ie_0_2, ie_0_3, ie_0_4, ie_0_5, ie_0_6, ie_0_7, ie_0_8, ie_0_9, ie_1_0, ie_1_2, ie_1_3, ie_1_4, ie_1_5, ie_1_6, ie_1_7, ie_1_8, ie_1_9, ie_2_0, ie_2_1, ie_2_3, ie_2_4, ie_2_5, ie_2_6, ie_2_7, ie_2_8, ie_2_9, ie_3_0, ie_3_1, ie_3_2, ie_3_4, ie_3_5, ie_3_6, ie_3_7, ie_3_8, ie_3_9, ie_4_0, ie_4_1, ie_4_2, ie_4_3, ie_4_5, ie_4_6, ie_4_7, ie_4_8, ie_4_9, ie_5_0, ie_5_1, ie_5_2, ie_5_3, ie_5_4, ie_5_6, ie_5_7, ie_5_8, ie_5_9, ie_6_0, ie_6_1, ie_6_2, ie_6_3, ie_6_4, ie_6_5, ie_6_7, ie_6_8, ie_6_9, ie_7_0, ie_7_1, ie_7_2, ie_7_3, ie_7_4, ie_7_5, ie_7_6, ie_7_8, ie_7_9, ie_8_0, ie_8_1, ie_8_2, ie_8_3, ie_8_4, ie_8_5, ie_8_6, ie_8_7, ie_8_9, ie_9_0, ie_9_1, ie_9_2, ie_9_3, ie_9_4, ie_9_5, ie_9_6, ie_9_7, ie_9_8, nI_1, nI_pred, setC_21, setS_21, wI_same, Int32.reduceSub]
    · rw [c3.1 0 5 (by decide) (by decide), a5, c5, a3.1 966 8 (by decide) (by decide), st]
    · have := (c6 l hl).2
      rw [hz] at this
      rw [d1 l hl, hz]
      exact this
  · exact ⟨-1, w, w, by simp only [f_X0_works, b_X0_works_0, b_X0_works_12, X0_isIn, a, Option.bind_some, bd2, b01, if_true, if_false, not_true_eq_false, not_false_eq_true, Bool.false_eq_true, eq_self, Int32.reduceAdd, Int32.reduceMul, Int32.reduceLE, Int32.reduceLT, reduceIte, Int32.add_assoc, ie_0_1, ie_0_2, ie_0_3, ie_0_4, ie_0_5, ie_0_6, ie_0_7, ie_0_8, ie_0_9, ie_1_0, ie_1_2, ie_1_3, ie_1_4, ie_1_5, ie_1_6, ie_1_7, ie_1_8, ie_1_9, ie_2_0, ie_2_1, ie_2_3, ie_2_4, ie_2_5, ie_2_6, ie_2_7, ie_2_8, ie_2_9, ie_3_0, ie_3_1, ie_3_2, ie_3_4, ie_3_5, ie_3_6, ie_3_7, ie_3_8, ie_3_9, ie_4_0, ie_4_1, ie_4_2, ie_4_3, ie_4_5, ie_4_6, ie_4_7, ie_4_8, ie_4_9, ie_5_0, ie_5_1, ie_5_2, ie_5_3, ie_5_4, ie_5_6, ie_5_7, ie_5_8, ie_5_9, ie_6_0, ie_6_1, ie_6_2, ie_6_3, ie_6_4, ie_6_5, ie_6_7, ie_6_8, ie_6_9, ie_7_0, ie_7_1, ie_7_2, ie_7_3, ie_7_4, ie_7_5, ie_7_6, ie_7_8, ie_7_9, ie_8_0, ie_8_1, ie_8_2, ie_8_3, ie_8_4, ie_8_5, ie_8_6, ie_8_7, ie_8_9, ie_9_0, ie_9_1, ie_9_2, ie_9_3, ie_9_4, ie_9_5, ie_9_6, ie_9_7, ie_9_8, nI_1, nI_pred, setC_21, setS_21, wI_same, Int32.reduceSub], by simp only [f_X2_works, b_X2_works_0, b_X2_works_12, X2_isIn, a, Option.bind_some, bd2, b01, if_true, if_false, not_true_eq_false, not_false_eq_true, Bool.false_eq_true, eq_self, Int32.reduceAdd, Int32.reduceMul, Int32.reduceLE, Int32.reduceLT, reduceIte, Int32.add_assoc, ie_0_1, ie_0_2, ie_0_3, ie_0_4, ie_0_5, ie_0_6, ie_0_7, ie_0_8, ie_0_9, ie_1_0, ie_1_2, ie_1_3, ie_1_4, ie_1_5, ie_1_6, ie_1_7, ie_1_8, ie_1_9, ie_2_0, ie_2_1, ie_2_3, ie_2_4, ie_2_5, ie_2_6, ie_2_7, ie_2_8, ie_2_9, ie_3_0, ie_3_1, ie_3_2, ie_3_4, ie_3_5, ie_3_6, ie_3_7, ie_3_8, ie_3_9, ie_4_0, ie_4_1, ie_4_2, ie_4_3, ie_4_5, ie_4_6, ie_4_7, ie_4_8, ie_4_9, ie_5_0, ie_5_1, ie_5_2, ie_5_3, ie_5_4, ie_5_6, ie_5_7, ie_5_8, ie_5_9, ie_6_0, ie_6_1, ie_6_2, ie_6_3, ie_6_4, ie_6_5, ie_6_7, ie_6_8, ie_6_9, ie_7_0, ie_7_1, ie_7_2, ie_7_3, ie_7_4, ie_7_5, ie_7_6, ie_7_8, ie_7_9, ie_8_0, ie_8_1, ie_8_2, ie_8_3, ie_8_4, ie_8_5, ie_8_6, ie_8_7, ie_8_9, ie_9_0, ie_9_1, ie_9_2, ie_9_3, ie_9_4, ie_9_5, ie_9_6, ie_9_7, ie_9_8, nI_1, nI_pred, setC_21, setS_21, wI_same, Int32.reduceSub], hR, by omega, by omega, fun _ _ => Or.inl rfl⟩
end XWM
