/-! OPERATION back, RELATED -/
section XBA
variable {ev : Ev} {w w' : Wd} {fu k n M T : Nat} {K : Option Nat}
theorem op_back (hE : EvOk ev) (hf : 1001 ≤ fu) (hR : Rel ev w M K T) (h1 : szW w + 32 ≤ ev.2.1) (h2 : slW w + 99 ≤ ev.2.2.1) : ∃ (r : Int32) (w1 w2 : Wd), f_X0_back fu ev (mem ev w) ev.1 = some (r, mem ev w1) ∧ f_X2_back_2 fu ev (mem ev w1) (ev.1 + 966) = some (r, mem ev w2) ∧ szW w2 ≤ szW w + 32 ∧ slW w2 ≤ slW w + 99 ∧ ((w2 = w ∧ K = none) ∨ ∃ k : Nat, K = some k ∧ Rel ev w2 k K T ∧ ∀ l : Nat, l < 6 → sl w2 l = sl w (8 + l) ∧ sl w2 (8 + l) = sl w (8 + l)) := by
  obtain ⟨⟨C, F, p, rc⟩, hT, hI, ⟨n', ad', qs', n, ad, qs, ⟨l3, l5⟩, ⟨l1, l2⟩, l4⟩, ⟨h', m', ls', hQ', hm'⟩, ⟨h, m, ls, hQ, hm⟩, hRw, hP, st, h984⟩ := id hR
  obtain ⟨⟨hM6, hM, hN, hc⟩, h12, hF12, hC0, hC9, hF10, hp, hinj, -⟩ := id rc
  cases K with
  | none =>
    refine ⟨-5, w, w, ?_, ?_, by omega, by omega, Or.inl ⟨rfl, rfl⟩⟩
    · unfold f_X0_back b_X0_back_0
      rw [xi24, Option.bind_some, hI.1, if_neg (by decide)]
      rfl
    · unfold f_X2_back_2 b_X2_back_2_0
      rw [mi11, Option.bind_some, hI.2, if_pos rfl]
      rfl
  | some k0 =>
    obtain ⟨hk6, i24, i11, i3, hkc⟩ := id hI
    have h30 := l2.1
    have hm6 := hQ.2.1
    have r28 : Hd 28 := Or.inl rfl
    have r43 : Hd 43 := Or.inr rfl
    have q38 : Hq 38 := Or.inl rfl
    have q44 : Hq 44 := Or.inr rfl
    -- the class
    obtain ⟨wa, hwa⟩ : ∃ wa, wa = wI w 0 1 (nI k0) := ⟨_, rfl⟩
    have fa : FrX [1] w wa := by rw [hwa]; exact FrX_wI (Or.inr (by decide))
    have aa : wa.2.1 0 1 = nI k0 := by rw [hwa]; exact wI_same
    have ja : wa.1 = w.1 := by rw [hwa]; rfl
    have da2 : wa.2.2 = w.2.2 := by rw [hwa]; rfl
    obtain ⟨wB, a1, a2, a3, a4, a5⟩ := cpC_back (ev := ev) (fu := fu) (M := k0) (by omega) hk6 k0 fu 0 wa (by omega) aa (by omega)
    have fB : FrX [1, 11] w wB := FrX_trans fa a5 (by decide) (by decide)
    have dB : wB.2.2 = w.2.2 := by rw [a4]; exact da2
    have zB : szW wB = szW w := by unfold szW; rw [dB]
    have yB : slW wB = slW w := by unfold slW; rw [dB]
    have dyB : ∀ a : Nat, dyn wB a = dyn w a := fun a => by unfold dyn; rw [dB]
    have LB : LL ev wB 28 n' ad' qs' := LL28_x l3 fB (by decide) (by omega) (fun j _ => dyB _)
    obtain ⟨wC, c1, c2, c3, c4⟩ := ll_clear (fu := fu) r28 hf LB
    have fC := FrX_L28 c3
    have zC : szW wC = szW wB := congrArg Prod.fst c4
    have yC : slW wC = slW wB := congrArg Prod.snd c4
    have LC : LL ev wC 43 n ad qs := LL43_x (LL43_x l1 fB (by decide) (by omega) (fun j _ => dyB _)) fC (by decide) (by omega) (fun j hj => c3.2.2.1 _ (by rw [zB]; exact (l1.2.2.2.2.2.1 j hj).2) (fun i hi z => l4 i j hi hj z.symm))
    obtain ⟨wD, d1, d2, d3, d4⟩ := ll_iter (fu := fu) r43 hf LC (by omega) (by omega) (by omega)
    have zD : szW wD = szW wC + 1 := by rw [d4]; rfl
    have yD : slW wD = slW wC + 5 := by rw [d4]; rfl
    have dyD : ∀ a : Nat, a < szW wC → dyn wD a = dyn wC a := fun a ha => by rw [d4, dyn_nw, if_neg (by omega)]
    have KD : LL ev wD 28 0 ad' qs := LL_sz (LL_ext c2 (fun i hi => absurd hi (by omega))) (by rw [d4]; rfl) (by rw [d4]; rfl) (fun j hj => absurd hj (by omega)) (by omega)
    obtain ⟨wE, bd, e1, e2, e3, e4, e5, e6, e7, e8, e9⟩ := cpL_back (fu := fu) (t := szW wC) hE h30 (fun j hj => (l2.2.2 j hj).2) n fu 0 wD ad' none (by omega) d2 KD d3 (fun a b _ hb => absurd hb (by omega)) (fun b hb => absurd hb (by omega)) (by omega) (by omega) (by omega) (by omega)
    have fD : FrX [4] wC wD := by rw [d4]; exact FrX_row rfl (fun _ _ _ _ => rfl) (fun _ _ _ _ => rfl)
    have fE : FrX [4] wD wE := FrX_row e5 (fun q i _ hn => by rw [(e6 q (fun z => hn (by subst z; exact List.mem_cons_self))).1]) (fun q i _ hn => by rw [(e6 q (fun z => hn (by subst z; decide))).2])
    have fBE : FrX [4] wB wE := FrX_trans fC (FrX_trans (U := [4]) fD fE (by decide) (by decide)) (by decide) (by decide)
    have fCE : FrX [1, 11, 4] w wE := FrX_trans fB fBE (by decide) (by decide)
    have QE38 : DQ ev wE 38 h' m' ls' := DQ38_x hQ' fCE (by decide)
    have QE44 : DQ ev wE 44 h m ls := DQ44_x hQ fCE (by decide)
    obtain ⟨wF, f1, f2, f3⟩ := dq_clear (fu := fu) q38 (by omega) QE38
    have fF := FrX_Q38 f3
    have zF : szW wF = szW wE := by unfold szW; rw [f3.2.2.2]
    have yF : slW wF = slW wE := by unfold slW; rw [f3.2.2.2]
    obtain ⟨wG, g1, g2, g3, g4⟩ := dq_iter (fu := fu) q44 (DQ44_x QE44 fF (by decide)) (by omega) (by omega) (by omega)
    have zG : szW wG = szW wF + 1 := by rw [g4]; rfl
    have yG : slW wG = slW wF + 4 := by rw [g4]; rfl
    have QG38 : DQ ev wG 38 0 0 ls := DQ_ext (DQ_row f2 (by rw [g4]; rfl) (by rw [g4]; rfl)) (fun i hi => absurd hi (by omega))
    obtain ⟨wH, h2', k1, k2, k3, k4, k5, k6, k7, k8⟩ := cpQ_back (fu := fu) (t := szW wF) hE m fu 0 wG 0 (-1) (by omega) g2 QG38 g3 (by omega)
    have zH : szW wH = szW wG := congrArg Prod.fst k8
    have yH : slW wH = slW wG := congrArg Prod.snd k8
    obtain ⟨w1, hw1⟩ : ∃ w1, w1 = wI wH 0 8 0 := ⟨_, rfl⟩
    have d1w : w1.2.2 = wH.2.2 := by rw [hw1]; rfl
    have z1 : szW w1 = szW wH := by unfold szW; rw [d1w]
    have y1 : slW w1 = slW wH := by unfold slW; rw [d1w]
    have dy1 : ∀ a : Nat, a < szW wE → dyn w1 a = dyn wE a := fun a ha => by
      have x0 : dyn w1 a = dyn wH a := by unfold dyn; rw [d1w]
      rw [x0, k7 a (by omega), g4, dyn_nw, if_neg (by omega)]
      unfold dyn
      rw [f3.2.2.2]
    have fG : FrX [6] wF wH := FrX_row (by rw [k4, g4]; rfl) (fun q i _ hn => by rw [k5 q (fun z => hn (by subst z; exact List.mem_cons_self)), g4]; rfl) (fun q i _ hn => by rw [k6 q (fun z => hn (by subst z; decide)), g4]; rfl)
    have fEH : FrX [6] wE wH := FrX_trans fF fG (by decide) (by decide)
    have f1w : FrX [1] wH w1 := by rw [hw1]; exact FrX_wI (Or.inr (by decide))
    have fc : FrX [1, 11, 4, 6] w w1 := FrX_trans (FrX_trans (U := [1, 11, 4, 6]) fCE fEH (by decide) (by decide)) f1w (by decide) (by decide)
    have jH : w1.1 = wB.1 := by
      rw [hw1]
      show wH.1 = _
      rw [k4, g4]
      show wF.1 = _
      rw [f3.1, e5, d4]
      show wC.1 = _
      exact c3.1
    have L1 : LL ev w1 43 n ad qs := LL_sz e2 (by rw [hw1]; show (wI wH 0 8 0).2.1 43 = _; rw [wI_row (by decide), k5 43 (by decide), g4]; show wF.2.1 43 = _; rw [f3.2.1 43 (by decide)]) (by rw [d1w, k6 43 (by decide), g4]; show wF.2.2.1 43 = _; rw [f3.2.2.1 43 (by decide)]) (fun j hj => dy1 _ (e2.2.2.2.2.2.1 j hj).2) (by omega)
    have K1 : LL ev w1 28 n bd qs := LL_sz e3 (by rw [hw1]; show (wI wH 0 8 0).2.1 28 = _; rw [wI_row (by decide), k5 28 (by decide), g4]; show wF.2.1 28 = _; rw [f3.2.1 28 (by decide)]) (by rw [d1w, k6 28 (by decide), g4]; show wF.2.2.1 28 = _; rw [f3.2.2.1 28 (by decide)]) (fun j hj => dy1 _ (e3.2.2.2.2.2.1 j hj).2) (by omega)
    have dd : FrD w w1 := ⟨by omega, fun a ha hn => by
      have x1 : dyn wC a = dyn w a := by rw [c3.2.2.1 a (by omega) (fun i hi z => hn _ _ _ (z ▸ l3.2.2.2.2.1 i hi)), dyB]
      rw [dy1 a (by omega), e7 a (by omega) (by omega) (fun b hb => absurd hb (by omega)), dyD a (by omega), x1]⟩
    have iH1 : wH.2.1 0 1 = nI k0 := by rw [fEH.1 0 1 (by decide) (by decide), fBE.1 0 1 (by decide) (by decide), a5.1 0 1 (by decide) (by decide)]; exact aa
    have i01 : w1.2.1 0 1 = nI k0 := by rw [hw1, wI_ne (by omega)]; exact iH1
    have e01 : f_X0_back fu ev (mem ev w) ev.1 = some (nI k0, mem ev w1) := by
      have s0 : f_X0_back fu ev (mem ev w) ev.1 = L_X0_back_20 fu ev fu (mem ev wa) ev.1 (nI 0) := by
        unfold f_X0_back b_X0_back_0
        rw [xi24, Option.bind_some, i24, if_pos (nI_pos' (by omega))]
        unfold b_X0_back_10
        rw [xi24, Option.bind_some, i24, xp1, Option.bind_some, ← hwa]
        rfl
      have s2 : b_X0_back_50 fu ev (mem ev wB) ev.1 = L_X0_back_65 fu ev fu (mem ev wD) ev.1 (some (szW wC)) := by
        unfold b_X0_back_50
        rw [xf9, Option.bind_some, Option.bind_some, hIs r28, Option.bind_some, c1]
        show (gfA (mem ev wC) ev.1 0 22).bind _ = _
        rw [xf22, Option.bind_some, Option.bind_some, hIs r43, Option.bind_some, d1]
        rfl
      have s3 : b_X0_back_102 fu ev (mem ev wE) ev.1 = L_X0_back_117 fu ev fu (mem ev wG) ev.1 (some (szW wF)) := by
        unfold b_X0_back_102
        rw [xf16, Option.bind_some, Option.bind_some, qIs q38, Option.bind_some, f1]
        show (gfA (mem ev wF) ev.1 0 23).bind _ = _
        rw [xf23, Option.bind_some, Option.bind_some, qIs q44, Option.bind_some, g1]
        rfl
      rw [s0, a1, s2, e1, s3, k1]
      unfold b_X0_back_153
      rw [xp8, Option.bind_some, ← hw1, xi1, Option.bind_some, i01]
    -- the model
    have m11 : w1.2.1 966 11 = 1 := by rw [fc.1 966 11 (by decide) (by decide)]; exact i11
    have m3 : w1.2.1 966 3 = nI k0 := by rw [fc.1 966 3 (by decide) (by decide)]; exact i3
    have m5 : w1.2.1 966 5 = nI n := by rw [fc.1 966 5 (by decide) (by decide)]; exact l2.2.1
    have m7 : w1.2.1 966 7 = nI m := by rw [fc.1 966 7 (by decide) (by decide)]; exact hm.1
    obtain ⟨m4, hm4⟩ : ∃ m4, m4 = wI (wI (wI w1 966 2 (nI k0)) 966 4 (nI n)) 966 6 (nI m) := ⟨_, rfl⟩
    have fm4 : FrX [1, 14, 16] w1 m4 := by
      rw [hm4]
      exact FrX_trans (U := [1, 14, 16]) (FrX_trans (U := [1, 14]) (FrX_wI (S := [1]) (Or.inr (by decide))) (FrX_wI (S := [14]) (Or.inr (by decide))) (by decide) (by decide)) (FrX_wI (S := [16]) (Or.inr (by decide))) (by decide) (by decide)
    obtain ⟨mm, p1, p2, p3, p4, p5, p6, p7⟩ := cpM_back (ev := ev) (fu := fu) (by omega) 6 fu 0 m4 (by omega) (by omega)
    obtain ⟨mg, s1, s2, s3, s4, s5, s6⟩ := cpG_back (ev := ev) (fu := fu) 30 fu 0 mm (by omega) (by omega)
    obtain ⟨w2, hw2⟩ : ∃ w2, w2 = wI mg 966 9 0 := ⟨_, rfl⟩
    have f2w : FrX [1] mg w2 := by rw [hw2]; exact FrX_wI (Or.inr (by decide))
    have fm : FrX [1, 14, 16, 21] w1 w2 := FrX_trans (FrX_trans (U := [1, 14, 16, 21]) fm4 (FrX_trans (U := [21, 16, 14]) p7 s6 (by decide) (by decide)) (by decide) (by decide)) f2w (by decide) (by decide)
    have d2w : w2.2.2 = w1.2.2 := by rw [hw2]; show mg.2.2 = _; rw [s5, p6, hm4]; rfl
    have ig2 : mg.2.1 966 2 = nI k0 := by
      rw [s3 _ _ (by omega), p5 _ _ (by omega), hm4, wI_ne (by omega), wI_ne (by omega)]
      exact wI_same
    have i22 : w2.2.1 966 2 = nI k0 := by rw [hw2, wI_ne (by omega)]; exact ig2
    have e02 : f_X2_back_2 fu ev (mem ev w1) (ev.1 + 966) = some (nI k0, mem ev w2) := by
      have x2 : (wI w1 966 2 (nI k0)).2.1 966 5 = nI n := by rw [wI_ne (by omega)]; exact m5
      have x3 : (wI (wI w1 966 2 (nI k0)) 966 4 (nI n)).2.1 966 7 = nI m := by rw [wI_ne (by omega), wI_ne (by omega)]; exact m7
      unfold f_X2_back_2 b_X2_back_2_0
      rw [mi11, Option.bind_some, m11, if_neg (by decide)]
      unfold b_X2_back_2_10
      rw [mi3, Option.bind_some, m3, mp2, Option.bind_some, mi5, Option.bind_some, x2, mp4, Option.bind_some, mi7, Option.bind_some, x3, mp6, Option.bind_some, ← hm4, ← nI_0, p1]
      unfold b_X2_back_2_69
      rw [← nI_0, s1]
      unfold b_X2_back_2_95
      rw [mp9, Option.bind_some, ← hw2, mi2, Option.bind_some, i22]
    -- all of it
    have f : FrX [1, 11, 4, 6, 14, 16, 21] w w2 := FrX_trans fc fm (by decide) (by decide)
    have z2 : szW w2 = szW w1 := by unfold szW; rw [d2w]
    have y2 : slW w2 = slW w1 := by unfold slW; rw [d2w]
    have dd2 : FrD w w2 := FrD_trans dd (FrD_eq (by rw [d2w]))
    have slg : ∀ K : Nat, sl w2 K = sl mg K := fun K => by rw [hw2, sl_wI]
    have sl8 : ∀ l : Nat, l < 6 → sl w1 (8 + l) = sl w (8 + l) := fun l hl => fc.2.2.2.1.2 (by decide) l hl
    have sl2 : ∀ l : Nat, l < 6 → sl w2 l = sl w (8 + l) := fun l hl => by
      rw [slg, sl_row s4, p2 l (by omega) hl, hm4, sl_wI, sl_wI, sl_wI, sl8 l hl]
    have sl3 : ∀ l : Nat, l < 6 → sl w2 (8 + l) = sl w (8 + l) := fun l hl => f.2.2.2.1.2 (by decide) l hl
    have a26 : ∀ i : Nat, w2.2.2.1 26 i = w.2.2.1 26 i := fun i => by rw [d2w, d1w, fEH.2.1 26 i (by decide) (by decide), fBE.2.1 26 i (by decide) (by decide), a5.2.1 26 i (by decide) (by decide), da2]
    refine ⟨nI k0, w1, w2, e01, e02, by omega, by omega, Or.inr ⟨k0, rfl, ⟨⟨0, F, p, ⟨hk6, ?_, i22, fun j hj => ?_⟩, by omega, hF12, ?_, ?_, ?_, fun i hi => by rw [a26]; exact hp i hi, hinj, fun i hi => absurd hi (by omega)⟩, RT_x hT f (by decide) (by decide), RIm_x hI f (by decide) (by decide), ⟨n, bd, qs, n, ad, qs, ⟨LL_sz K1 (funext fun i => fm.1 28 i (by show (4 : Nat) ≠ 0; decide) (by show (4 : Nat) ∉ _; decide)) (by rw [d2w]) (fun j _ => by unfold dyn; rw [d2w]) (by omega), h30, ?_, fun i hi => ⟨?_, (l2.2.2 i hi).2⟩⟩, ⟨LL_sz L1 (funext fun i => fm.1 43 i (by show (5 : Nat) ≠ 0; decide) (by show (5 : Nat) ∉ _; decide)) (by rw [d2w]) (fun j _ => by unfold dyn; rw [d2w]) (by omega), LM5_x l2 f (by decide)⟩, fun i j hi hj z => e4 j i hj hi z.symm⟩, ⟨h2', m, ls, DQ_row (DQ_row k3 (w' := w1) (by rw [hw1]; exact wI_row (by decide)) (by rw [d1w])) (funext fun i => fm.1 38 i (by show (6 : Nat) ≠ 0; decide) (by show (6 : Nat) ∉ _; decide)) (by rw [d2w]), ?_, fun i hi => ⟨?_, (hm.2.1 i hi).2⟩, hm.2.2⟩, ⟨h, m, ls, DQ44_x (DQ44_x (DQ44_x QE44 fEH (by decide)) f1w (by decide)) fm (by decide), QM7_x hm f (by decide)⟩, RRw_x hRw f (by decide) (by decide) dd2, RPp_x hP f (by decide) (by decide) dd2, St_x st f (by decide) (by decide), by omega⟩, fun l hl => ⟨sl2 l hl, sl3 l hl⟩⟩⟩
    · rw [hw2, wI_ne (by omega), s3 _ _ (by omega), p5 _ _ (by omega), hm4, wI_ne (by omega), wI_ne (by omega), wI_ne (by omega)]
      exact i01
    · rw [fm.2.2.2.2.1.1 (by decide) j (by omega), cv_row jH, a2 j (by omega) hj, cv_row ja, sl2 j (by omega)]
      exact hkc j hj
    · rw [hw2, wI_ne (by omega), s3 _ _ (by omega), p5 _ _ (by omega), hm4, wI_ne (by omega), wI_ne (by omega), wI_ne (by omega), hw1]
      exact wI_same
    · rw [hw2]
      exact wI_same
    · rw [hw2, wI_ne (by omega), s3 _ _ (by omega), p5 _ _ (by omega), hm4, wI_ne (by omega), wI_ne (by omega), wI_ne (by omega), hw1, wI_ne (by omega), fEH.1 966 10 (by decide) (by decide), fBE.1 966 10 (by decide) (by decide), a5.1 966 10 (by decide) (by decide), hwa, wI_ne (by omega)]
      exact hF10
    · rw [hw2, wI_ne (by omega), s3 _ _ (by omega), p5 _ _ (by omega), hm4, wI_ne (by omega)]
      exact wI_same
    · rw [hw2, wI_ne (by omega), s2 i (by omega) (by omega), p5 _ _ (by omega), hm4, wI_ne (by omega), wI_ne (by omega), wI_ne (by omega), fc.1 970 i (by show (15 : Nat) ≠ 0; decide) (by show (15 : Nat) ∉ _; decide)]
      exact (l2.2.2 i hi).1
    · rw [hw2, wI_ne (by omega), s3 _ _ (by omega), p5 _ _ (by omega), hm4]
      exact wI_same
    · rw [hw2, wI_ne (by omega), s3 _ _ (by omega), p4 i (by omega) (by omega), hm4, wI_ne (by omega), wI_ne (by omega), wI_ne (by omega), fc.1 972 i (by show (17 : Nat) ≠ 0; decide) (by show (17 : Nat) ∉ _; decide)]
      exact (hm.2.1 i hi).1
end XBA
