/-! OPERATION image, RELATED -/
section XIM
variable {ev : Ev} {w w' : Wd} {fu k n M T : Nat} {K : Option Nat}
theorem op_image (hE : EvOk ev) (hf : 1001 ≤ fu) (hR : Rel ev w M K T) (h1 : szW w + 32 ≤ ev.2.1) (h2 : slW w + 99 ≤ ev.2.2.1) : ∃ (r : Int32) (w1 w2 : Wd), f_X0_image fu ev (mem ev w) ev.1 = some (r, mem ev w1) ∧ f_X2_image fu ev (mem ev w1) (ev.1 + 966) = some (r, mem ev w2) ∧ Rel ev w2 M (some M) T ∧ szW w2 ≤ szW w + 32 ∧ slW w2 ≤ slW w + 99 ∧ ∀ l : Nat, l < M → sl w2 l = sl w l ∧ sl w2 (8 + l) = sl w l := by
  obtain ⟨⟨C, F, p, rc⟩, hT, hI, ⟨n, ad, qs, n', ad', qs', ⟨l1, l2⟩, ⟨l3, l5⟩, l4⟩, ⟨h, m, ls, hQ, hm⟩, ⟨h', m', ls', hQ', hm'⟩, hRw, hP, st, h984⟩ := id hR
  obtain ⟨hM6, hM, hN, hc⟩ := id rc.1
  have h30 := l2.1
  have hm6 := hQ.2.1
  have r28 : Hd 28 := Or.inl rfl
  have r43 : Hd 43 := Or.inr rfl
  have q38 : Hq 38 := Or.inl rfl
  have q44 : Hq 44 := Or.inr rfl
  -- the class
  obtain ⟨wA, a1, a2, a3, a4, a5⟩ := cpC_image (ev := ev) (fu := fu) (M := M) (by omega) hM6 M fu 0 w (by omega) hM (by omega)
  have i1A : wA.2.1 0 1 = nI M := by rw [a4]; exact hM
  obtain ⟨wB, hwB⟩ : ∃ wB, wB = wI wA 0 24 (nI M) := ⟨_, rfl⟩
  have fB : FrX [3] w wB := by
    refine FrX_trans (S := [3]) (T := [3]) a5 ?_ (by decide) (by decide)
    rw [hwB]
    exact FrX_wI (Or.inr (by decide))
  have dB : wB.2.2 = w.2.2 := by rw [hwB]; show wA.2.2 = _; rw [a4]
  have zB : szW wB = szW w := by unfold szW; rw [dB]
  have yB : slW wB = slW w := by unfold slW; rw [dB]
  have dyB : ∀ a : Nat, dyn wB a = dyn w a := fun a => by unfold dyn; rw [dB]
  have LB : LL ev wB 43 n' ad' qs' := LL43_x l3 fB (by decide) (by omega) (fun j _ => dyB _)
  obtain ⟨wC, c1, c2, c3, c4⟩ := ll_clear (fu := fu) r43 hf LB
  have fC := FrX_L43 c3
  have zC : szW wC = szW wB := congrArg Prod.fst c4
  have yC : slW wC = slW wB := congrArg Prod.snd c4
  have LC : LL ev wC 28 n ad qs := LL28_x (LL28_x l1 fB (by decide) (by omega) (fun j _ => dyB _)) fC (by decide) (by omega) (fun j hj => c3.2.2.1 _ (by rw [zB]; exact (l1.2.2.2.2.2.1 j hj).2) (fun i hi => l4 j i hj hi))
  obtain ⟨wD, d1, d2, d3, d4⟩ := ll_iter (fu := fu) r28 hf LC (by omega) (by omega) (by omega)
  have zD : szW wD = szW wC + 1 := by rw [d4]; rfl
  have yD : slW wD = slW wC + 5 := by rw [d4]; rfl
  have dyD : ∀ a : Nat, a < szW wC → dyn wD a = dyn wC a := fun a ha => by rw [d4, dyn_nw, if_neg (by omega)]
  have KD : LL ev wD 43 0 ad' qs := LL_sz (LL_ext c2 (fun i hi => absurd hi (by omega))) (by rw [d4]; rfl) (by rw [d4]; rfl) (fun j hj => absurd hj (by omega)) (by omega)
  obtain ⟨wE, bd, e1, e2, e3, e4, e5, e6, e7, e8, e9⟩ := cpL_image (fu := fu) (t := szW wC) hE h30 (fun j hj => (l2.2.2 j hj).2) n fu 0 wD ad' none (by omega) d2 KD d3 (fun a b _ hb => absurd hb (by omega)) (fun b hb => absurd hb (by omega)) (by omega) (by omega) (by omega) (by omega)
  have fD : FrX [5] wC wD := by rw [d4]; exact FrX_row rfl (fun _ _ _ _ => rfl) (fun _ _ _ _ => rfl)
  have fE : FrX [5] wD wE := FrX_row e5 (fun q i _ hn => by rw [(e6 q (fun z => hn (by subst z; exact List.mem_cons_self))).1]) (fun q i _ hn => by rw [(e6 q (fun z => hn (by subst z; decide))).2])
  have fCE : FrX [3, 5] w wE := FrX_trans (FrX_trans (U := [3, 5]) fB fC (by decide) (by decide)) (FrX_trans (U := [5]) fD fE (by decide) (by decide)) (by decide) (by decide)
  have QE44 : DQ ev wE 44 h' m' ls' := DQ44_x hQ' fCE (by decide)
  have QE38 : DQ ev wE 38 h m ls := DQ38_x hQ fCE (by decide)
  obtain ⟨wF, f1, f2, f3⟩ := dq_clear (fu := fu) q44 (by omega) QE44
  have fF := FrX_Q44 f3
  have zF : szW wF = szW wE := by unfold szW; rw [f3.2.2.2]
  have yF : slW wF = slW wE := by unfold slW; rw [f3.2.2.2]
  obtain ⟨wG, g1, g2, g3, g4⟩ := dq_iter (fu := fu) q38 (DQ38_x QE38 fF (by decide)) (by omega) (by omega) (by omega)
  have zG : szW wG = szW wF + 1 := by rw [g4]; rfl
  have yG : slW wG = slW wF + 4 := by rw [g4]; rfl
  have QG44 : DQ ev wG 44 0 0 ls := DQ_ext (DQ_row f2 (by rw [g4]; rfl) (by rw [g4]; rfl)) (fun i hi => absurd hi (by omega))
  obtain ⟨w1, h2', k1, k2, k3, k4, k5, k6, k7, k8⟩ := cpQ_image (fu := fu) (t := szW wF) hE m fu 0 wG 0 (-1) (by omega) g2 QG44 g3 (by omega)
  have z1 : szW w1 = szW wG := congrArg Prod.fst k8
  have y1 : slW w1 = slW wG := congrArg Prod.snd k8
  have dy1 : ∀ a : Nat, a < szW wE → dyn w1 a = dyn wE a := fun a ha => by
    rw [k7 a (by omega), g4, dyn_nw, if_neg (by omega)]
    unfold dyn
    rw [f3.2.2.2]
  have fG : FrX [7] wF w1 := FrX_row (by rw [k4, g4]; rfl) (fun q i _ hn => by rw [k5 q (fun z => hn (by subst z; exact List.mem_cons_self)), g4]; rfl) (fun q i _ hn => by rw [k6 q (fun z => hn (by subst z; decide)), g4]; rfl)
  have fc : FrX [3, 5, 7] w w1 := FrX_trans fCE (FrX_trans (U := [7]) fF fG (by decide) (by decide)) (by decide) (by decide)
  have j1 : w1.1 = wA.1 := by
    rw [k4, g4]
    show wF.1 = _
    rw [f3.1, e5, d4]
    show wC.1 = _
    rw [c3.1, hwB]
    rfl
  have L1 : LL ev w1 28 n ad qs := LL_sz e2 (by rw [k5 28 (by decide), g4]; show wF.2.1 28 = _; rw [f3.2.1 28 (by decide)]) (by rw [k6 28 (by decide), g4]; show wF.2.2.1 28 = _; rw [f3.2.2.1 28 (by decide)]) (fun j hj => dy1 _ (e2.2.2.2.2.2.1 j hj).2) (by omega)
  have K1 : LL ev w1 43 n bd qs := LL_sz e3 (by rw [k5 43 (by decide), g4]; show wF.2.1 43 = _; rw [f3.2.1 43 (by decide)]) (by rw [k6 43 (by decide), g4]; show wF.2.2.1 43 = _; rw [f3.2.2.1 43 (by decide)]) (fun j hj => dy1 _ (e3.2.2.2.2.2.1 j hj).2) (by omega)
  have dd : FrD w w1 := ⟨by omega, fun a ha hn => by
    have x1 : dyn wC a = dyn w a := by rw [c3.2.2.1 a (by omega) (fun i hi z => hn _ _ _ (z ▸ l3.2.2.2.2.1 i hi)), dyB]
    rw [dy1 a (by omega), e7 a (by omega) (by omega) (fun b hb => absurd hb (by omega)), dyD a (by omega), x1]⟩
  have i01 : w1.2.1 0 1 = nI M := by rw [fc.1 0 1 (by decide) (by decide)]; exact hM
  have e01 : f_X0_image fu ev (mem ev w) ev.1 = some (nI M, mem ev w1) := by
    have s1 : f_X0_image fu ev (mem ev w) ev.1 = b_X0_image_32 fu ev (mem ev wA) ev.1 := a1
    have s2 : b_X0_image_32 fu ev (mem ev wA) ev.1 = L_X0_image_55 fu ev fu (mem ev wD) ev.1 (some (szW wC)) := by
      unfold b_X0_image_32
      rw [xi1, Option.bind_some, i1A, xp24, Option.bind_some, ← hwB, xf22, Option.bind_some, Option.bind_some, hIs r43, Option.bind_some, c1]
      show (gfA (mem ev wC) ev.1 0 9).bind _ = _
      rw [xf9, Option.bind_some, Option.bind_some, hIs r28, Option.bind_some, d1]
      rfl
    have s3 : b_X0_image_92 fu ev (mem ev wE) ev.1 = L_X0_image_107 fu ev fu (mem ev wG) ev.1 (some (szW wF)) := by
      unfold b_X0_image_92
      rw [xf23, Option.bind_some, Option.bind_some, qIs q44, Option.bind_some, f1]
      show (gfA (mem ev wF) ev.1 0 16).bind _ = _
      rw [xf16, Option.bind_some, Option.bind_some, qIs q38, Option.bind_some, g1]
      rfl
    rw [s1, s2, e1, s3, k1]
    unfold b_X0_image_143
    rw [xi1, Option.bind_some, i01]
  -- the model
  have mN : w1.2.1 966 2 = nI M := by rw [fc.1 966 2 (by decide) (by decide)]; exact hN
  have mL : w1.2.1 966 4 = nI n := by rw [fc.1 966 4 (by decide) (by decide)]; exact l2.2.1
  have mW : w1.2.1 966 6 = nI m := by rw [fc.1 966 6 (by decide) (by decide)]; exact hm.1
  obtain ⟨m4, hm4⟩ : ∃ m4, m4 = wI (wI (wI (wI w1 966 11 1) 966 3 (nI M)) 966 5 (nI n)) 966 7 (nI m) := ⟨_, rfl⟩
  have fm4 : FrX [13, 15, 17] w1 m4 := by
    rw [hm4]
    exact FrX_trans (U := [13, 15, 17]) (FrX_trans (U := [13, 15]) (FrX_trans (U := [13]) (FrX_wI (S := [13]) (Or.inr (by decide))) (FrX_wI (S := [13]) (Or.inr (by decide))) (by decide) (by decide)) (FrX_wI (S := [15]) (Or.inr (by decide))) (by decide) (by decide)) (FrX_wI (S := [17]) (Or.inr (by decide))) (by decide) (by decide)
  obtain ⟨m5, p1, p2, p3, p4, p5, p6, p7⟩ := cpM_image (ev := ev) (fu := fu) (by omega) 6 fu 0 m4 (by omega) (by omega)
  obtain ⟨w2, s1, s2, s3, s4, s5, s6⟩ := cpG_image (ev := ev) (fu := fu) 30 fu 0 m5 (by omega) (by omega)
  have fm : FrX [13, 15, 17] w1 w2 := FrX_trans fm4 (FrX_trans (U := [13, 17, 15]) p7 s6 (by decide) (by decide)) (by decide) (by decide)
  have d2w : w2.2.2 = w1.2.2 := by rw [s5, p6, hm4]; rfl
  have i22 : w2.2.1 966 2 = nI M := by rw [fm.1 966 2 (by decide) (by decide)]; exact mN
  have e02 : f_X2_image fu ev (mem ev w1) (ev.1 + 966) = some (nI M, mem ev w2) := by
    have x1 : (wI w1 966 11 1).2.1 966 2 = nI M := by rw [wI_ne (by omega)]; exact mN
    have x2 : (wI (wI w1 966 11 1) 966 3 (nI M)).2.1 966 4 = nI n := by rw [wI_ne (by omega), wI_ne (by omega)]; exact mL
    have x3 : (wI (wI (wI w1 966 11 1) 966 3 (nI M)) 966 5 (nI n)).2.1 966 6 = nI m := by rw [wI_ne (by omega), wI_ne (by omega), wI_ne (by omega)]; exact mW
    unfold f_X2_image b_X2_image_0
    rw [mz11 (Or.inr rfl), Option.bind_some, mi2, Option.bind_some, x1, mp3, Option.bind_some, mi4, Option.bind_some, x2, mp5, Option.bind_some, mi6, Option.bind_some, x3, mp7, Option.bind_some, ← hm4, ← nI_0, p1]
    unfold b_X2_image_64
    rw [← nI_0, s1]
    unfold b_X2_image_90
    rw [mi2, Option.bind_some, i22]
  -- all of it
  have f : FrX [3, 5, 7, 13, 15, 17] w w2 := FrX_trans fc fm (by decide) (by decide)
  have z2 : szW w2 = szW w1 := by unfold szW; rw [d2w]
  have y2 : slW w2 = slW w1 := by unfold slW; rw [d2w]
  have dd2 : FrD w w2 := FrD_trans dd (FrD_eq (by rw [d2w]))
  have sl2 : ∀ l : Nat, l < 6 → sl w2 (8 + l) = sl w l := fun l hl => by
    rw [sl_row s4, p2 l (by omega) hl, hm4]
    show sl w1 l = _
    exact fc.2.2.2.2.1.2 (by decide) l hl
  have sl3 : ∀ l : Nat, l < 6 → sl w2 l = sl w l := fun l hl => f.2.2.2.2.1.2 (by decide) l hl
  refine ⟨nI M, w1, w2, e01, e02, ⟨⟨C, F, p, RCK_x rc f (by decide) (by decide) (by decide)⟩, RT_x hT f (by decide) (by decide), ⟨hM6, ?_, ?_, ?_, fun j hj => ⟨?_, ?_⟩⟩, ⟨n, ad, qs, n, bd, qs, ⟨LL28_x L1 fm (by decide) (by omega) (fun j _ => by unfold dyn; rw [d2w]), LM4_x (LM4_x l2 fc (by decide)) fm (by decide)⟩, ⟨LL_sz K1 (funext fun i => fm.1 43 i (by show (5 : Nat) ≠ 0; decide) (by show (5 : Nat) ∉ _; decide)) (by rw [d2w]) (fun j _ => by unfold dyn; rw [d2w]) (by omega), h30, ?_, fun i hi => ⟨?_, (l2.2.2 i hi).2⟩⟩, e4⟩, ⟨h, m, ls, DQ38_x k2 fm (by decide), QM6_x (QM6_x hm fc (by decide)) fm (by decide)⟩, ⟨h2', m, ls, DQ_row k3 (funext fun i => fm.1 44 i (by show (7 : Nat) ≠ 0; decide) (by show (7 : Nat) ∉ _; decide)) (by rw [d2w]), ?_, fun i hi => ⟨?_, (hm.2.1 i hi).2⟩, hm.2.2⟩, RRw_x hRw f (by decide) (by decide) dd2, RPp_x hP f (by decide) (by decide) dd2, St_x st f (by decide) (by decide), by omega⟩, by omega, by omega, fun l hl => ⟨sl3 l (by omega), sl2 l (by omega)⟩⟩
  · rw [fm.1 0 24 (by decide) (by decide), fG.1 0 24 (by decide) (by decide), fF.1 0 24 (by decide) (by decide), fE.1 0 24 (by decide) (by decide), fD.1 0 24 (by decide) (by decide), fC.1 0 24 (by decide) (by decide), hwB]
    exact wI_same
  · rw [s3 _ _ (by omega), p5 _ _ (by omega), hm4, wI_ne (by omega), wI_ne (by omega), wI_ne (by omega)]
    exact wI_same
  · rw [s3 _ _ (by omega), p5 _ _ (by omega), hm4, wI_ne (by omega), wI_ne (by omega)]
    exact wI_same
  · rw [fm.2.2.2.1.1 (by decide) j (by omega), cv_row j1, a2 j (by omega) hj, sl2 j (by omega)]
    exact (hc j hj).1
  · rw [sl2 j (by omega)]
    exact (hc j hj).2
  · rw [s3 _ _ (by omega), p5 _ _ (by omega), hm4, wI_ne (by omega)]
    exact wI_same
  · rw [s2 i (by omega) (by omega), p5 _ _ (by omega), hm4, wI_ne (by omega), wI_ne (by omega), wI_ne (by omega), wI_ne (by omega)]
    rw [fc.1 969 i (by show (14 : Nat) ≠ 0; decide) (by show (14 : Nat) ∉ _; decide)]
    exact (l2.2.2 i hi).1
  · rw [s3 _ _ (by omega), p5 _ _ (by omega), hm4]
    exact wI_same
  · rw [s3 _ _ (by omega), p4 i (by omega) (by omega), hm4, wI_ne (by omega), wI_ne (by omega), wI_ne (by omega), wI_ne (by omega)]
    rw [fc.1 971 i (by show (16 : Nat) ≠ 0; decide) (by show (16 : Nat) ∉ _; decide)]
    exact (hm.2.1 i hi).1
end XIM
