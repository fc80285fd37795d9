/-! OPERATION reduce, RELATED -/
def lgR (k : Nat) : Nat → (Nat → Int64) → Nat × (Nat → Nat) → Nat × (Nat → Nat)
  | 0, _, s => s
  | N + 1, v, s => lgR k N (goV v) (lgA s (10 * k + stV v))
section XO16
variable {ev : Ev} {w w' w1 wb w2 wR : Wd} {fu M M' C F k n n' t : Nat} {x : Int32} {p ad qs ad' qs' : Nat → Nat} {K : Option Nat} {T : Nat} {S U : List Nat} {V v : Nat → Int64} {s : Nat × (Nat → Nat)}
theorem goV_0 (h0 : stV v = 0) : goV v = v := by
  have hh := h0
  unfold stV at hh
  unfold goV
  repeat' split at hh
  all_goals first | (exact absurd hh (by decide)) | (simp only [*, if_false, if_true, Bool.false_eq_true])
theorem OkV_it : ∀ (N : Nat) (v : Nat → Int64), OkV v → Ends v N → OkV (itV N v) := by
  intro N
  induction N with
  | zero => intro v h _; exact h
  | succ N ih => intro v h hE; exact ih (goV v) (OkV_go h (hE.1 0 (by omega))) ⟨fun i hi => hE.1 (i + 1) (by omega), hE.2⟩
theorem Lx_red (hE : EvOk ev) (hf : 20 ≤ fu) (hk : k < 6) : ∀ (N f : Nat) (w : Wd) (v : Nat → Int64) (s : Nat × (Nat → Nat)) (x : Int32), Ends v N → Mk v → cv w 2 = goV v → Ls ev w s n' ad' → (∀ j : Nat, j < n' → ad' j < szW w) → N < f → ev.1 + 984 ≤ szW w → szW w + N ≤ ev.2.1 → slW w + 3 * N ≤ ev.2.2.1 →
    ∃ wE : Wd, L_X0_reduce_34 fu ev f (mem ev w) ev.1 (nI k) x (nI (stV v)) = b_X0_reduce_58 fu ev (mem ev wE) ev.1 (nI k) (x + nI N) ∧ cv wE 2 = itV N v ∧ Ls ev wE (lgR k N v s) n' ad' ∧ FrX [4, 10] w wE ∧ FrK n' ad' w wE ∧ wE.2.1 0 5 = w.2.1 0 5 + nI N ∧ szW wE = szW w + N ∧ slW wE = slW w + 3 * N := by
  intro N
  induction N with
  | zero =>
    intro f w v s x hEn mv hc hL hs hN h0 h1 h2
    obtain ⟨g, rfl⟩ : ∃ g, f = g + 1 := ⟨f - 1, by omega⟩
    have hz : stV v = 0 := hEn.2
    refine ⟨w, ?_, by rw [hc, goV_0 hz]; rfl, hL, FrX_refl, FrK_refl, by rw [nI_0, Int32.add_zero], by omega, by omega⟩
    show b_X0_reduce_34 _ fu ev _ _ _ _ _ = _
    unfold b_X0_reduce_34
    rw [hz, if_pos (show nI 0 ≤ (0 : Int32) by decide), nI_0, Int32.add_zero]
  | succ N ih =>
    intro f w v s x hEn mv hc hL hs hN h0 h1 h2
    obtain ⟨g, rfl⟩ : ∃ g, f = g + 1 := ⟨f - 1, by omega⟩
    have hz : stV v ≠ 0 := hEn.1 0 (by omega)
    have h9 := st_lt9 v
    obtain ⟨wa, g1, ls1, g3, g4, g5, g6, g7, g8⟩ := cl_log (fu := fu) (k := k) (t := stV v) hE hL hs hk (by omega) h0 (by omega) (by omega)
    have ca : cv wa 2 = goV v := by rw [cv_row g5, hc]
    obtain ⟨t, e⟩ := X1_steps (ev := ev) (w := wa) (c := 2) (by decide) (show 10 ≤ fu by omega)
    rw [ca] at e
    obtain ⟨wb, hwb⟩ : ∃ wb, wb = setC (setT wa 2 t) 2 (goV (goV v)) := ⟨_, rfl⟩
    rw [← hwb] at e
    have qb : Sq wa wb := by rw [hwb]; exact Sq_trans (Sq_setT (by decide)) (Sq_setC (by decide))
    have cb : cv wb 2 = goV (goV v) := by rw [hwb, cv_mk (Mk_go (Mk_go mv))]
    have db : wb.2.2 = wa.2.2 := qb.2.2
    have zb : szW wb = szW wa := by unfold szW; rw [db]
    have yb : slW wb = slW wa := by unfold slW; rw [db]
    have hE' : Ends (goV v) N := ⟨fun i hi => hEn.1 (i + 1) (by omega), hEn.2⟩
    obtain ⟨wE, r1, r2, r3, r4, r5, r6, r7, r8⟩ := ih g wb (goV v) (lgA s (10 * k + stV v)) (x + 1) hE' (Mk_go mv) cb (Ls_x ls1 (FrX_Sq qb) (by decide) (by rw [db])) (fun j hj => by have := hs j hj; omega) (by omega) (by omega) (by omega) (by omega)
    refine ⟨wE, ?_, r2, r3, FrX_trans (FrX_trans (U := [4, 10]) g3 (FrX_Sq qb) (by decide) (by decide)) r4 (by decide) (by decide), FrK_trans (FrK_trans g4 (FrK_eq (by rw [db]))) r5, ?_, by omega, by omega⟩
    · show b_X0_reduce_34 _ fu ev _ _ _ _ _ = _
      unfold b_X0_reduce_34
      rw [if_neg (nI_nle (by omega) (by omega))]
      unfold b_X0_reduce_38
      rw [xis, Option.bind_some, g1]
      show (gfA (mem ev wa) ev.1 0 4).bind _ = _
      rw [xf4, Option.bind_some, Option.bind_some, cis (by decide), Option.bind_some, e]
      show L_X0_reduce_34 fu ev g (mem ev wb) ev.1 (nI k) (x + 1) (nI (stV (goV v))) = _
      rw [r1, Int32.add_assoc, show (1 : Int32) = nI 1 from rfl, nI_add, Nat.add_comm 1 N]
    · rw [r6, qb.2.1 0 5 (by unfold sI; omega), g6, Int32.add_assoc, show (1 : Int32) = nI 1 from rfl, nI_add, Nat.add_comm 1 N]
theorem FrX_setS (hk : k < 6) (hV : Mk V) (f : FrX S w w') : FrX S (setS w k V) (setS w' k V) := by
  obtain ⟨fi, fa, f8, ⟨f3, f13⟩, ⟨fc, fs⟩, fw⟩ := f
  refine ⟨fi, fa, fun q hq h i => by rw [row983S, row983S]; exact f8 q hq h i, ⟨fun h j hj => ?_, fun h j hj => ?_⟩, ⟨fun h j hj => ?_, fun h j hj => ?_⟩, fun h j hj => ⟨?_, ?_⟩⟩
  · rw [cv_setS (by omega), cv_setS (by omega)]
    exact f3 h j hj
  · rw [sl_ne (by omega), sl_ne (by omega)]
    exact f13 h j hj
  · rw [cv_setS (by omega), cv_setS (by omega)]
    exact fc h j hj
  · by_cases e : j = k
    · rw [e, sl_mk hV, sl_mk hV]
    · rw [sl_ne e, sl_ne e]
      exact fs h j hj
  · rw [cv_setS (by omega), cv_setS (by omega)]
    exact (fw h j hj).1
  · rw [sl_ne (by omega), sl_ne (by omega)]
    exact (fw h j hj).2
theorem Lm_red (hf : 40 ≤ fu) (hk : k < 6) : ∀ (N f : Nat) (w : Wd) (v : Nat → Int64) (s : Nat × (Nat → Nat)) (x : Int32), Ends v N → (∀ i : Nat, i ≤ N → eqM (itV i v)) → Mk v → FrX [14, 20] (setS wR k v) w → sl w k = v → LM w 4 969 s.1 s.2 → N < f →
    ∃ w2 : Wd, L_X2_reduce_31 fu ev f (mem ev w) (ev.1 + 966) (nI k) x (nI (stV v)) = some (x + nI N, mem ev w2) ∧ FrX [14, 20] (setS wR k (itV N v)) w2 ∧ LM w2 4 969 (lgR k N v s).1 (lgR k N v s).2 ∧ w2.2.2 = w.2.2 ∧ w2.2.1 966 8 = w.2.1 966 8 + nI N ∧ sl w2 k = itV N v ∧ ∀ l : Nat, l ≠ k → sl w2 l = sl w l := by
  intro N
  induction N with
  | zero =>
    intro f w v s x hEn hM mv hF hc hL hN
    obtain ⟨g, rfl⟩ : ∃ g, f = g + 1 := ⟨f - 1, by omega⟩
    have hz : stV v = 0 := hEn.2
    refine ⟨w, ?_, hF, hL, rfl, by rw [nI_0, Int32.add_zero], hc, fun _ _ => rfl⟩
    show b_X2_reduce_31 _ fu ev _ _ _ _ _ = _
    unfold b_X2_reduce_31
    rw [hz, if_pos (show nI 0 ≤ (0 : Int32) by decide), nI_0, Int32.add_zero]
    rfl
  | succ N ih =>
    intro f w v s x hEn hM mv hF hc hL hN
    obtain ⟨g, rfl⟩ : ∃ g, f = g + 1 := ⟨f - 1, by omega⟩
    have hz : stV v ≠ 0 := hEn.1 0 (by omega)
    have h9 := st_lt9 v
    have mg := Mk_go mv
    have dd := X2_doesV (ev := ev) (w := w) (K := k) (fu := fu) (by omega) (by omega) (by rw [hc]; exact hz)
    rw [hc] at dd
    obtain ⟨wa, hwa⟩ : ∃ wa, wa = setS w k (goV v) := ⟨_, rfl⟩
    rw [← hwa] at dd
    have La : LM wa 4 969 s.1 s.2 := by rw [hwa]; exact hL
    have Fa : FrX [14, 20] (setS wR k (goV v)) wa := by
      have z := FrX_setS (V := goV v) hk mg hF
      rw [setS_set, ← hwa] at z
      exact z
    obtain ⟨wb, m1, m2, m3, m4, m5, m6⟩ := ml_log (ev := ev) (fu := fu) (k := k) (t := stV v) (w := wa) hf La hk (by omega)
    have cb : sl wb k = goV v := by rw [sl_row m4, hwa, sl_mk mg]
    have ff := X2_firstOf (ev := ev) (w := wb) (K := k) (fu := fu) (by omega) (by omega) (by rw [cb]; exact hM 1 (by omega))
    rw [cb] at ff
    have hE' : Ends (goV v) N := ⟨fun i hi => hEn.1 (i + 1) (by omega), hEn.2⟩
    obtain ⟨w2, r1, r2, r3, r4, r5, r6, r7⟩ := ih g wb (goV v) (lgA s (10 * k + stV v)) (x + 1) hE' (fun i hi => hM (i + 1) (by omega)) mg (FrX_trans Fa m3 (by decide) (by decide)) cb m2 (by omega)
    refine ⟨w2, ?_, r2, r3, ?_, ?_, r6, fun l hl => ?_⟩
    · show b_X2_reduce_31 _ fu ev _ _ _ _ _ = _
      unfold b_X2_reduce_31
      rw [if_neg (nI_nle (by omega) (by omega))]
      unfold b_X2_reduce_35
      rw [mis, Option.bind_some, dd]
      show (isC (mem ev wa) (ev.1 + 966) 2).bind _ = _
      rw [mis, Option.bind_some, m1]
      show (isC (mem ev wb) (ev.1 + 966) 2).bind _ = _
      rw [mis, Option.bind_some, ff]
      show L_X2_reduce_31 fu ev g (mem ev wb) (ev.1 + 966) (nI k) (x + 1) (nI (stV (goV v))) = _
      rw [r1, Int32.add_assoc, show (1 : Int32) = nI 1 from rfl, nI_add, Nat.add_comm 1 N]
    · rw [r4, m5, hwa]
      rfl
    · rw [r5, m6, hwa]
      show w.2.1 966 8 + 1 + nI N = _
      rw [Int32.add_assoc, show (1 : Int32) = nI 1 from rfl, nI_add, Nat.add_comm 1 N]
    · rw [r7 l hl, sl_row m4, hwa, sl_ne hl]
end XO16
