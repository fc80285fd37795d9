/-! BOTH LOGS: a step is logged -/
section XLG
variable {ev : Ev} {w w' w'' : Wd} {n k s q fu r i j : Nat} {ad qs : Nat → Nat}
theorem rdI {N : Nat} (hd : ds r = (2, 0, N)) (hr : r < 984) (hN : N < 1000) (h : k < N) : aldI 0 (mem ev w) (ev.1 + r) (nI k) = some (w.2.1 r k) := by
  rw [ldI hd hr (vp_in_nI h (by omega)), nI_clamp (by omega)]
theorem wrI {N : Nat} {x : Int32} (hd : ds r = (2, 0, N)) (hr : r < 984) (hN : N < 1000) (h : k < N) : astI ev 0 (mem ev w) (ev.1 + r) (nI k) x = some (mem ev (wI w r k x)) := by
  rw [stI hd hr (vp_in_nI h (by omega)), nI_clamp (by omega), vni]
/-- only ints of rows that P names change -/
def Ri (P : Nat → Nat → Prop) (w w' : Wd) : Prop := w'.1 = w.1 ∧ w'.2.2 = w.2.2 ∧ ∀ q i : Nat, ¬ P q i → w'.2.1 q i = w.2.1 q i
theorem Ri_refl {P : Nat → Nat → Prop} : Ri P w w := ⟨rfl, rfl, fun _ _ _ => rfl⟩
theorem Ri_trans {P Q T : Nat → Nat → Prop} (h1 : Ri P w w') (h2 : Ri Q w' w'') (hP : ∀ q i : Nat, P q i → T q i) (hQ : ∀ q i : Nat, Q q i → T q i) : Ri T w w'' := ⟨h2.1.trans h1.1, h2.2.1.trans h1.2.1, fun q i hn => (h2.2.2 q i (fun z => hn (hQ q i z))).trans (h1.2.2 q i (fun z => hn (hP q i z)))⟩
theorem Ri_wI {x : Int32} : Ri (fun q i => q = r ∧ i = k) w (wI w r k x) := ⟨rfl, rfl, fun _ _ h => wI_ne h⟩
theorem m_sh {x1 x2 : Int32} : ∀ (d f j : Nat) (w : Wd), j + d = 30 → 1 ≤ j → d < f → ∃ w' : Wd, L_X2_logs_11 fu ev f (mem ev w) (ev.1 + 966) x1 x2 (nI j) = b_X2_logs_37 fu ev (mem ev w') (ev.1 + 966) x1 x2 ∧ Ri (fun q _ => q = 969) w w' ∧ ∀ i : Nat, w'.2.1 969 i = if j - 1 ≤ i ∧ i < 29 then w.2.1 969 (i + 1) else w.2.1 969 i := by
  intro d
  induction d with
  | zero =>
    intro f j w hj _ hf
    obtain ⟨g, rfl⟩ : ∃ g, f = g + 1 := ⟨f - 1, by omega⟩
    obtain rfl : j = 30 := by omega
    refine ⟨w, ?_, Ri_refl, fun i => ?_⟩
    · show b_X2_logs_11 _ fu ev _ _ _ _ _ = _
      unfold b_X2_logs_11
      rw [if_pos (by decide)]
    · rw [if_neg (by omega)]
  | succ d ih =>
    intro f j w hj h1 hf
    obtain ⟨g, rfl⟩ : ∃ g, f = g + 1 := ⟨f - 1, by omega⟩
    have ld := rdI (ev := ev) (w := w) (r := 969) (k := j) (N := 30) rfl (by decide) (by decide) (by omega)
    have st := wrI (ev := ev) (w := w) (r := 969) (k := j - 1) (N := 30) (x := w.2.1 969 j) rfl (by decide) (by decide) (by omega)
    obtain ⟨w', e, hr, hi⟩ := ih g (j + 1) (wI w 969 (j - 1) (w.2.1 969 j)) (by omega) (by omega) (by omega)
    refine ⟨w', ?_, Ri_trans Ri_wI hr (fun _ _ z => z.1) (fun _ _ z => z), fun i => ?_⟩
    · show b_X2_logs_11 _ fu ev _ _ _ _ _ = _
      unfold b_X2_logs_11
      rw [if_neg (show ¬ (30 : Int32) ≤ nI j from nI_ge (b := 30) (by omega) (by decide))]
      unfold b_X2_logs_17
      have m1 : nI j - 1 = nI (j - 1) := pk_sub (b := 1) h1
      rw [mf12, Option.bind_some, Option.bind_some, Option.bind_some, ld, Option.bind_some, Option.bind_some, m1, st, Option.bind_some, nI_1]
      exact e
    · rw [hi]
      by_cases c1 : j + 1 - 1 ≤ i ∧ i < 29
      · rw [if_pos c1, if_pos (by omega), wI_ne (by omega)]
      · rw [if_neg c1]
        by_cases c2 : i = j - 1
        · subst c2
          rw [wI_same, if_pos (by omega), show j - 1 + 1 = j by omega]
        · rw [wI_ne (by omega), if_neg (by omega)]
def lgI (q i : Nat) : Prop := q = 969 ∨ (q = 966 ∧ (i = 4 ∨ i = 8))
def adQ (n : Nat) (qs : Nat → Nat) (v : Nat) : Nat → Nat := fun i => if n < 30 then (if i = n then v else qs i) else (if i = 29 then v else qs (i + 1))
theorem X2_logs (hf : 40 ≤ fu) (hn : n ≤ 30) (h4 : w.2.1 966 4 = nI n) (hv : ∀ i : Nat, i < n → w.2.1 969 i = nI (qs i)) (hk : k < 6) (hs : s < 10) : ∃ w' : Wd, f_X2_logs fu ev (mem ev w) (ev.1 + 966) (nI k) (nI s) = some ((), mem ev w') ∧ Ri lgI w w' ∧ w'.2.1 966 4 = nI (min (n + 1) 30) ∧ w'.2.1 966 8 = w.2.1 966 8 + 1 ∧ ∀ i : Nat, i < min (n + 1) 30 → w'.2.1 969 i = nI (adQ n qs (10 * k + s) i) := by
  have ev' : (10 : Int32) * nI k + nI s = nI (10 * k + s) := by
    rw [show (10 : Int32) = nI 10 from rfl, pk_mul, nI_add]
  have tail : ∀ (w0 : Wd) (m : Nat), m < 30 → w0.2.1 966 4 = nI m → w0.2.1 966 8 = w.2.1 966 8 → b_X2_logs_47 fu ev (mem ev w0) (ev.1 + 966) (nI k) (nI s) = some ((), mem ev (wI (wI (wI w0 969 m (nI (10 * k + s))) 966 4 (nI (m + 1))) 966 8 (w.2.1 966 8 + 1))) := by
    intro w0 m hm h0 h8
    have st := wrI (ev := ev) (w := w0) (r := 969) (k := m) (N := 30) (x := nI (10 * k + s)) rfl (by decide) (by decide) hm
    have q4 : (wI w0 969 m (nI (10 * k + s))).2.1 966 4 = nI m := by rw [wI_ne (by omega)]; exact h0
    have q8 : (wI (wI w0 969 m (nI (10 * k + s))) 966 4 (nI (m + 1))).2.1 966 8 = w.2.1 966 8 := by rw [wI_ne (by omega), wI_ne (by omega)]; exact h8
    unfold b_X2_logs_47
    rw [mf12, Option.bind_some, mi4, Option.bind_some, Option.bind_some, ev', h0, st, Option.bind_some, mi4, Option.bind_some, q4, nI_1, mp4, Option.bind_some, mi8, Option.bind_some, q8, mp8, Option.bind_some]
  by_cases h30 : n < 30
  · refine ⟨wI (wI (wI w 969 n (nI (10 * k + s))) 966 4 (nI (n + 1))) 966 8 (w.2.1 966 8 + 1), ?_, ?_, ?_, wI_same, fun i hi => ?_⟩
    rotate_left
    · exact Ri_trans (Ri_trans (T := lgI) Ri_wI Ri_wI (fun _ _ z => Or.inl z.1) (fun _ _ z => Or.inr ⟨z.1, Or.inl z.2⟩)) Ri_wI (fun _ _ z => z) (fun _ _ z => Or.inr ⟨z.1, Or.inr z.2⟩)
    · rw [wI_ne (by omega), wI_same, show min (n + 1) 30 = n + 1 by omega]
    · rw [wI_ne (by omega), wI_ne (by omega)]
      unfold adQ
      rw [if_pos h30]
      by_cases e : i = n
      · subst e
        rw [wI_same, if_pos rfl]
      · rw [wI_ne (by omega), if_neg e]
        exact hv i (by omega)
    · unfold f_X2_logs b_X2_logs_0
      rw [mi4, Option.bind_some, h4, if_neg (show ¬ nI n = (30 : Int32) from fun z => by have := (nI_eq (b := 30) (by omega) (by decide)).mp z; omega)]
      exact tail w n h30 h4 rfl
  · obtain rfl : n = 30 := by omega
    obtain ⟨w1, e1, r1, i1⟩ := m_sh (ev := ev) (fu := fu) (x1 := nI k) (x2 := nI s) 29 fu 1 w (by omega) (by omega) (by omega)
    have q4 : w1.2.1 966 4 = nI 30 := by rw [r1.2.2 966 4 (by omega)]; exact h4
    have q8 : w1.2.1 966 8 = w.2.1 966 8 := r1.2.2 966 8 (by omega)
    have t := tail (wI w1 966 4 (nI 29)) 29 (by decide) wI_same (by rw [wI_ne (by omega)]; exact q8)
    refine ⟨wI (wI (wI (wI w1 966 4 (nI 29)) 969 29 (nI (10 * k + s))) 966 4 (nI (29 + 1))) 966 8 (w.2.1 966 8 + 1), ?_, ?_, ?_, wI_same, fun i hi => ?_⟩
    rotate_left
    · have r2 : Ri lgI w (wI w1 966 4 (nI 29)) := Ri_trans r1 Ri_wI (fun _ _ z => Or.inl z) (fun _ _ z => Or.inr ⟨z.1, Or.inl z.2⟩)
      exact Ri_trans (Ri_trans (T := lgI) r2 (Ri_trans (T := lgI) Ri_wI Ri_wI (fun _ _ z => Or.inl z.1) (fun _ _ z => Or.inr ⟨z.1, Or.inl z.2⟩)) (fun _ _ z => z) (fun _ _ z => z)) Ri_wI (fun _ _ z => z) (fun _ _ z => Or.inr ⟨z.1, Or.inr z.2⟩)
    · rw [wI_ne (by omega), wI_same]
      rfl
    · rw [wI_ne (by omega), wI_ne (by omega)]
      unfold adQ
      rw [if_neg h30]
      by_cases e : i = 29
      · subst e
        rw [wI_same, if_pos rfl]
      · rw [wI_ne (by omega), wI_ne (by omega), if_neg e, i1, if_pos (by omega)]
        exact hv (i + 1) (by omega)
    · unfold f_X2_logs b_X2_logs_0
      rw [mi4, Option.bind_some, h4, if_pos (show nI 30 = (30 : Int32) from rfl)]
      unfold b_X2_logs_9
      rw [show (1 : Int32) = nI 1 from rfl, e1]
      unfold b_X2_logs_37
      rw [mi4, Option.bind_some, q4, show nI 30 - 1 = nI 29 from rfl, mp4, Option.bind_some]
      exact t
/-- the class's log -/
theorem X0_logs (hE : EvOk ev) (hL : LL ev w 28 n ad qs) (hn : n ≤ 30) (hk : k < 6) (hs : s < 10) (h0 : ev.1 + 984 ≤ szW w) (h1 : szW w + 1 ≤ ev.2.1) (h2 : slW w + 3 ≤ ev.2.2.1) :
    ∃ (w' : Wd) (ad' : Nat → Nat), f_X0_logs fu ev (mem ev w) ev.1 (nI k) (nI s) = some ((), mem ev w') ∧ LL ev w' 28 (min (n + 1) 30) ad' (adQ n qs (10 * k + s)) ∧ w'.1 = w.1 ∧ (∀ q i : Nat, ¬ (q = 28) ∧ ¬ (q = 0 ∧ i = 5) → w'.2.1 q i = w.2.1 q i) ∧ w'.2.1 0 5 = w.2.1 0 5 + 1 ∧ (∀ q : Nat, q ≠ 28 → w'.2.2.1 q = w.2.2.1 q) ∧
      (∀ a : Nat, a < szW w → (∀ i : Nat, i < n → a ≠ ad i) → dyn w' a = dyn w a) ∧ szW w' = szW w + 1 ∧ slW w' = slW w + 3 ∧ ∀ i : Nat, i < min (n + 1) 30 → szW w ≤ ad' i ∨ ∃ j : Nat, j < n ∧ ad' i = ad j := by
  have hr : Hd 28 := Or.inl rfl
  have ev' : (10 : Int32) * nI k + nI s = nI (10 * k + s) := by
    rw [show (10 : Int32) = nI 10 from rfl, pk_mul, nI_add]
  have tail : ∀ (w0 : Wd) (m : Nat) (ad0 qs0 : Nat → Nat), LL ev w0 28 m ad0 qs0 → m < 30 → FrL 28 w n ad w0 m ad0 → w0.2.2.2.2 = w.2.2.2.2 → ∃ (w' : Wd) (ad' : Nat → Nat), b_X0_logs_20 fu ev (mem ev w0) ev.1 (nI k) (nI s) = some ((), mem ev w') ∧ LL ev w' 28 (m + 1) ad' (fun i => if i = m then 10 * k + s else qs0 i) ∧ w'.1 = w.1 ∧ (∀ q i : Nat, ¬ (q = 28) ∧ ¬ (q = 0 ∧ i = 5) → w'.2.1 q i = w.2.1 q i) ∧ w'.2.1 0 5 = w.2.1 0 5 + 1 ∧ (∀ q : Nat, q ≠ 28 → w'.2.2.1 q = w.2.2.1 q) ∧
      (∀ a : Nat, a < szW w → (∀ i : Nat, i < n → a ≠ ad i) → dyn w' a = dyn w a) ∧ szW w' = szW w + 1 ∧ slW w' = slW w + 3 ∧ ∀ i : Nat, i < m + 1 → szW w ≤ ad' i ∨ ∃ j : Nat, j < n ∧ ad' i = ad j := by
    intro w0 m ad0 qs0 hL0 hm hF hsz
    have sz0 : szW w0 = szW w := congrArg Prod.fst hsz
    have sl0 : slW w0 = slW w := congrArg Prod.snd hsz
    have vo := ia_of (w := w0) (fu := fu) (k := 10 * k + s) hE (by omega)
    obtain ⟨w1, e1, L1, F1, s1, t1⟩ := ll_add (fu := fu) (q := 10 * k + s) hr hL0 (by omega) (by omega) (by omega) (by omega)
    have F := FrL_trans hF F1
    have q5 : w1.2.1 0 5 = w.2.1 0 5 := by rw [(F.2.1 0 (by omega)).1]
    refine ⟨wI w1 0 5 (w.2.1 0 5 + 1), _, ?_, LL_sz L1 (wI_row (by omega)) rfl (fun _ _ => rfl) (Nat.le_refl _), F.1, fun q i h => ?_, wI_same, fun q hq => (F.2.1 q hq).2, F.2.2.1, ?_, ?_, F.2.2.2.2⟩
    · unfold b_X0_logs_20
      rw [xf9, Option.bind_some, ev', vo]
      show (isC (mem ev w0) (ev.1 + 28) 5).bind _ = _
      rw [hIs hr, Option.bind_some, e1]
      show (gfI (mem ev w1) ev.1 0 5).bind _ = _
      rw [xi5, Option.bind_some, q5, xp5, Option.bind_some]
    · rw [wI_ne h.2, (F.2.1 q h.1).1]
    · show szW w1 = _
      omega
    · show slW w1 = _
      omega
  have sz := ll_size (fu := fu) hr hL
  by_cases h30 : n < 30
  · obtain ⟨w', ad', e, L', z⟩ := tail w n ad qs hL h30 FrL_refl rfl
    have eq1 : (fun i => if i = n then 10 * k + s else qs i) = adQ n qs (10 * k + s) := by
      funext i
      unfold adQ
      rw [if_pos h30]
    rw [show min (n + 1) 30 = n + 1 by omega, ← eq1]
    refine ⟨w', ad', ?_, L', z⟩
    unfold f_X0_logs b_X0_logs_0
    rw [xf9, Option.bind_some, Option.bind_some, hIs hr, Option.bind_some, sz]
    show (if nI n = (30 : Int32) then _ else b_X0_logs_20 fu ev (mem ev w) ev.1 (nI k) (nI s)) = _
    rw [if_neg (fun z => by have := (nI_eq (b := 30) (by omega) (by decide)).mp z; omega)]
    exact e
  · obtain rfl : n = 30 := by omega
    obtain ⟨w1, e1, L1, F1, s1, -⟩ := ll_removeFirst (fu := fu) (n := 29) hr hL
    obtain ⟨w', ad', e, L', z⟩ := tail w1 29 _ _ L1 (by decide) F1 s1
    have eq1 : (fun i => if i = 29 then 10 * k + s else dl 0 qs i) = adQ 30 qs (10 * k + s) := by
      funext i
      unfold adQ
      rw [if_neg h30]
      rfl
    rw [show min (30 + 1) 30 = 29 + 1 by omega, ← eq1]
    refine ⟨w', ad', ?_, L', z⟩
    unfold f_X0_logs b_X0_logs_0
    rw [xf9, Option.bind_some, Option.bind_some, hIs hr, Option.bind_some, sz]
    show (if nI 30 = (30 : Int32) then b_X0_logs_12 fu ev (mem ev w) ev.1 (nI k) (nI s) else b_X0_logs_20 fu ev (mem ev w) ev.1 (nI k) (nI s)) = _
    rw [if_pos (show nI 30 = (30 : Int32) from rfl)]
    unfold b_X0_logs_12
    rw [xf9, Option.bind_some, Option.bind_some, hIs hr, Option.bind_some, e1]
    exact e
end XLG
