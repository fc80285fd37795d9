/-! image, back: cells, and the model's side -/
section XCI
variable {ev : Ev} {w w' : Wd} {fu k n M : Nat} {V : Nat → Int64}
theorem FrX_setCi (hk : k < 6) : FrX [3] w (setC w (4 + 2 * k) V) := ⟨fun _ _ _ _ => rfl, fun _ _ _ _ => rfl, fun q hq _ i => by rw [row983C (by omega)], ⟨fun y => absurd (by decide) y, fun _ j hj => by rw [sl_setC (by omega)]⟩, ⟨fun _ j hj => by rw [cv_ne (by omega)], fun _ j hj => by rw [sl_setC (by omega)]⟩, fun _ j hj => ⟨by rw [cv_ne (by omega)], by rw [sl_setC (by omega)]⟩⟩
theorem FrX_setSi (hk : k < 6) : FrX [13] w (setS w (8 + k) V) := ⟨fun _ _ _ _ => rfl, fun _ _ _ _ => rfl, fun q hq _ i => by rw [row983S], ⟨fun _ j hj => by rw [cv_setS (by omega)], fun y => absurd (by decide) y⟩, ⟨fun _ j hj => by rw [cv_setS (by omega)], fun _ j hj => by rw [sl_ne (by omega)]⟩, fun _ j hj => ⟨by rw [cv_setS (by omega)], by rw [sl_ne (by omega)]⟩⟩
theorem cpC_image (hf : 4 ≤ fu) (hM6 : M ≤ 6) : ∀ (d f k : Nat) (w : Wd), k + d = M → w.2.1 0 1 = nI M → d < f → ∃ w' : Wd, L_X0_image_2 fu ev f (mem ev w) ev.1 (nI k) = b_X0_image_32 fu ev (mem ev w') ev.1 ∧ (∀ j : Nat, k ≤ j → j < M → cv w' (4 + 2 * j) = cv w (3 + 2 * j)) ∧ (∀ c : Nat, (∀ j : Nat, k ≤ j → j < M → c ≠ 4 + 2 * j) → cv w' c = cv w c) ∧ w'.2 = w.2 ∧ FrX [3] w w' := by
  intro d
  induction d with
  | zero =>
    intro f k w hk hM hf
    obtain ⟨g, rfl⟩ : ∃ g, f = g + 1 := ⟨f - 1, by omega⟩
    refine ⟨w, ?_, fun j h1 h2 => absurd h2 (by omega), fun _ _ => rfl, rfl, FrX_refl⟩
    show b_X0_image_2 _ fu ev _ _ _ = _
    unfold b_X0_image_2
    rw [xi1, Option.bind_some, hM, if_pos (nI_le (by omega) (by omega))]
  | succ d ih =>
    intro f k w hk hM hf
    obtain ⟨g, rfl⟩ : ∃ g, f = g + 1 := ⟨f - 1, by omega⟩
    have tk := X1_takes (ev := ev) (w := w) (fu := fu) (c := 4 + 2 * k) (c2 := 3 + 2 * k) (by omega) (by omega) (by omega) (by omega)
    obtain ⟨wa, hwa⟩ : ∃ wa, wa = setC w (4 + 2 * k) (cv w (3 + 2 * k)) := ⟨_, rfl⟩
    rw [← hwa] at tk
    obtain ⟨w', e1, e2, e3, e4, e5⟩ := ih g (k + 1) wa (by omega) (by rw [hwa]; exact hM) (by omega)
    refine ⟨w', ?_, fun j h1 h2 => ?_, fun c hc => ?_, by rw [e4, hwa]; rfl, ?_⟩
    · show b_X0_image_2 _ fu ev _ _ _ = _
      unfold b_X0_image_2
      rw [xi1, Option.bind_some, hM, if_neg (nI_ge (by omega) (by omega))]
      unfold b_X0_image_10
      rw [xf21, Option.bind_some, Option.bind_some, xkept (by omega), Option.bind_some, xf0, Option.bind_some, Option.bind_some, xcells (by omega), Option.bind_some, Option.bind_some, cis (by omega), Option.bind_some, tk]
      show L_X0_image_2 fu ev g (mem ev wa) ev.1 (nI k + 1) = _
      rw [nI_1]
      exact e1
    · by_cases e : j = k
      · rw [e, e3 _ (fun i _ _ => by omega), hwa, cv_mk Mk_cv]
      · rw [e2 j (by omega) h2, hwa, cv_ne (by omega)]
    · rw [e3 c (fun j h1 h2 => hc j (by omega) h2), hwa, cv_ne (hc k (by omega) (by omega))]
    · refine FrX_trans (S := [3]) (w' := wa) ?_ e5 (by decide) (by decide)
      rw [hwa]
      exact FrX_setCi (by omega)
theorem cpM_image (hf : 10 ≤ fu) : ∀ (d f k : Nat) (w : Wd), k + d = 6 → d < f → ∃ w' : Wd, L_X2_image_31 fu ev f (mem ev w) (ev.1 + 966) (nI k) = b_X2_image_64 fu ev (mem ev w') (ev.1 + 966) ∧ (∀ j : Nat, k ≤ j → j < 6 → sl w' (8 + j) = sl w (j)) ∧ (∀ K : Nat, (∀ j : Nat, k ≤ j → j < 6 → K ≠ 8 + j) → sl w' K = sl w K) ∧ (∀ j : Nat, k ≤ j → j < 6 → w'.2.1 972 j = w.2.1 971 j) ∧ (∀ q i : Nat, ¬ (q = 972 ∧ k ≤ i) → w'.2.1 q i = w.2.1 q i) ∧ w'.2.2 = w.2.2 ∧ FrX [13, 17] w w' := by
  intro d
  induction d with
  | zero =>
    intro f k w hk hf
    obtain ⟨g, rfl⟩ : ∃ g, f = g + 1 := ⟨f - 1, by omega⟩
    obtain rfl : k = 6 := by omega
    refine ⟨w, ?_, fun j h1 h2 => absurd h2 (by omega), fun _ _ => rfl, fun j h1 h2 => absurd h2 (by omega), fun _ _ _ => rfl, rfl, FrX_refl⟩
    show b_X2_image_31 _ fu ev _ _ _ = _
    unfold b_X2_image_31
    rw [if_pos (show (6 : Int32) ≤ nI 6 by decide)]
  | succ d ih =>
    intro f k w hk hf
    obtain ⟨g, rfl⟩ : ∃ g, f = g + 1 := ⟨f - 1, by omega⟩
    have tk := X2_moves (K := k) (K2 := 8 + k) (ev := ev) (w := w) (fu := fu) (by omega) (by omega) (by omega) (by omega)
    obtain ⟨wa, hwa⟩ : ∃ wa, wa = setS w (8 + k) (sl w (k)) := ⟨_, rfl⟩
    rw [← hwa] at tk
    obtain ⟨wb, hwb⟩ : ∃ wb, wb = wI wa 972 k (w.2.1 971 k) := ⟨_, rfl⟩
    obtain ⟨w', e1, e2, e3, e4, e5, e6, e7⟩ := ih g (k + 1) wb (by omega) (by omega)
    have sb : ∀ K : Nat, sl wb K = sl wa K := fun K => by rw [hwb, sl_wI]
    have e8 : (8 : Int32) + nI k = nI (8 + k) := nI_add 8 k
    have ld := rdI (ev := ev) (w := wa) (r := 971) (k := k) (N := 6) rfl (by decide) (by decide) (by omega)
    have lv : wa.2.1 971 k = w.2.1 971 k := by rw [hwa]; rfl
    rw [lv] at ld
    have wr := wrI (ev := ev) (w := wa) (r := 972) (k := k) (N := 6) (x := w.2.1 971 k) rfl (by decide) (by decide) (by omega)
    rw [← hwb] at wr
    refine ⟨w', ?_, fun j h1 h2 => ?_, fun K hK => ?_, fun j h1 h2 => ?_, fun q i hq => ?_, by rw [e6, hwb, hwa]; rfl, ?_⟩
    · show b_X2_image_31 _ fu ev _ _ _ = _
      unfold b_X2_image_31
      rw [if_neg (show ¬ (6 : Int32) ≤ nI k from nI_ge (b := 6) (by omega) (by decide))]
      unfold b_X2_image_37
      rw [mis, Option.bind_some, e8, tk]
      show (gfA (mem ev wa) (ev.1 + 966) 2 _).bind _ = _
      rw [mf15, Option.bind_some, mf14, Option.bind_some, Option.bind_some, ld, Option.bind_some, Option.bind_some, wr, Option.bind_some, nI_1]
      exact e1
    · by_cases e : j = k
      · rw [e, e3 _ (fun i _ _ => by omega), sb, hwa, sl_mk Mk_sl]
      · rw [e2 j (by omega) h2, sb, hwa, sl_ne (by omega)]
    · rw [e3 K (fun j h1 h2 => hK j (by omega) h2), sb, hwa, sl_ne (hK k (by omega) (by omega))]
    · by_cases e : j = k
      · rw [e, e5 _ _ (by omega), hwb, wI_same]
      · rw [e4 j (by omega) h2, hwb, wI_ne (by omega), hwa]
        rfl
    · rw [e5 q i (by omega), hwb, wI_ne (by omega), hwa]
      rfl
    · refine FrX_trans (S := [13, 17]) (w' := wb) ?_ e7 (by decide) (by decide)
      rw [hwb, hwa]
      exact FrX_trans (FrX_setSi (by omega)) (FrX_wI (S := [17]) (Or.inr List.mem_cons_self)) (by decide) (by decide)
theorem cpG_image : ∀ (d f k : Nat) (w : Wd), k + d = 30 → d < f → ∃ w' : Wd, L_X2_image_66 fu ev f (mem ev w) (ev.1 + 966) (nI k) = b_X2_image_90 fu ev (mem ev w') (ev.1 + 966) ∧ (∀ j : Nat, k ≤ j → j < 30 → w'.2.1 970 j = w.2.1 969 j) ∧ (∀ q i : Nat, ¬ (q = 970 ∧ k ≤ i) → w'.2.1 q i = w.2.1 q i) ∧ w'.1 = w.1 ∧ w'.2.2 = w.2.2 ∧ FrX [15] w w' := by
  intro d
  induction d with
  | zero =>
    intro f k w hk hf
    obtain ⟨g, rfl⟩ : ∃ g, f = g + 1 := ⟨f - 1, by omega⟩
    obtain rfl : k = 30 := by omega
    refine ⟨w, ?_, fun j h1 h2 => absurd h2 (by omega), fun _ _ _ => rfl, rfl, rfl, FrX_refl⟩
    show b_X2_image_66 _ fu ev _ _ _ = _
    unfold b_X2_image_66
    rw [if_pos (show (30 : Int32) ≤ nI 30 by decide)]
  | succ d ih =>
    intro f k w hk hf
    obtain ⟨g, rfl⟩ : ∃ g, f = g + 1 := ⟨f - 1, by omega⟩
    obtain ⟨wb, hwb⟩ : ∃ wb, wb = wI w 970 k (w.2.1 969 k) := ⟨_, rfl⟩
    obtain ⟨w', e1, e4, e5, e6, e7, e8⟩ := ih g (k + 1) wb (by omega) (by omega)
    refine ⟨w', ?_, fun j h1 h2 => ?_, fun q i hq => ?_, by rw [e6, hwb]; rfl, by rw [e7, hwb]; rfl, ?_⟩
    · show b_X2_image_66 _ fu ev _ _ _ = _
      unfold b_X2_image_66
      rw [if_neg (show ¬ (30 : Int32) ≤ nI k from nI_ge (b := 30) (by omega) (by decide))]
      unfold b_X2_image_72
      rw [mf13, Option.bind_some, mf12, Option.bind_some, Option.bind_some, rdI (N := 30) rfl (by decide) (by decide) (by omega), Option.bind_some, Option.bind_some, wrI (N := 30) rfl (by decide) (by decide) (by omega), Option.bind_some, ← hwb, nI_1]
      exact e1
    · by_cases e : j = k
      · rw [e, e5 _ _ (by omega), hwb, wI_same]
      · rw [e4 j (by omega) h2, hwb, wI_ne (by omega)]
    · rw [e5 q i (by omega), hwb, wI_ne (by omega)]
    · refine FrX_trans (S := [15]) (w' := wb) ?_ e8 (by decide) (by decide)
      rw [hwb]
      exact FrX_wI (Or.inr List.mem_cons_self)
theorem cpC_back (hf : 4 ≤ fu) (hM6 : M ≤ 6) : ∀ (d f k : Nat) (w : Wd), k + d = M → w.2.1 0 1 = nI M → d < f → ∃ w' : Wd, L_X0_back_20 fu ev f (mem ev w) ev.1 (nI k) = b_X0_back_50 fu ev (mem ev w') ev.1 ∧ (∀ j : Nat, k ≤ j → j < M → cv w' (3 + 2 * j) = cv w (4 + 2 * j)) ∧ (∀ c : Nat, (∀ j : Nat, k ≤ j → j < M → c ≠ 3 + 2 * j) → cv w' c = cv w c) ∧ w'.2 = w.2 ∧ FrX [11] w w' := by
  intro d
  induction d with
  | zero =>
    intro f k w hk hM hf
    obtain ⟨g, rfl⟩ : ∃ g, f = g + 1 := ⟨f - 1, by omega⟩
    refine ⟨w, ?_, fun j h1 h2 => absurd h2 (by omega), fun _ _ => rfl, rfl, FrX_refl⟩
    show b_X0_back_20 _ fu ev _ _ _ = _
    unfold b_X0_back_20
    rw [xi1, Option.bind_some, hM, if_pos (nI_le (by omega) (by omega))]
  | succ d ih =>
    intro f k w hk hM hf
    obtain ⟨g, rfl⟩ : ∃ g, f = g + 1 := ⟨f - 1, by omega⟩
    have tk := X1_takes (ev := ev) (w := w) (fu := fu) (c := 3 + 2 * k) (c2 := 4 + 2 * k) (by omega) (by omega) (by omega) (by omega)
    obtain ⟨wa, hwa⟩ : ∃ wa, wa = setC w (3 + 2 * k) (cv w (4 + 2 * k)) := ⟨_, rfl⟩
    rw [← hwa] at tk
    obtain ⟨w', e1, e2, e3, e4, e5⟩ := ih g (k + 1) wa (by omega) (by rw [hwa]; exact hM) (by omega)
    refine ⟨w', ?_, fun j h1 h2 => ?_, fun c hc => ?_, by rw [e4, hwa]; rfl, ?_⟩
    · show b_X0_back_20 _ fu ev _ _ _ = _
      unfold b_X0_back_20
      rw [xi1, Option.bind_some, hM, if_neg (nI_ge (by omega) (by omega))]
      unfold b_X0_back_28
      rw [xf0, Option.bind_some, Option.bind_some, xcells (by omega), Option.bind_some, xf21, Option.bind_some, Option.bind_some, xkept (by omega), Option.bind_some, Option.bind_some, cis (by omega), Option.bind_some, tk]
      show L_X0_back_20 fu ev g (mem ev wa) ev.1 (nI k + 1) = _
      rw [nI_1]
      exact e1
    · by_cases e : j = k
      · rw [e, e3 _ (fun i _ _ => by omega), hwa, cv_mk Mk_cv]
      · rw [e2 j (by omega) h2, hwa, cv_ne (by omega)]
    · rw [e3 c (fun j h1 h2 => hc j (by omega) h2), hwa, cv_ne (hc k (by omega) (by omega))]
    · refine FrX_trans (S := [11]) (w' := wa) ?_ e5 (by decide) (by decide)
      rw [hwa]
      exact FrX_setCk (by omega)
theorem cpM_back (hf : 10 ≤ fu) : ∀ (d f k : Nat) (w : Wd), k + d = 6 → d < f → ∃ w' : Wd, L_X2_back_2_36 fu ev f (mem ev w) (ev.1 + 966) (nI k) = b_X2_back_2_69 fu ev (mem ev w') (ev.1 + 966) ∧ (∀ j : Nat, k ≤ j → j < 6 → sl w' (j) = sl w (8 + j)) ∧ (∀ K : Nat, (∀ j : Nat, k ≤ j → j < 6 → K ≠ j) → sl w' K = sl w K) ∧ (∀ j : Nat, k ≤ j → j < 6 → w'.2.1 971 j = w.2.1 972 j) ∧ (∀ q i : Nat, ¬ (q = 971 ∧ k ≤ i) → w'.2.1 q i = w.2.1 q i) ∧ w'.2.2 = w.2.2 ∧ FrX [21, 16] w w' := by
  intro d
  induction d with
  | zero =>
    intro f k w hk hf
    obtain ⟨g, rfl⟩ : ∃ g, f = g + 1 := ⟨f - 1, by omega⟩
    obtain rfl : k = 6 := by omega
    refine ⟨w, ?_, fun j h1 h2 => absurd h2 (by omega), fun _ _ => rfl, fun j h1 h2 => absurd h2 (by omega), fun _ _ _ => rfl, rfl, FrX_refl⟩
    show b_X2_back_2_36 _ fu ev _ _ _ = _
    unfold b_X2_back_2_36
    rw [if_pos (show (6 : Int32) ≤ nI 6 by decide)]
  | succ d ih =>
    intro f k w hk hf
    obtain ⟨g, rfl⟩ : ∃ g, f = g + 1 := ⟨f - 1, by omega⟩
    have tk := X2_moves (K := 8 + k) (K2 := k) (ev := ev) (w := w) (fu := fu) (by omega) (by omega) (by omega) (by omega)
    obtain ⟨wa, hwa⟩ : ∃ wa, wa = setS w (k) (sl w (8 + k)) := ⟨_, rfl⟩
    rw [← hwa] at tk
    obtain ⟨wb, hwb⟩ : ∃ wb, wb = wI wa 971 k (w.2.1 972 k) := ⟨_, rfl⟩
    obtain ⟨w', e1, e2, e3, e4, e5, e6, e7⟩ := ih g (k + 1) wb (by omega) (by omega)
    have sb : ∀ K : Nat, sl wb K = sl wa K := fun K => by rw [hwb, sl_wI]
    have e8 : (8 : Int32) + nI k = nI (8 + k) := nI_add 8 k
    have ld := rdI (ev := ev) (w := wa) (r := 972) (k := k) (N := 6) rfl (by decide) (by decide) (by omega)
    have lv : wa.2.1 972 k = w.2.1 972 k := by rw [hwa]; rfl
    rw [lv] at ld
    have wr := wrI (ev := ev) (w := wa) (r := 971) (k := k) (N := 6) (x := w.2.1 972 k) rfl (by decide) (by decide) (by omega)
    rw [← hwb] at wr
    refine ⟨w', ?_, fun j h1 h2 => ?_, fun K hK => ?_, fun j h1 h2 => ?_, fun q i hq => ?_, by rw [e6, hwb, hwa]; rfl, ?_⟩
    · show b_X2_back_2_36 _ fu ev _ _ _ = _
      unfold b_X2_back_2_36
      rw [if_neg (show ¬ (6 : Int32) ≤ nI k from nI_ge (b := 6) (by omega) (by decide))]
      unfold b_X2_back_2_42
      rw [mis, Option.bind_some, e8, tk]
      show (gfA (mem ev wa) (ev.1 + 966) 2 _).bind _ = _
      rw [mf14, Option.bind_some, mf15, Option.bind_some, Option.bind_some, ld, Option.bind_some, Option.bind_some, wr, Option.bind_some, nI_1]
      exact e1
    · by_cases e : j = k
      · rw [e, e3 _ (fun i _ _ => by omega), sb, hwa, sl_mk Mk_sl]
      · rw [e2 j (by omega) h2, sb, hwa, sl_ne (by omega)]
    · rw [e3 K (fun j h1 h2 => hK j (by omega) h2), sb, hwa, sl_ne (hK k (by omega) (by omega))]
    · by_cases e : j = k
      · rw [e, e5 _ _ (by omega), hwb, wI_same]
      · rw [e4 j (by omega) h2, hwb, wI_ne (by omega), hwa]
        rfl
    · rw [e5 q i (by omega), hwb, wI_ne (by omega), hwa]
      rfl
    · refine FrX_trans (S := [21, 16]) (w' := wb) ?_ e7 (by decide) (by decide)
      rw [hwb, hwa]
      exact FrX_trans (FrX_setSk (by omega)) (FrX_wI (S := [16]) (Or.inr List.mem_cons_self)) (by decide) (by decide)
theorem cpG_back : ∀ (d f k : Nat) (w : Wd), k + d = 30 → d < f → ∃ w' : Wd, L_X2_back_2_71 fu ev f (mem ev w) (ev.1 + 966) (nI k) = b_X2_back_2_95 fu ev (mem ev w') (ev.1 + 966) ∧ (∀ j : Nat, k ≤ j → j < 30 → w'.2.1 969 j = w.2.1 970 j) ∧ (∀ q i : Nat, ¬ (q = 969 ∧ k ≤ i) → w'.2.1 q i = w.2.1 q i) ∧ w'.1 = w.1 ∧ w'.2.2 = w.2.2 ∧ FrX [14] w w' := by
  intro d
  induction d with
  | zero =>
    intro f k w hk hf
    obtain ⟨g, rfl⟩ : ∃ g, f = g + 1 := ⟨f - 1, by omega⟩
    obtain rfl : k = 30 := by omega
    refine ⟨w, ?_, fun j h1 h2 => absurd h2 (by omega), fun _ _ _ => rfl, rfl, rfl, FrX_refl⟩
    show b_X2_back_2_71 _ fu ev _ _ _ = _
    unfold b_X2_back_2_71
    rw [if_pos (show (30 : Int32) ≤ nI 30 by decide)]
  | succ d ih =>
    intro f k w hk hf
    obtain ⟨g, rfl⟩ : ∃ g, f = g + 1 := ⟨f - 1, by omega⟩
    obtain ⟨wb, hwb⟩ : ∃ wb, wb = wI w 969 k (w.2.1 970 k) := ⟨_, rfl⟩
    obtain ⟨w', e1, e4, e5, e6, e7, e8⟩ := ih g (k + 1) wb (by omega) (by omega)
    refine ⟨w', ?_, fun j h1 h2 => ?_, fun q i hq => ?_, by rw [e6, hwb]; rfl, by rw [e7, hwb]; rfl, ?_⟩
    · show b_X2_back_2_71 _ fu ev _ _ _ = _
      unfold b_X2_back_2_71
      rw [if_neg (show ¬ (30 : Int32) ≤ nI k from nI_ge (b := 30) (by omega) (by decide))]
      unfold b_X2_back_2_77
      rw [mf12, Option.bind_some, mf13, Option.bind_some, Option.bind_some, rdI (N := 30) rfl (by decide) (by decide) (by omega), Option.bind_some, Option.bind_some, wrI (N := 30) rfl (by decide) (by decide) (by omega), Option.bind_some, ← hwb, nI_1]
      exact e1
    · by_cases e : j = k
      · rw [e, e5 _ _ (by omega), hwb, wI_same]
      · rw [e4 j (by omega) h2, hwb, wI_ne (by omega)]
    · rw [e5 q i (by omega), hwb, wI_ne (by omega)]
    · refine FrX_trans (S := [14]) (w' := wb) ?_ e8 (by decide) (by decide)
      rw [hwb]
      exact FrX_wI (Or.inr List.mem_cons_self)
end XCI
