/-! A LIST IS COPIED TO ANOTHER ONE, a line to another one (image, back) -/
section XCP
variable {ev : Ev} {w w' : Wd} {fu k n t r r1 r2 h M : Nat} {ad qs : Nat → Nat}
theorem out_nextG (hr : Hq r) (hE : EvOk ev) (hQ : DQ ev w r h n qs) (hk : k < n) {l : Int32} (hT : Di ev w r t h n k l) : ∃ w' : Wd, DQ ev w' r h n qs ∧ Di ev w' r t h n (k + 1) (nI ((h + k) % 17)) ∧ (∃ o : Option Ob, w' = wD w t o) ∧ f_J6_next fu ev (mem ev w) t = some (some (ia ev (qs k)), mem ev w') ∧ ckC (mem ev w') (some (ia ev (qs k))) "java/lang/Integer" = some () ∧ isC (mem ev w') (ia ev (qs k)) 15 = some () ∧ f_J32_intValue fu ev (mem ev w') (ia ev (qs k)) = some (nI (qs k), mem ev w') := by
  obtain ⟨wa, e1, Qa, Ta, hwa⟩ := dq_next (fu := fu) hr hQ hk hT
  have h128 := (hQ.2.2.2.2.1 k hk).2
  exact ⟨wa, Qa, Ta, ⟨_, hwa⟩, e1, ia_ck hE h128, ia_is hE h128, ia_val hE h128⟩
def fX (n : Nat) (bd : Nat → Nat) (z : Nat) : Nat → Nat := fun i => if i = n then z else bd i
theorem LL_ext {r n : Nat} {ad qs qs' : Nat → Nat} (h : LL ev w r n ad qs) (e : ∀ i : Nat, i < n → qs' i = qs i) : LL ev w r n ad qs' := ⟨h.1, h.2.1, h.2.2.1, h.2.2.2.1, fun i hi => by rw [e i hi]; exact h.2.2.2.2.1 i hi, h.2.2.2.2.2⟩
theorem DQ_ext {r h n : Nat} {qs qs' : Nat → Nat} (hQ : DQ ev w r h n qs) (e : ∀ i : Nat, i < n → qs' i = qs i) : DQ ev w r h n qs' := ⟨hQ.1, hQ.2.1, hQ.2.2.1, hQ.2.2.2.1, fun i hi => by rw [e i hi]; exact hQ.2.2.2.2.1 i hi, hQ.2.2.2.2.2⟩
theorem cpL_image (hE : EvOk ev) (h30 : n ≤ 30) (h60 : ∀ j : Nat, j < n → qs j < 60) : ∀ (d f i : Nat) (w : Wd) (bd : Nat → Nat) (l : Option Nat), i + d = n → LL ev w 28 n ad qs → LL ev w 43 i bd qs → It ev w 28 t n ad i l → (∀ a b : Nat, a < n → b < i → ad a ≠ bd b) → (∀ b : Nat, b < i → bd b ≠ t) → ev.1 + 984 ≤ szW w → szW w + d ≤ ev.2.1 → slW w + 3 * d ≤ ev.2.2.1 → d < f →
    ∃ (w' : Wd) (bd' : Nat → Nat), L_X0_image_55 fu ev f (mem ev w) ev.1 (some t) = b_X0_image_92 fu ev (mem ev w') ev.1 ∧ LL ev w' 28 n ad qs ∧ LL ev w' 43 n bd' qs ∧ (∀ a b : Nat, a < n → b < n → ad a ≠ bd' b) ∧ w'.1 = w.1 ∧ (∀ q : Nat, q ≠ 43 → w'.2.1 q = w.2.1 q ∧ w'.2.2.1 q = w.2.2.1 q) ∧ (∀ a : Nat, a < szW w → a ≠ t → (∀ b : Nat, b < i → a ≠ bd b) → dyn w' a = dyn w a) ∧ szW w' = szW w + d ∧ slW w' = slW w + 3 * d := by
  have hr1 := (Or.inl rfl : Hd 28)
  have hr2 := (Or.inr rfl : Hd 43)
  intro d
  induction d with
  | zero =>
    intro f i w bd l hi hA hB hT hne ht h0 h1 h2 hf
    obtain ⟨g, rfl⟩ : ∃ g, f = g + 1 := ⟨f - 1, by omega⟩
    obtain rfl : i = n := by omega
    have hn := ll_hasNext (fu := fu) hr1 hA (by omega) hT
    rw [if_neg (by omega)] at hn
    refine ⟨w, bd, ?_, hA, hB, hne, rfl, fun _ _ => ⟨rfl, rfl⟩, fun _ _ _ _ => rfl, by omega, by omega⟩
    show b_X0_image_55 _ fu ev _ _ _ = _
    unfold b_X0_image_55
    rw [Option.bind_some, it_is hT.2.1 hT.1, Option.bind_some, hn]
    rfl
  | succ d ih =>
    intro f i w bd l hi hA hB hT hne ht h0 h1 h2 hf
    obtain ⟨g, rfl⟩ : ∃ g, f = g + 1 := ⟨f - 1, by omega⟩
    have hn := ll_hasNext (fu := fu) hr1 hA (by omega) hT
    rw [if_pos (by omega)] at hn
    obtain ⟨wa, e1, Aa, Ta, hwa⟩ := ll_next (fu := fu) hr1 hA (by omega) hT
    have q60 := h60 i (by omega)
    have za : szW wa = szW w := by rw [hwa]; rfl
    have ya : slW wa = slW w := by rw [hwa]; rfl
    have da : ∀ b : Nat, b ≠ t → dyn wa b = dyn w b := fun b hb => by rw [hwa, dyn_wD, if_neg hb]
    have Ba : LL ev wa 43 i bd qs := LL_sz hB (by rw [hwa]; rfl) (by rw [hwa]; rfl) (fun j hj => da _ (ht j hj)) (by omega)
    have vo := ia_of (w := wa) (fu := fu) (k := qs i) hE (by omega)
    obtain ⟨wb, b1, b2, b3, b4, b5⟩ := ll_add (fu := fu) (q := qs i) hr2 Ba (by omega) (by omega) (by omega) (by omega)
    obtain ⟨c1, c2, c3, c4, c5⟩ := b3
    have tz : t < szW wa := Ta.2.2.1
    have dt : dyn wb t = dyn wa t := c3 t tz (fun b hb z => ht b hb z.symm)
    have Ab : LL ev wb 28 n ad qs := LL_sz Aa (c2 28 (by decide)).1 (c2 28 (by decide)).2 (fun j hj => c3 _ (Aa.2.2.2.2.2.1 j hj).2 (fun b hb => hne j b hj hb)) c4
    have Tb : It ev wb 28 t n ad (i + 1) (some (ad i)) := ⟨by rw [dt, (c2 28 (by decide)).1]; exact Ta.1, Ta.2.1, by omega, Ta.2.2.2⟩
    have Bb : LL ev wb 43 (i + 1) (fun j => if j = i then szW wa else bd j) qs := LL_ext b2 (fun j hj => by
      by_cases e : j = i
      · rw [e]; exact (if_pos rfl).symm
      · exact (if_neg e).symm)
    obtain ⟨w', bd', r1, r2, r3, r4, r5, r6, r7, r8, r9⟩ := ih g (i + 1) wb (fun j => if j = i then szW wa else bd j) (some (ad i)) (by omega) Ab Bb Tb (fun a b ha hb => by
        show ad a ≠ if b = i then szW wa else bd b
        split
        · have := (Aa.2.2.2.2.2.1 a ha).2
          omega
        · exact hne a b ha (by omega)) (fun b hb => by
        show (if b = i then szW wa else bd b) ≠ t
        split
        · omega
        · exact ht b (by omega)) (by omega) (by omega) (by omega) (by omega)
    refine ⟨w', bd', ?_, r2, r3, r4, by rw [r5, c1, hwa]; rfl, fun q hq => ⟨by rw [(r6 q hq).1, (c2 q hq).1, hwa]; rfl, by rw [(r6 q hq).2, (c2 q hq).2, hwa]; rfl⟩, fun a ha hat hab => ?_, by omega, by omega⟩
    · show b_X0_image_55 _ fu ev _ _ _ = _
      unfold b_X0_image_55
      rw [Option.bind_some, it_is hT.2.1 hT.1, Option.bind_some, hn]
      show b_X0_image_64 (L_X0_image_55 fu ev g) fu ev (mem ev w) ev.1 t = _
      unfold b_X0_image_64
      rw [it_is hT.2.1 hT.1, Option.bind_some, e1]
      show (ckC (mem ev wa) (some (ia ev (qs i))) "java/lang/Integer").bind _ = _
      rw [ia_ck hE (by omega), Option.bind_some]
      show (isC (mem ev wa) (ia ev (qs i)) 15).bind _ = _
      rw [ia_is hE (by omega), Option.bind_some, ia_val hE (by omega)]
      show (gfA (mem ev wa) ev.1 0 _).bind _ = _
      rw [xf22, Option.bind_some, vo]
      show (isC (mem ev wa) (ev.1 + 43) 5).bind _ = _
      rw [hIs hr2, Option.bind_some, b1]
      exact r1
    · rw [r7 a (by omega) hat (fun b hb => by
          show a ≠ if b = i then szW wa else bd b
          split
          · omega
          · exact hab b (by omega)), c3 a (by omega) hab, da a hat]
theorem cpQ_image (hE : EvOk ev) : ∀ (d f i : Nat) (w : Wd) (h2 : Nat) (l : Int32), i + d = n → DQ ev w 38 h n qs → DQ ev w 44 h2 i qs → Di ev w 38 t h n i l → d < f →
    ∃ (w' : Wd) (h2' : Nat), L_X0_image_107 fu ev f (mem ev w) ev.1 (some t) = b_X0_image_143 fu ev (mem ev w') ev.1 ∧ DQ ev w' 38 h n qs ∧ DQ ev w' 44 h2' n qs ∧ w'.1 = w.1 ∧ (∀ q : Nat, q ≠ 44 → w'.2.1 q = w.2.1 q) ∧ (∀ q : Nat, q ≠ 44 + 1 → w'.2.2.1 q = w.2.2.1 q) ∧ (∀ a : Nat, a ≠ t → dyn w' a = dyn w a) ∧ w'.2.2.2.2 = w.2.2.2.2 := by
  have hr1 := (Or.inl rfl : Hq 38)
  have hr2 := (Or.inr rfl : Hq 44)
  intro d
  induction d with
  | zero =>
    intro f i w h2 l hi hA hB hT hf
    obtain ⟨g, rfl⟩ : ∃ g, f = g + 1 := ⟨f - 1, by omega⟩
    obtain rfl : i = n := by omega
    have hn := dq_hasNext (fu := fu) hA.2.1 (by omega) hT
    rw [if_neg (by omega)] at hn
    refine ⟨w, h2, ?_, hA, hB, rfl, fun _ _ => rfl, fun _ _ => rfl, fun _ _ => rfl, rfl⟩
    show b_X0_image_107 _ fu ev _ _ _ = _
    unfold b_X0_image_107
    rw [Option.bind_some, di_is hT.2.1 hT.1, Option.bind_some, hn]
    rfl
  | succ d ih =>
    intro f i w h2 l hi hA hB hT hf
    obtain ⟨g, rfl⟩ : ∃ g, f = g + 1 := ⟨f - 1, by omega⟩
    have hn6 := hA.2.1
    have hn := dq_hasNext (fu := fu) hA.2.1 (by omega) hT
    rw [if_pos (by omega)] at hn
    obtain ⟨wa, Qa, Ta, ⟨o, hwa⟩, e1, e2, e3, e4⟩ := out_nextG (fu := fu) hr1 hE hA (show i < n by omega) hT
    have q128 := (hA.2.2.2.2.1 i (by omega)).2
    have Ba : DQ ev wa 44 h2 i qs := DQ_row hB (by rw [hwa]; rfl) (by rw [hwa]; rfl)
    have vo := ia_of (w := wa) (fu := fu) (k := qs i) hE q128
    obtain ⟨wb, b1, b2, c1, c2, c3, c4⟩ := dq_addLast (fu := fu) (q := qs i) hr2 hE Ba (by omega) q128
    have Ab : DQ ev wb 38 h n qs := DQ_row Qa (c2 38 (by decide)) (c3 (38 + 1) (by decide))
    have Tb : Di ev wb 38 t h n (i + 1) (nI ((h + i) % 17)) := ⟨by unfold dyn; rw [c4]; exact Ta.1, Ta.2.1, by unfold szW; rw [c4]; exact Ta.2.2⟩
    have Bb : DQ ev wb 44 h2 (i + 1) qs := DQ_ext b2 (fun j hj => by
      by_cases e : j = i
      · rw [e]; exact (if_pos rfl).symm
      · exact (if_neg e).symm)
    obtain ⟨w', h2', r1, r2, r3, r4, r5, r6, r7, r8⟩ := ih g (i + 1) wb h2 (nI ((h + i) % 17)) (by omega) Ab Bb Tb (by omega)
    refine ⟨w', h2', ?_, r2, r3, by rw [r4, c1, hwa]; rfl, fun q hq => by rw [r5 q hq, c2 q hq, hwa]; rfl, fun q hq => by rw [r6 q hq, c3 q hq, hwa]; rfl, fun a ha => ?_, by rw [r8, c4, hwa]; rfl⟩
    · show b_X0_image_107 _ fu ev _ _ _ = _
      unfold b_X0_image_107
      rw [Option.bind_some, di_is hT.2.1 hT.1, Option.bind_some, hn]
      show b_X0_image_116 (L_X0_image_107 fu ev g) fu ev (mem ev w) ev.1 t = _
      unfold b_X0_image_116
      rw [di_is hT.2.1 hT.1, Option.bind_some, e1]
      show (ckC (mem ev wa) (some (ia ev (qs i))) "java/lang/Integer").bind _ = _
      rw [e2, Option.bind_some]
      show (isC (mem ev wa) (ia ev (qs i)) 15).bind _ = _
      rw [e3, Option.bind_some, e4]
      show (gfA (mem ev wa) ev.1 0 _).bind _ = _
      rw [xf23, Option.bind_some, vo]
      show (isC (mem ev wa) (ev.1 + 44) 8).bind _ = _
      rw [qIs hr2, Option.bind_some, b1]
      exact r1
    · rw [r7 a ha]
      have : dyn wb a = dyn wa a := by unfold dyn; rw [c4]
      rw [this, hwa, dyn_wD, if_neg ha]
theorem cpL_back (hE : EvOk ev) (h30 : n ≤ 30) (h60 : ∀ j : Nat, j < n → qs j < 60) : ∀ (d f i : Nat) (w : Wd) (bd : Nat → Nat) (l : Option Nat), i + d = n → LL ev w 43 n ad qs → LL ev w 28 i bd qs → It ev w 43 t n ad i l → (∀ a b : Nat, a < n → b < i → ad a ≠ bd b) → (∀ b : Nat, b < i → bd b ≠ t) → ev.1 + 984 ≤ szW w → szW w + d ≤ ev.2.1 → slW w + 3 * d ≤ ev.2.2.1 → d < f →
    ∃ (w' : Wd) (bd' : Nat → Nat), L_X0_back_65 fu ev f (mem ev w) ev.1 (some t) = b_X0_back_102 fu ev (mem ev w') ev.1 ∧ LL ev w' 43 n ad qs ∧ LL ev w' 28 n bd' qs ∧ (∀ a b : Nat, a < n → b < n → ad a ≠ bd' b) ∧ w'.1 = w.1 ∧ (∀ q : Nat, q ≠ 28 → w'.2.1 q = w.2.1 q ∧ w'.2.2.1 q = w.2.2.1 q) ∧ (∀ a : Nat, a < szW w → a ≠ t → (∀ b : Nat, b < i → a ≠ bd b) → dyn w' a = dyn w a) ∧ szW w' = szW w + d ∧ slW w' = slW w + 3 * d := by
  have hr1 := (Or.inr rfl : Hd 43)
  have hr2 := (Or.inl rfl : Hd 28)
  intro d
  induction d with
  | zero =>
    intro f i w bd l hi hA hB hT hne ht h0 h1 h2 hf
    obtain ⟨g, rfl⟩ : ∃ g, f = g + 1 := ⟨f - 1, by omega⟩
    obtain rfl : i = n := by omega
    have hn := ll_hasNext (fu := fu) hr1 hA (by omega) hT
    rw [if_neg (by omega)] at hn
    refine ⟨w, bd, ?_, hA, hB, hne, rfl, fun _ _ => ⟨rfl, rfl⟩, fun _ _ _ _ => rfl, by omega, by omega⟩
    show b_X0_back_65 _ fu ev _ _ _ = _
    unfold b_X0_back_65
    rw [Option.bind_some, it_is hT.2.1 hT.1, Option.bind_some, hn]
    rfl
  | succ d ih =>
    intro f i w bd l hi hA hB hT hne ht h0 h1 h2 hf
    obtain ⟨g, rfl⟩ : ∃ g, f = g + 1 := ⟨f - 1, by omega⟩
    have hn := ll_hasNext (fu := fu) hr1 hA (by omega) hT
    rw [if_pos (by omega)] at hn
    obtain ⟨wa, e1, Aa, Ta, hwa⟩ := ll_next (fu := fu) hr1 hA (by omega) hT
    have q60 := h60 i (by omega)
    have za : szW wa = szW w := by rw [hwa]; rfl
    have ya : slW wa = slW w := by rw [hwa]; rfl
    have da : ∀ b : Nat, b ≠ t → dyn wa b = dyn w b := fun b hb => by rw [hwa, dyn_wD, if_neg hb]
    have Ba : LL ev wa 28 i bd qs := LL_sz hB (by rw [hwa]; rfl) (by rw [hwa]; rfl) (fun j hj => da _ (ht j hj)) (by omega)
    have vo := ia_of (w := wa) (fu := fu) (k := qs i) hE (by omega)
    obtain ⟨wb, b1, b2, b3, b4, b5⟩ := ll_add (fu := fu) (q := qs i) hr2 Ba (by omega) (by omega) (by omega) (by omega)
    obtain ⟨c1, c2, c3, c4, c5⟩ := b3
    have tz : t < szW wa := Ta.2.2.1
    have dt : dyn wb t = dyn wa t := c3 t tz (fun b hb z => ht b hb z.symm)
    have Ab : LL ev wb 43 n ad qs := LL_sz Aa (c2 43 (by decide)).1 (c2 43 (by decide)).2 (fun j hj => c3 _ (Aa.2.2.2.2.2.1 j hj).2 (fun b hb => hne j b hj hb)) c4
    have Tb : It ev wb 43 t n ad (i + 1) (some (ad i)) := ⟨by rw [dt, (c2 43 (by decide)).1]; exact Ta.1, Ta.2.1, by omega, Ta.2.2.2⟩
    have Bb : LL ev wb 28 (i + 1) (fun j => if j = i then szW wa else bd j) qs := LL_ext b2 (fun j hj => by
      by_cases e : j = i
      · rw [e]; exact (if_pos rfl).symm
      · exact (if_neg e).symm)
    obtain ⟨w', bd', r1, r2, r3, r4, r5, r6, r7, r8, r9⟩ := ih g (i + 1) wb (fun j => if j = i then szW wa else bd j) (some (ad i)) (by omega) Ab Bb Tb (fun a b ha hb => by
        show ad a ≠ if b = i then szW wa else bd b
        split
        · have := (Aa.2.2.2.2.2.1 a ha).2
          omega
        · exact hne a b ha (by omega)) (fun b hb => by
        show (if b = i then szW wa else bd b) ≠ t
        split
        · omega
        · exact ht b (by omega)) (by omega) (by omega) (by omega) (by omega)
    refine ⟨w', bd', ?_, r2, r3, r4, by rw [r5, c1, hwa]; rfl, fun q hq => ⟨by rw [(r6 q hq).1, (c2 q hq).1, hwa]; rfl, by rw [(r6 q hq).2, (c2 q hq).2, hwa]; rfl⟩, fun a ha hat hab => ?_, by omega, by omega⟩
    · show b_X0_back_65 _ fu ev _ _ _ = _
      unfold b_X0_back_65
      rw [Option.bind_some, it_is hT.2.1 hT.1, Option.bind_some, hn]
      show b_X0_back_74 (L_X0_back_65 fu ev g) fu ev (mem ev w) ev.1 t = _
      unfold b_X0_back_74
      rw [it_is hT.2.1 hT.1, Option.bind_some, e1]
      show (ckC (mem ev wa) (some (ia ev (qs i))) "java/lang/Integer").bind _ = _
      rw [ia_ck hE (by omega), Option.bind_some]
      show (isC (mem ev wa) (ia ev (qs i)) 15).bind _ = _
      rw [ia_is hE (by omega), Option.bind_some, ia_val hE (by omega)]
      show (gfA (mem ev wa) ev.1 0 _).bind _ = _
      rw [xf9, Option.bind_some, vo]
      show (isC (mem ev wa) (ev.1 + 28) 5).bind _ = _
      rw [hIs hr2, Option.bind_some, b1]
      exact r1
    · rw [r7 a (by omega) hat (fun b hb => by
          show a ≠ if b = i then szW wa else bd b
          split
          · omega
          · exact hab b (by omega)), c3 a (by omega) hab, da a hat]
theorem cpQ_back (hE : EvOk ev) : ∀ (d f i : Nat) (w : Wd) (h2 : Nat) (l : Int32), i + d = n → DQ ev w 44 h n qs → DQ ev w 38 h2 i qs → Di ev w 44 t h n i l → d < f →
    ∃ (w' : Wd) (h2' : Nat), L_X0_back_117 fu ev f (mem ev w) ev.1 (some t) = b_X0_back_153 fu ev (mem ev w') ev.1 ∧ DQ ev w' 44 h n qs ∧ DQ ev w' 38 h2' n qs ∧ w'.1 = w.1 ∧ (∀ q : Nat, q ≠ 38 → w'.2.1 q = w.2.1 q) ∧ (∀ q : Nat, q ≠ 38 + 1 → w'.2.2.1 q = w.2.2.1 q) ∧ (∀ a : Nat, a ≠ t → dyn w' a = dyn w a) ∧ w'.2.2.2.2 = w.2.2.2.2 := by
  have hr1 := (Or.inr rfl : Hq 44)
  have hr2 := (Or.inl rfl : Hq 38)
  intro d
  induction d with
  | zero =>
    intro f i w h2 l hi hA hB hT hf
    obtain ⟨g, rfl⟩ : ∃ g, f = g + 1 := ⟨f - 1, by omega⟩
    obtain rfl : i = n := by omega
    have hn := dq_hasNext (fu := fu) hA.2.1 (by omega) hT
    rw [if_neg (by omega)] at hn
    refine ⟨w, h2, ?_, hA, hB, rfl, fun _ _ => rfl, fun _ _ => rfl, fun _ _ => rfl, rfl⟩
    show b_X0_back_117 _ fu ev _ _ _ = _
    unfold b_X0_back_117
    rw [Option.bind_some, di_is hT.2.1 hT.1, Option.bind_some, hn]
    rfl
  | succ d ih =>
    intro f i w h2 l hi hA hB hT hf
    obtain ⟨g, rfl⟩ : ∃ g, f = g + 1 := ⟨f - 1, by omega⟩
    have hn6 := hA.2.1
    have hn := dq_hasNext (fu := fu) hA.2.1 (by omega) hT
    rw [if_pos (by omega)] at hn
    obtain ⟨wa, Qa, Ta, ⟨o, hwa⟩, e1, e2, e3, e4⟩ := out_nextG (fu := fu) hr1 hE hA (show i < n by omega) hT
    have q128 := (hA.2.2.2.2.1 i (by omega)).2
    have Ba : DQ ev wa 38 h2 i qs := DQ_row hB (by rw [hwa]; rfl) (by rw [hwa]; rfl)
    have vo := ia_of (w := wa) (fu := fu) (k := qs i) hE q128
    obtain ⟨wb, b1, b2, c1, c2, c3, c4⟩ := dq_addLast (fu := fu) (q := qs i) hr2 hE Ba (by omega) q128
    have Ab : DQ ev wb 44 h n qs := DQ_row Qa (c2 44 (by decide)) (c3 (44 + 1) (by decide))
    have Tb : Di ev wb 44 t h n (i + 1) (nI ((h + i) % 17)) := ⟨by unfold dyn; rw [c4]; exact Ta.1, Ta.2.1, by unfold szW; rw [c4]; exact Ta.2.2⟩
    have Bb : DQ ev wb 38 h2 (i + 1) qs := DQ_ext b2 (fun j hj => by
      by_cases e : j = i
      · rw [e]; exact (if_pos rfl).symm
      · exact (if_neg e).symm)
    obtain ⟨w', h2', r1, r2, r3, r4, r5, r6, r7, r8⟩ := ih g (i + 1) wb h2 (nI ((h + i) % 17)) (by omega) Ab Bb Tb (by omega)
    refine ⟨w', h2', ?_, r2, r3, by rw [r4, c1, hwa]; rfl, fun q hq => by rw [r5 q hq, c2 q hq, hwa]; rfl, fun q hq => by rw [r6 q hq, c3 q hq, hwa]; rfl, fun a ha => ?_, by rw [r8, c4, hwa]; rfl⟩
    · show b_X0_back_117 _ fu ev _ _ _ = _
      unfold b_X0_back_117
      rw [Option.bind_some, di_is hT.2.1 hT.1, Option.bind_some, hn]
      show b_X0_back_126 (L_X0_back_117 fu ev g) fu ev (mem ev w) ev.1 t = _
      unfold b_X0_back_126
      rw [di_is hT.2.1 hT.1, Option.bind_some, e1]
      show (ckC (mem ev wa) (some (ia ev (qs i))) "java/lang/Integer").bind _ = _
      rw [e2, Option.bind_some]
      show (isC (mem ev wa) (ia ev (qs i)) 15).bind _ = _
      rw [e3, Option.bind_some, e4]
      show (gfA (mem ev wa) ev.1 0 _).bind _ = _
      rw [xf16, Option.bind_some, vo]
      show (isC (mem ev wa) (ev.1 + 38) 8).bind _ = _
      rw [qIs hr2, Option.bind_some, b1]
      exact r1
    · rw [r7 a ha]
      have : dyn wb a = dyn wa a := by unfold dyn; rw [c4]
      rw [this, hwa, dyn_wD, if_neg ha]
end XCP
