/-! THE PAPER: a letter, a number is put behind the text -/
section XSE
variable {ev : Ev} {w w' w'' : Wd} {fu lo S V cap n k i m c p s : Nat} {f : Nat → Int32} {x : Int32} {σ : Mm}
theorem sz_st {X x3 : Int64} {q g : Nat} {y : Int32} (hX : X.toInt = -(m : Int)) (h3 : x3.toInt = -(q : Int)) (hi : i < 19) : L_J31_stringSize_20 fu ev (g + 1) σ X y x3 (nI i) = if q ≤ m then L_J31_stringSize_20 fu ev g σ X y (10 * x3) (nI (i + 1)) else some (nI i + y, σ) := by
  have n19 : ¬ (19 : Int32) ≤ nI i := fun z => absurd ((s_le (i := 19) (by decide) (by omega)).mp z) (by omega)
  show b_J31_stringSize_20 _ fu ev _ _ _ _ _ = _
  unfold b_J31_stringSize_20 b_J31_stringSize_27 b_J31_stringSize_38 b_J31_stringSize_33
  rw [if_neg n19, nI_1]
  by_cases c : q ≤ m
  · rw [if_pos c, if_pos (by rw [Int64.le_iff_toInt_le, hX, h3]; omega)]
  · rw [if_neg c, if_neg (by rw [Int64.le_iff_toInt_le, hX, h3]; omega)]
theorem sz_d {X : Int64} {y : Int32} (hf : 8 ≤ fu) (hX : X.toInt = -(m : Int)) (hD : Dg m k) : L_J31_stringSize_20 fu ev fu σ X y (-10) 1 = some (nI k + y, σ) := by
  obtain ⟨g, hg⟩ : ∃ g, fu = g + 7 := ⟨fu - 7, by omega⟩
  have hL : L_J31_stringSize_20 fu ev fu σ X y (-10) 1 = L_J31_stringSize_20 fu ev (g + 6 + 1) σ X y (-10) (nI 1) := by rw [show g + 6 + 1 = fu by omega]; rfl
  rw [hL, sz_st (q := 10) hX (by decide) (by decide)]
  unfold Dg at hD
  rcases hD with ⟨rfl, h⟩ | h
  · rw [if_neg (by omega)]
  rw [if_pos (by omega), sz_st (q := 100) hX (by decide) (by decide)]
  rcases h with ⟨rfl, h⟩ | h
  · rw [if_neg (by omega)]
  rw [if_pos (by omega), sz_st (q := 1000) hX (by decide) (by decide)]
  rcases h with ⟨rfl, h⟩ | h
  · rw [if_neg (by omega)]
  rw [if_pos (by omega), sz_st (q := 10000) hX (by decide) (by decide)]
  rcases h with ⟨rfl, h⟩ | h
  · rw [if_neg (by omega)]
  rw [if_pos (by omega), sz_st (q := 100000) hX (by decide) (by decide)]
  rcases h with ⟨rfl, h⟩ | ⟨rfl, h⟩
  · rw [if_neg (by omega)]
  rw [if_pos (by omega), sz_st (q := 1000000) hX (by decide) (by decide), if_neg (by omega)]
theorem sb_lat (hE : EvOk ev) (h : SBd ev w lo S V cap n f) : f_J13_isLatin1 fu ev (mem ev w) S = some (1, mem ev w) := by
  obtain ⟨hlo, hS, hV, hSs, hVs, hSV, dS, dV, hn, hc, hc16, hf⟩ := h
  have g3 : gsI ev 3 = some 1 := by unfold gsI; rw [hE.1.2.2.2.1]
  have g1 : gfI (mem ev w) S 13 1 = some 0 := o_gI (by omega) dS rfl
  unfold f_J13_isLatin1 b_J13_isLatin1_0
  rw [g3, Option.bind_some, if_neg (by decide)]
  unfold b_J13_isLatin1_6
  rw [g1, Option.bind_some, if_pos rfl]
  rfl
theorem i8 (h : c < 128) : (nI c).toInt8.toInt32 = nI c := by
  have key : ∀ j : Nat, j < 128 → (nI j).toInt8.toInt32 = nI j := by decide +kernel
  exact key c h
/-- a letter -/
theorem sb_char (hE : EvOk ev) (h : SBd ev w lo S V cap n f) (hc : c < 128) (hn : n + 1 ≤ 60) (h1 : szW w + 1 ≤ ev.2.1) (h2 : slW w + 2 * (120 - cap) ≤ ev.2.2.1) : ∃ (w' : Wd) (V' cap' : Nat) (f' : Nat → Int32), f_J14_append_3 fu ev (mem ev w) S (nI c) = some (some S, mem ev w') ∧ SBd ev w' lo S V' cap' (n + 1) f' ∧ (∀ i : Nat, i < n → f' i = f i) ∧ f' n = nI c ∧ FrS S V w w' ∧ (V' = V ∨ szW w ≤ V') ∧ szW w' ≤ szW w + 1 ∧ cap ≤ cap' ∧ slW w' + 2 * cap ≤ slW w + 2 * cap' := by
  obtain ⟨w1, V1, cap1, f1, e1, h3, a1, a2, a3, a7, a4, a5, a6⟩ := sb_room (fu := fu) (k := 1) hE h hn (by decide) h1 h2
  have dS0 := h.2.2.2.2.2.2.1
  have hlo0 := h.1
  have hS0 := h.2.1
  have lat := sb_lat (fu := fu) hE h3
  obtain ⟨hlo, hS, hV, hSs, hVs, hSV, dS, dV, hn1, hc1, hc16, hf1⟩ := h3
  obtain ⟨w2, hw2⟩ : ∃ w2, w2 = wD w1 S (obB V1 (n + 1)) := ⟨_, rfl⟩
  obtain ⟨w3, hw3⟩ : ∃ w3, w3 = wD w2 V1 (oBy cap1 (fun j => if j = n then nI c else f1 j)) := ⟨_, rfl⟩
  have iS0 : isC (mem ev w) S 13 = some () := o_is (by omega) dS0
  have iS1 : isC (mem ev w1) S 13 = some () := o_is (by omega) dS
  have g3 : gfI (mem ev w) S 13 3 = some (nI n) := o_gI (by omega) dS0 rfl
  have g0 : gfA (mem ev w1) S 13 0 = some (some V1) := o_gA (by omega) dS rfl
  have g4 : gfI (mem ev w1) S 13 3 = some (nI n) := o_gI (by omega) dS rfl
  have pf : pfI ev (mem ev w1) S 13 3 (nI n + 1) = some (mem ev w2) := by
    unfold pfI
    rw [d_pV (k := 3) (show ev.1 + 984 ≤ S by omega) dS (by simp), hw2, nI_1]
    rfl
  have dV2 : dyn w2 V1 = oBy cap1 f1 := by rw [hw2, dn_ne (fun z => hSV z.symm)]; exact dV
  have st : astI ev 3 (mem ev w2) V1 (nI n) (nI c) = some (mem ev w3) := by
    rw [hw3]
    exact by_st (by omega) dV2 (by omega) (by omega) (d127 hc).1 (d127 hc).2
  have n255 : ¬ (255 : Int32) < nI c := by
    rw [Int32.lt_iff_toInt_lt, nI_toInt (by omega), show (255 : Int32).toInt = 255 from by decide]
    omega
  refine ⟨w3, V1, cap1, fun j => if j = n then nI c else f1 j, ?_, ⟨hlo, hS, hV, by rw [hw3, hw2]; exact hSs, by rw [hw3, hw2]; exact hVs, hSV, by rw [hw3, dn_ne hSV, hw2]; exact dn_wD, by rw [hw3]; exact dn_wD, by omega, hc1, hc16, fun i => ?_⟩, fun i hi => ?_, if_pos rfl, ?_, a7, ?_, a5, ?_⟩
  · unfold f_J14_append_3 b_J14_append_3_0
    rw [iS0, Option.bind_some]
    unfold f_J13_append_3 b_J13_append_3_0
    rw [g3, Option.bind_some, iS0, Option.bind_some, nI_1, e1, b2s, iS1, Option.bind_some, lat, b2s, if_neg (by decide)]
    unfold b_J13_append_3_17 f_J21_canEncode b_J21_canEncode_0
    rw [if_neg n255]
    show bd2 (bd2 (some ((1 : Int32), mem ev w1)) _) _ = _
    rw [b2s, if_neg (by decide)]
    unfold b_J13_append_3_24
    rw [g0, Option.bind_some, g4, Option.bind_some, pf, Option.bind_some, Option.bind_some, i8 hc, st]
    rfl
  · show 0 ≤ (if i = n then nI c else f1 i).toInt ∧ (if i = n then nI c else f1 i).toInt ≤ 127
    split
    · exact d127 hc
    · exact hf1 i
  · show (if i = n then nI c else f1 i) = f i
    rw [if_neg (by omega)]
    exact a2 i hi
  · refine FrS_trans a3 (FrS_trans (w' := w2) (V := V1) (V' := V1) ?_ ?_ (Or.inl rfl)) a7
    · rw [hw2]; exact FrS_S
    · rw [hw3]; exact FrS_V
  · have : szW w3 = szW w1 := by rw [hw3, hw2]; rfl
    omega
  · have : slW w3 = slW w1 := by rw [hw3, hw2]; rfl
    omega
/-- a long -/
theorem sb_long (hE : EvOk ev) (hfu : 8 ≤ fu) (h : SBd ev w lo S V cap n f) {v : Int64} (hD : Dg m k) (hv : (s = 0 ∧ v.toInt = (m : Int)) ∨ (s = 1 ∧ v.toInt = -(m : Int) ∧ 0 < m)) (hn : n + (s + k) ≤ 60) (h1 : szW w + 1 ≤ ev.2.1) (h2 : slW w + 2 * (120 - cap) ≤ ev.2.2.1) : ∃ (w' : Wd) (V' cap' : Nat) (f' : Nat → Int32), f_J14_append_5 fu ev (mem ev w) S v = some (some S, mem ev w') ∧ SBd ev w' lo S V' cap' (n + (s + k)) f' ∧ (∀ i : Nat, i < n → f' i = f i) ∧ (∀ i : Nat, n ≤ i → i < n + s → f' i = nI 45) ∧ (∀ i : Nat, n + s ≤ i → i < n + (s + k) → f' i = nI (48 + m / 10 ^ (n + (s + k) - 1 - i) % 10)) ∧ FrS S V w w' ∧ (V' = V ∨ szW w ≤ V') ∧ szW w' ≤ szW w + 1 ∧ cap ≤ cap' ∧ slW w' + 2 * cap ≤ slW w + 2 * cap' := by
  have m6 : m < 1000000 := by unfold Dg at hD; omega
  have k6 : k ≤ 6 ∧ 1 ≤ k := by unfold Dg at hD; omega
  obtain ⟨w1, V1, cap1, f1, e1, h3, a1, a2, a3, a7, a4, a5, a6⟩ := sb_room (fu := fu) (k := s + k) hE h hn (by omega) h1 h2
  have dS0 := h.2.2.2.2.2.2.1
  have hlo0 := h.1
  have hS0 := h.2.1
  have lat := sb_lat (fu := fu) hE h3
  obtain ⟨hlo, hS, hV, hSs, hVs, hSV, dS, dV, hn1, hc1, hc16, hf1⟩ := h3
  obtain ⟨p, hp⟩ : ∃ p, p = n + (s + k) := ⟨_, rfl⟩
  rw [← hp] at e1 a1 ⊢
  have iS0 : isC (mem ev w) S 13 = some () := o_is (by omega) dS0
  have iS1 : isC (mem ev w1) S 13 = some () := o_is (by omega) dS
  have g3 : gfI (mem ev w) S 13 3 = some (nI n) := o_gI (by omega) dS0 rfl
  have g0 : gfA (mem ev w1) S 13 0 = some (some V1) := o_gA (by omega) dS rfl
  have min : (-2147483648 : Int64).toInt = -2147483648 := by decide
  have gcl : ∀ x8 : Int32, L_J31_getChars_86 fu ev fu (mem ev w1) (some V1) (nI p) x8 (-(nI m)) = b_J31_getChars_178 fu ev (mem ev (wD w1 V1 (oBy cap1 (wrF f1 p m k)))) V1 (nI (p - k)) x8 := fun x8 => gc_l hE (by omega) (by omega) 2 fu m k p f1 w1 (by omega) (fun z => absurd z (by decide)) (fun z => absurd z (by decide)) (Nat.le_refl _) hD (by omega) (by omega) dV
  have t32 : ∀ X : Int64, X.toInt = -(m : Int) → X.toInt32 = -(nI m) ∧ (-2147483648 : Int64) < X := fun X hX => by
    refine ⟨?_, ?_⟩
    · apply Int32.toInt_inj.mp
      rw [Int64.toInt_toInt32, hX, ng_i (by omega)]
      exact Int.bmod_eq_of_le (by omega) (by omega)
    · rw [Int64.lt_iff_toInt_lt, hX, min]
      omega
  have L24 : ∀ (X : Int64) (x8 : Int32), X.toInt = -(m : Int) → L_J31_getChars_24 fu ev fu (mem ev w1) X (some V1) (nI p) x8 = b_J31_getChars_178 fu ev (mem ev (wD w1 V1 (oBy cap1 (wrF f1 p m k)))) V1 (nI (p - k)) x8 := fun X x8 hX => by
    obtain ⟨g, hg⟩ : ∃ g, fu = g + 1 := ⟨fu - 1, by omega⟩
    have hL : L_J31_getChars_24 fu ev fu (mem ev w1) X (some V1) (nI p) x8 = L_J31_getChars_24 fu ev (g + 1) (mem ev w1) X (some V1) (nI p) x8 := by rw [← hg]
    rw [hL]
    show b_J31_getChars_24 _ fu ev _ _ _ _ _ = _
    unfold b_J31_getChars_24
    rw [if_pos (t32 X hX).2]
    unfold b_J31_getChars_82
    rw [(t32 X hX).1]
    exact gcl x8
  obtain ⟨f2, hf2⟩ : ∃ f2 : Nat → Int32, f2 = fun j => if n ≤ j ∧ j < n + s then nI 45 else wrF f1 p m k j := ⟨_, rfl⟩
  obtain ⟨w2, hw2⟩ : ∃ w2, w2 = wD w1 V1 (oBy cap1 f2) := ⟨_, rfl⟩
  obtain ⟨w3, hw3⟩ : ∃ w3, w3 = wD w2 S (obB V1 p) := ⟨_, rfl⟩
  have key : ∃ y : Int32, f_J31_stringSize fu ev (mem ev w) v = some (nI (s + k), mem ev w) ∧ f_J31_getChars fu ev (mem ev w1) v (nI p) (some V1) = some (y, mem ev w2) := by
    rcases hv with ⟨rfl, hv⟩ | ⟨rfl, hv, hm0⟩
    · have hneg : (-v).toInt = -(m : Int) := by
        rw [jn (by omega) (by omega), hv]
      refine ⟨nI (p - k), ?_, ?_⟩
      · unfold f_J31_stringSize b_J31_stringSize_0
        rw [if_neg (by rw [Int64.lt_iff_toInt_lt, hv]; show ¬ _ < (0 : Int); omega)]
        unfold b_J31_stringSize_8 b_J31_stringSize_13
        rw [sz_d hfu hneg hD, Int32.add_zero, Nat.zero_add]
      · unfold f_J31_getChars b_J31_getChars_0
        rw [if_pos (by rw [Int64.le_iff_toInt_le, hv]; show (0 : Int) ≤ _; omega)]
        unfold b_J31_getChars_13 b_J31_getChars_14
        rw [if_pos rfl]
        unfold b_J31_getChars_21
        rw [L24 _ _ hneg]
        unfold b_J31_getChars_178
        rw [if_pos rfl, hw2, hf2]
        have : (fun j => if n ≤ j ∧ j < n + 0 then nI 45 else wrF f1 p m k j) = wrF f1 p m k := by
          funext j
          rw [if_neg (by omega)]
        rw [this]
        rfl
    · refine ⟨nI (p - k - 1), ?_, ?_⟩
      · unfold f_J31_stringSize b_J31_stringSize_0
        rw [if_pos (by rw [Int64.lt_iff_toInt_lt, hv]; show _ < (0 : Int); omega)]
        unfold b_J31_stringSize_13
        rw [sz_d hfu hv hD, nI_1, Nat.add_comm]
      · unfold f_J31_getChars b_J31_getChars_0
        rw [if_neg (by rw [Int64.le_iff_toInt_le, hv]; show ¬ (0 : Int) ≤ _; omega)]
        unfold b_J31_getChars_9 b_J31_getChars_14
        rw [if_neg (by decide), L24 _ _ hv]
        unfold b_J31_getChars_178
        rw [if_neg (by decide)]
        unfold b_J31_getChars_183
        have st := by_st (ev := ev) (w := wD w1 V1 (oBy cap1 (wrF f1 p m k))) (V := V1) (p := p - k - 1) (x := 45) (by omega) dn_wD (by omega) (by omega) (by decide) (by decide)
        rw [wD_wD] at st
        rw [s_m1 (by omega), st, Option.bind_some, hw2, hf2]
        have : (fun j => if j = p - k - 1 then 45 else wrF f1 p m k j) = fun j => if n ≤ j ∧ j < n + 1 then nI 45 else wrF f1 p m k j := by
          funext j
          by_cases z : j = p - k - 1
          · rw [if_pos z, if_pos (by omega)]
            rfl
          · rw [if_neg z, if_neg (by omega)]
        rw [this]
        rfl
  obtain ⟨y, k1, k2⟩ := key
  have dS2 : dyn w2 S = obB V1 n := by rw [hw2, dn_ne hSV]; exact dS
  have pf : pfI ev (mem ev w2) S 13 3 (nI p) = some (mem ev w3) := by
    unfold pfI
    rw [d_pV (k := 3) (show ev.1 + 984 ≤ S by omega) dS2 (by simp), hw3]
    rfl
  refine ⟨w3, V1, cap1, f2, ?_, ⟨hlo, hS, hV, by rw [hw3, hw2]; exact hSs, by rw [hw3, hw2]; exact hVs, hSV, by rw [hw3]; exact dn_wD, by rw [hw3, dn_ne (fun z => hSV z.symm), hw2]; exact dn_wD, by omega, hc1, hc16, fun i => ?_⟩, fun i hi => ?_, fun i hi hi2 => ?_, fun i hi hi2 => ?_, ?_, a7, ?_, a5, ?_⟩
  · unfold f_J14_append_5 b_J14_append_5_0
    rw [iS0, Option.bind_some]
    unfold f_J13_append_4 b_J13_append_4_0
    rw [g3, Option.bind_some, k1, b2s, iS0, Option.bind_some, nI_add, ← hp, e1, b2s, iS1, Option.bind_some, lat, b2s, if_neg (by decide)]
    unfold b_J13_append_4_26
    rw [g0, Option.bind_some, k2, b2s]
    unfold b_J13_append_4_52
    rw [pf]
    rfl
  · rw [hf2]
    show 0 ≤ (if n ≤ i ∧ i < n + s then nI 45 else wrF f1 p m k i).toInt ∧ (if n ≤ i ∧ i < n + s then nI 45 else wrF f1 p m k i).toInt ≤ 127
    split
    · decide
    · unfold wrF
      split
      · exact d127 (by omega)
      · exact hf1 i
  · rw [hf2]
    show (if n ≤ i ∧ i < n + s then nI 45 else wrF f1 p m k i) = f i
    rw [if_neg (by omega)]
    unfold wrF
    rw [if_neg (by omega)]
    exact a2 i hi
  · rw [hf2]
    exact if_pos ⟨hi, hi2⟩
  · rw [hf2]
    show (if n ≤ i ∧ i < n + s then nI 45 else wrF f1 p m k i) = _
    rw [if_neg (by omega)]
    unfold wrF
    rw [if_pos (by omega)]
  · refine FrS_trans a3 (FrS_trans (w' := w2) (V := V1) (V' := V1) ?_ ?_ (Or.inl rfl)) a7
    · rw [hw2]; exact FrS_V
    · rw [hw3]; exact FrS_S
  · have : szW w3 = szW w1 := by rw [hw3, hw2]; rfl
    omega
  · have : slW w3 = slW w1 := by rw [hw3, hw2]; rfl
    omega
end XSE
