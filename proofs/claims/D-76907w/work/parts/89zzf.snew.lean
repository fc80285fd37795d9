/-! THE PAPER: a digit; the text's beginning and end -/
section XSF
variable {ev : Ev} {w w' w'' : Wd} {fu lo S V cap n k i m c d p s : Nat} {f : Nat → Int32} {x : Int32} {σ : Mm}
/-- an int of one digit -/
theorem sb_dig (hE : EvOk ev) (hfu : 3 ≤ fu) (h : SBd ev w lo S V cap n f) (hd : d < 10) (hn : n + 1 ≤ 60) (h1 : szW w + 1 ≤ ev.2.1) (h2 : slW w + 2 * (120 - cap) ≤ ev.2.2.1) : ∃ (w' : Wd) (V' cap' : Nat) (f' : Nat → Int32), f_J14_append_2 fu ev (mem ev w) S (nI d) = some (some S, mem ev w') ∧ SBd ev w' lo S V' cap' (n + 1) f' ∧ (∀ i : Nat, i < n → f' i = f i) ∧ f' n = nI (48 + d) ∧ FrS S V w w' ∧ (V' = V ∨ szW w ≤ V') ∧ szW w' ≤ szW w + 1 ∧ cap ≤ cap' ∧ slW w' + 2 * cap ≤ slW w + 2 * cap' := by
  obtain ⟨w1, V1, cap1, f1, e1, h3, a1, a2, a3, a7, a4, a5, a6⟩ := sb_room (fu := fu) (k := 1) hE h hn (by decide) h1 h2
  have dS0 := h.2.2.2.2.2.2.1
  have hlo0 := h.1
  have hS0 := h.2.1
  have lat := sb_lat (fu := fu) hE h3
  obtain ⟨hlo, hS, hV, hSs, hVs, hSV, dS, dV, hn1, hc1, hc16, hf1⟩ := h3
  obtain ⟨w2, hw2⟩ : ∃ w2, w2 = wD w1 V1 (oBy cap1 (fun j => if j = n then nI (48 + d) else f1 j)) := ⟨_, rfl⟩
  obtain ⟨w3, hw3⟩ : ∃ w3, w3 = wD w2 S (obB V1 (n + 1)) := ⟨_, rfl⟩
  have iS0 : isC (mem ev w) S 13 = some () := o_is (by omega) dS0
  have iS1 : isC (mem ev w1) S 13 = some () := o_is (by omega) dS
  have g3 : gfI (mem ev w) S 13 3 = some (nI n) := o_gI (by omega) dS0 rfl
  have g0 : gfA (mem ev w1) S 13 0 = some (some V1) := o_gA (by omega) dS rfl
  obtain ⟨g, hg⟩ : ∃ g, fu = g + 1 := ⟨fu - 1, by omega⟩
  have k1 : f_J32_stringSize fu ev (mem ev w) (nI d) = some (1, mem ev w) := by
    unfold f_J32_stringSize b_J32_stringSize_0
    rw [if_neg (nI_pos (by omega))]
    unfold b_J32_stringSize_6 b_J32_stringSize_11
    have hL : L_J32_stringSize_16 fu ev fu (mem ev w) (-(nI d)) 0 (-10) 1 = L_J32_stringSize_16 fu ev (g + 1) (mem ev w) (-(nI d)) 0 (-10) 1 := by rw [← hg]
    rw [hL]
    show b_J32_stringSize_16 _ fu ev _ _ _ _ _ = _
    unfold b_J32_stringSize_16 b_J32_stringSize_22 b_J32_stringSize_27
    rw [if_neg (by decide), if_neg]
    · rfl
    · rw [Int32.le_iff_toInt_le, ng_i (by omega), show (-10 : Int32).toInt = -10 from by decide]
      omega
  obtain ⟨o1, o2⟩ := ones (m := d) (w := w1) hE (by omega)
  have st : astI ev 3 (mem ev w1) V1 (nI n) (nI (48 + d % 10)) = some (mem ev w2) := by
    rw [hw2, show d % 10 = d by omega]
    exact by_st (by omega) dV (by omega) (by omega) (d127 (by omega)).1 (d127 (by omega)).2
  have k2 : f_J32_getChars fu ev (mem ev w1) (nI d) (nI (n + 1)) (some V1) = some (nI n, mem ev w2) := by
    unfold f_J32_getChars b_J32_getChars_0
    rw [if_pos (by rw [Int32.le_iff_toInt_le, nI_toInt (by omega)]; show (0 : Int) ≤ _; omega)]
    unfold b_J32_getChars_11 b_J32_getChars_12
    rw [if_pos rfl]
    unfold b_J32_getChars_19
    have hL : L_J32_getChars_22 fu ev fu (mem ev w1) (-(nI d)) (some V1) (nI (n + 1)) 0 = L_J32_getChars_22 fu ev (g + 1) (mem ev w1) (-(nI d)) (some V1) (nI (n + 1)) 0 := by rw [← hg]
    rw [hL]
    show b_J32_getChars_22 _ fu ev _ _ _ _ _ = _
    unfold b_J32_getChars_22
    rw [if_pos ((ng_lt (by omega)).mpr (by omega))]
    unfold b_J32_getChars_72
    rw [o1, Option.bind_some, Option.bind_some, Int32.neg_neg, o2, Option.bind_some, Option.bind_some, s_m1 (by omega), show n + 1 - 1 = n by omega, st, Option.bind_some, if_pos ((ng_9 (by omega)).mpr hd)]
    unfold b_J32_getChars_104
    rw [if_pos rfl]
    rfl
  have dS2 : dyn w2 S = obB V1 n := by rw [hw2, dn_ne hSV]; exact dS
  have pf : pfI ev (mem ev w2) S 13 3 (nI (n + 1)) = some (mem ev w3) := by
    unfold pfI
    rw [d_pV (k := 3) (show ev.1 + 984 ≤ S by omega) dS2 (by simp), hw3]
    rfl
  refine ⟨w3, V1, cap1, fun j => if j = n then nI (48 + d) else f1 j, ?_, ⟨hlo, hS, hV, by rw [hw3, hw2]; exact hSs, by rw [hw3, hw2]; exact hVs, hSV, by rw [hw3]; exact dn_wD, by rw [hw3, dn_ne (fun z => hSV z.symm), hw2]; exact dn_wD, by omega, hc1, hc16, fun i => ?_⟩, fun i hi => ?_, if_pos rfl, ?_, a7, ?_, a5, ?_⟩
  · unfold f_J14_append_2 b_J14_append_2_0
    rw [iS0, Option.bind_some]
    unfold f_J13_append_2 b_J13_append_2_0
    rw [g3, Option.bind_some, k1, b2s, iS0, Option.bind_some, nI_1, e1, b2s, iS1, Option.bind_some, lat, b2s, if_neg (by decide)]
    unfold b_J13_append_2_24
    rw [g0, Option.bind_some, k2, b2s]
    unfold b_J13_append_2_48
    rw [pf]
    rfl
  · show 0 ≤ (if i = n then nI (48 + d) else f1 i).toInt ∧ (if i = n then nI (48 + d) else f1 i).toInt ≤ 127
    split
    · exact d127 (by omega)
    · exact hf1 i
  · show (if i = n then nI (48 + d) else f1 i) = f i
    rw [if_neg (by omega)]
    exact a2 i hi
  · refine FrS_trans a3 (FrS_trans (w' := w2) (V := V1) (V' := V1) ?_ ?_ (Or.inl rfl)) a7
    · rw [hw2]; exact FrS_V
    · rw [hw3]; exact FrS_S
  · have : szW w3 = szW w1 := by rw [hw3, hw2]; rfl
    omega
  · have : slW w3 = slW w1 := by rw [hw3, hw2]; rfl
    omega
theorem d_nwB (hz : ev.1 + 984 ≤ szW w) (hn : n ≤ 1000) (h1 : szW w + 1 ≤ ev.2.1) (h2 : slW w + n ≤ ev.2.2.1) : nwA ev (mem ev w) 3 (nI n) 1 (.inl fun _ => 0) = some (szW w, mem ev (nwW w n (.inl (3, n, .inl fun _ => 0)))) := by
  unfold nwA
  have q1 : (mem ev w).2.1 = szW w := rfl
  have q2 : (mem ev w).2.2 = slW w := rfl
  rw [q1, q2, nI_clamp (by omega), if_pos ⟨nI_pos (by omega), by omega, h1, h2⟩]
  refine congrArg (fun q => some (szW w, q)) ?_
  refine Prod.ext ?_ rfl
  have := congrArg Prod.fst (mem_upd (ev := ev) (w := w) (a := szW w) (o := some (.inl (3, n, .inl fun _ => 0))) hz)
  exact this
theorem pfB0 {l : List Value} {ci L k : Nat} (h : ev.1 + 984 ≤ L) (hd : dyn w L = some (.inr (ci, l))) (hk : k < l.length) : pfB ev (mem ev w) L ci k 0 = some (mem ev (wD w L (some (.inr (ci, l.set k (.int 0)))))) := by
  unfold pfB
  rw [if_pos (by decide)]
  exact d_pV h hd hk
/-- a new text, without letters -/
theorem sb_new (hE : EvOk ev) (hz : ev.1 + 984 ≤ szW w) (h1 : szW w + 2 ≤ ev.2.1) (h2 : slW w + 20 ≤ ev.2.2.1) : ∃ (w1 w' : Wd), nwO ev (mem ev w) 13 4 [.null, .int 0, .int 0, .int 0] = some (szW w, mem ev w1) ∧ f_J14_init fu ev (mem ev w1) (szW w) = some ((), mem ev w') ∧ SBd ev w' (szW w) (szW w) (szW w + 1) 16 0 (fun _ => 0) ∧ Fr0 (szW w) w w' ∧ szW w' = szW w + 2 ∧ slW w' = slW w + 20 := by
  obtain ⟨S, hS⟩ : ∃ S, S = szW w := ⟨_, rfl⟩
  obtain ⟨w1, hw1⟩ : ∃ w1, w1 = nwW w 4 (.inr (13, [.null, .int 0, .int 0, .int 0])) := ⟨_, rfl⟩
  obtain ⟨w2, hw2⟩ : ∃ w2, w2 = nwW w1 16 (.inl (3, 16, .inl fun _ => 0)) := ⟨_, rfl⟩
  obtain ⟨w3, hw3⟩ : ∃ w3, w3 = wD w2 S (some (.inr (13, [.ref (S + 1), .int 0, .int 0, .int 0]))) := ⟨_, rfl⟩
  obtain ⟨w4, hw4⟩ : ∃ w4, w4 = wD w3 S (obB (S + 1) 0) := ⟨_, rfl⟩
  have z1 : szW w1 = S + 1 := by rw [hw1, hS]; rfl
  have l1 : slW w1 = slW w + 4 := by rw [hw1]; rfl
  have g3 : gsI ev 3 = some 1 := by unfold gsI; rw [hE.1.2.2.2.1]
  have e1 : nwO ev (mem ev w) 13 4 [.null, .int 0, .int 0, .int 0] = some (szW w, mem ev w1) := by
    rw [hw1]
    exact d_nwO hz (by show szW w + 1 ≤ _; omega) (by show slW w + 4 ≤ _; omega)
  have e2 : nwA ev (mem ev w1) 3 (16 : Int32) 1 (.inl fun _ => 0) = some (S + 1, mem ev w2) := by
    rw [hw2, ← z1]
    exact d_nwB (n := 16) (by omega) (by decide) (by omega) (by omega)
  have d2 : dyn w2 S = some (.inr (13, [.null, .int 0, .int 0, .int 0])) := by
    rw [hw2]
    refine ((Nw_new (w := w1)).2.2.2.2.2.2 S (by omega)).trans ?_
    rw [hw1, hS]
    exact dn_new
  have d2V : dyn w2 (S + 1) = oBy 16 (fun _ => 0) := by
    rw [hw2, ← z1]
    exact dn_new
  have e3 : pfA ev (mem ev w2) S 13 0 (some (S + 1)) = some (mem ev w3) := by
    unfold pfA
    rw [d_pV (k := 0) (by omega) d2 (by simp), hw3]
    rfl
  have d3 : dyn w3 S = some (.inr (13, [.ref (S + 1), .int 0, .int 0, .int 0])) := by rw [hw3]; exact dn_wD
  have e4 : pfB ev (mem ev w3) S 13 1 0 = some (mem ev w4) := by
    rw [pfB0 (by omega) d3 (by simp), hw4]
    rfl
  have z4 : szW w4 = S + 2 := by rw [hw4, hw3, hw2]; show szW w1 + 1 = _; omega
  have l4 : slW w4 = slW w + 20 := by rw [hw4, hw3, hw2]; show slW w1 + 16 = _; omega
  rw [← hS]
  rw [← hS] at e1
  refine ⟨w1, w4, e1, ?_, ⟨by omega, Nat.le_refl _, by omega, by omega, by omega, by omega, by rw [hw4]; exact dn_wD, by rw [hw4, dn_ne (by omega), hw3, dn_ne (by omega)]; exact d2V, by decide, by decide, by decide, fun _ => (by decide : 0 ≤ (0 : Int32).toInt ∧ (0 : Int32).toInt ≤ 127)⟩, ?_, z4, l4⟩
  · unfold f_J14_init b_J14_init_0 f_J13_init b_J13_init_0
    rw [g3, Option.bind_some, if_neg (by decide)]
    unfold b_J13_init_10
    rw [e2, b2s, e3, Option.bind_some, e4]
    rfl
  · have f1 : Fr0 S w w1 := by rw [hw1]; exact Fr0_nw (by omega)
    have f2 : Fr0 S w1 w2 := by rw [hw2]; exact Fr0_nw (by omega)
    have f3 : Fr0 S w2 w3 := by rw [hw3]; exact Fr0_wD (Nat.le_refl _)
    have f4 : Fr0 S w3 w4 := by rw [hw4]; exact Fr0_wD (Nat.le_refl _)
    exact Fr0_trans f1 (Fr0_trans f2 (Fr0_trans f3 f4))
/-- the text becomes a string -/
theorem sb_str (hE : EvOk ev) (h : SBd ev w lo S V cap n f) (h1 : szW w + 2 ≤ ev.2.1) (h2 : slW w + (n + 4) ≤ ev.2.2.1) : ∃ (w' : Wd) (a b : Nat) (g : Nat → Int32), f_J14_toString fu ev (mem ev w) S = some (some a, mem ev w') ∧ dyn w' a = some (.inr (14, [.ref b, .int 0, .int 0, .int 0])) ∧ dyn w' b = oBy n g ∧ (∀ i : Nat, i < n → g i = f i) ∧ ev.1 + 984 ≤ a ∧ ev.1 + 984 ≤ b ∧ a < szW w' ∧ b < szW w' ∧ Fr0 lo w w' ∧ szW w' = szW w + 2 ∧ slW w' = slW w + (n + 4) := by
  have lat0 := fun (u : Wd) (z : SBd ev u lo S V cap n f) => sb_lat (fu := fu) hE z
  obtain ⟨hlo, hS, hV, hSs, hVs, hSV, dS, dV, hn, hc, hc16, hf⟩ := id h
  obtain ⟨a, ha⟩ : ∃ a, a = szW w := ⟨_, rfl⟩
  obtain ⟨w1, hw1⟩ : ∃ w1, w1 = nwW w 4 (.inr (14, [.null, .int 0, .int 0, .int 0])) := ⟨_, rfl⟩
  obtain ⟨w2, hw2⟩ : ∃ w2, w2 = wD w1 a (some (.inr (14, [.null, .int 0, .int 0, .int 0]))) := ⟨_, rfl⟩
  have z1 : szW w1 = a + 1 := by rw [hw1, ha]; rfl
  have l1 : slW w1 = slW w + 4 := by rw [hw1]; rfl
  have d1 : ∀ c : Nat, c < a → dyn w1 c = dyn w c := fun c hc => by rw [hw1]; exact (Nw_new (w := w)).2.2.2.2.2.2 c (by omega)
  have d1a : dyn w1 a = some (.inr (14, [.null, .int 0, .int 0, .int 0])) := by rw [hw1, ha]; exact dn_new
  have z2 : szW w2 = a + 1 := by rw [hw2]; exact z1
  have l2 : slW w2 = slW w + 4 := by rw [hw2]; exact l1
  have d2a : dyn w2 a = some (.inr (14, [.null, .int 0, .int 0, .int 0])) := by rw [hw2]; exact dn_wD
  have d2 : ∀ c : Nat, c < a → dyn w2 c = dyn w c := fun c hc => by rw [hw2, dn_ne (by omega)]; exact d1 c hc
  have s1 : SBd ev w1 lo S V cap n f := ⟨hlo, hS, hV, by omega, by omega, hSV, (d1 S (by omega)).trans dS, (d1 V (by omega)).trans dV, hn, hc, hc16, hf⟩
  have dS1 : dyn w1 S = obB V n := (d1 S (by omega)).trans dS
  have iS1 : isC (mem ev w1) S 13 = some () := o_is (by omega) dS1
  have gv : f_J13_getValue fu ev (mem ev w1) S = some (some V, mem ev w1) := by
    unfold f_J13_getValue b_J13_getValue_0
    rw [show gfA (mem ev w1) S 13 0 = some (some V) from o_gA (by omega) dS1 rfl]
    rfl
  have gl : f_J14_length fu ev (mem ev w1) S = some (nI n, mem ev w1) := by
    unfold f_J14_length b_J14_length_0
    rw [iS1, Option.bind_some]
    unfold f_J13_length b_J13_length_0
    rw [show gfI (mem ev w1) S 13 3 = some (nI n) from o_gI (by omega) dS1 rfl]
    rfl
  have e0 : nwO ev (mem ev w) 14 4 [.null, .int 0, .int 0, .int 0] = some (a, mem ev w1) := by
    rw [hw1, ha]
    exact d_nwO (by show ev.1 + 984 ≤ szW w; omega) (by show szW w + 1 ≤ _; omega) (by show slW w + 4 ≤ _; omega)
  have e1 : pfB ev (mem ev w1) a 14 1 0 = some (mem ev w2) := by
    rw [pfB0 (by omega) d1a (by simp), hw2]
    rfl
  have dV2 : dyn w2 V = oBy cap f := (d2 V (by omega)).trans dV
  have ln := by_len (ev := ev) (w := w2) (V := V) (by omega) dV2
  have hall : ∀ q : Nat, bytesAll f 0 q = true := fun q => by
    unfold bytesAll
    rw [List.all_eq_true]
    intro i _
    have := hf (0 + i)
    rw [Bool.and_eq_true, decide_eq_true_eq, decide_eq_true_eq, Int32.le_iff_toInt_le, Int32.le_iff_toInt_le]
    show (-128 : Int) ≤ _ ∧ _ ≤ (127 : Int)
    omega
  have cr : ∃ (w3 : Wd) (g : Nat → Int32), f_J20_copyOfRange fu ev (mem ev w2) (some V) 0 (nI n) = some (some (a + 1), mem ev w3) ∧ dyn w3 (a + 1) = oBy n g ∧ (∀ i : Nat, i < n → g i = f i) ∧ Fr0 (a + 1) w2 w3 ∧ szW w3 = a + 2 ∧ slW w3 = slW w + (n + 4) := by
    by_cases c : n = cap
    · subst c
      obtain ⟨w3, hw3⟩ : ∃ w3, w3 = nwW w2 n (.inl (3, n, .inl f)) := ⟨_, rfl⟩
      have cl : cloB ev (mem ev w2) V = some (a + 1, mem ev w3) := by
        unfold cloB
        rw [mem_dyn (show ev.1 + 984 ≤ V by omega)]
        have q1 : w2.2.2.2.1 V = some (.inl (3, n, .inl f)) := dV2
        rw [q1]
        have q2 : (mem ev w2).2.1 = a + 1 := z2
        have q3 : (mem ev w2).2.2 = slW w + 4 := l2
        show (if _ then _ else _) = _
        rw [q2, q3, if_pos ⟨rfl, by omega, hall n, by omega, by omega⟩]
        refine congrArg (fun q => some (a + 1, q)) ?_
        rw [hw3]
        refine Prod.ext ?_ ?_
        · have := congrArg Prod.fst (mem_upd (ev := ev) (w := w2) (a := a + 1) (o := some (.inl (3, n, .inl f))) (by omega))
          refine this.trans ?_
          rw [← z2]
          rfl
        · show (a + 1 + 1, slW w + 4 + n) = (szW w2 + 1, slW w2 + n)
          rw [z2, l2]
      have d3 : dyn w3 (a + 1) = oBy n f := by rw [hw3, ← z2]; exact dn_new
      have ck : ckA ev (mem ev w3) 3 (a + 1) = some () := by
        unfold ckA
        rw [mem_dyn (show ev.1 + 984 ≤ a + 1 by omega)]
        have q1 : w3.2.2.2.1 (a + 1) = some (.inl (3, n, .inl f)) := d3
        rw [q1]
        exact if_pos ⟨rfl, by omega⟩
      refine ⟨w3, f, ?_, d3, fun _ _ => rfl, by rw [hw3]; exact Fr0_nw (by omega), by rw [hw3]; show szW w2 + 1 = _; omega, by rw [hw3]; show slW w2 + n = _; omega⟩
      unfold f_J20_copyOfRange b_J20_copyOfRange_0
      rw [if_pos rfl]
      unfold b_J20_copyOfRange_4
      rw [Option.bind_some, ln, Option.bind_some, if_pos rfl]
      unfold b_J20_copyOfRange_17
      rw [cl, b2s, ck]
      rfl
    · obtain ⟨w3, hw3⟩ : ∃ w3, w3 = nwW w2 n (.inl (3, n, .inl fun _ => 0)) := ⟨_, rfl⟩
      obtain ⟨w4, hw4⟩ : ∃ w4, w4 = wD w3 (a + 1) (oBy n (va_cpy f (fun _ => 0) 0 0 n)) := ⟨_, rfl⟩
      have en : nwA ev (mem ev w2) 3 (nI n) 1 (.inl fun _ => 0) = some (a + 1, mem ev w3) := by
        rw [hw3, ← z2]
        exact d_nwB (by omega) (by omega) (by omega) (by omega)
      have dV3 : dyn w3 V = oBy cap f := by
        rw [hw3]
        exact ((Nw_new (w := w2)).2.2.2.2.2.2 V (by omega)).trans dV2
      have d3 : dyn w3 (a + 1) = oBy n (fun _ => 0) := by rw [hw3, ← z2]; exact dn_new
      have cp : cpyB ev (mem ev w3) V (0 : Int32) (a + 1) (0 : Int32) (nI n) = some (mem ev w4) := by
        unfold cpyB
        rw [mem_dyn (show ev.1 + 984 ≤ V by omega), mem_dyn (show ev.1 + 984 ≤ a + 1 by omega)]
        have q1 : w3.2.2.2.1 V = some (.inl (3, cap, .inl f)) := dV3
        have q2 : w3.2.2.2.1 (a + 1) = some (.inl (3, n, .inl fun _ => 0)) := d3
        rw [q1, q2]
        have c3 : ¬ nI n < 0 := nI_pos (by omega)
        have z0 : (0 : Int32).toNatClampNeg = 0 := by decide
        have hs : 0 + n ≤ cap := by omega
        have hd : 0 + n ≤ n := by omega
        show (if _ then _ else _) = _
        rw [nI_clamp (n := n) (by omega), z0, if_pos ⟨⟨rfl, rfl, by omega⟩, by simp only [c3, hs, hd]; decide, hall n⟩, mem_upd (by omega), hw4]
        rfl
      have ck : f_J20_checkLength fu ev (mem ev w2) 0 (nI n) = some ((), mem ev w2) := by
        unfold f_J20_checkLength b_J20_checkLength_0
        rw [if_pos (by rw [Int32.le_iff_toInt_le, nI_toInt (by omega)]; show (0 : Int) ≤ _; omega)]
        rfl
      refine ⟨w4, va_cpy f (fun _ => 0) 0 0 n, ?_, by rw [hw4]; exact dn_wD, fun i hi => ?_, ?_, by rw [hw4, hw3]; show szW w2 + 1 = _; omega, by rw [hw4, hw3]; show slW w2 + n = _; omega⟩
      · unfold f_J20_copyOfRange b_J20_copyOfRange_0
        rw [if_pos rfl]
        unfold b_J20_copyOfRange_4
        rw [Option.bind_some, ln, Option.bind_some, if_neg (nI_ne (by omega) (by omega) c)]
        unfold b_J20_copyOfRange_10 f_J20_copyOfRangeByte b_J20_copyOfRangeByte_0
        have lt : nI n < nI cap := by
          rw [Int32.lt_iff_toInt_lt, nI_toInt (by omega), nI_toInt (by omega)]
          omega
        rw [ck, b2s, Int32.sub_zero, en, b2s, Option.bind_some, by_len (by omega) dV3, Option.bind_some, Int32.sub_zero, if_pos lt, cp]
        rfl
      · unfold va_cpy
        rw [if_pos (by omega), show 0 + (i - 0) = i by omega]
      · have f1 : Fr0 (a + 1) w2 w3 := by rw [hw3]; exact Fr0_nw (by omega)
        have f2 : Fr0 (a + 1) w3 w4 := by rw [hw4]; exact Fr0_wD (Nat.le_refl _)
        exact Fr0_trans f1 f2
  obtain ⟨w3, g, c1, c2, c3, c4, c5, c6⟩ := cr
  have d3a : dyn w3 a = some (.inr (14, [.null, .int 0, .int 0, .int 0])) := (c4.2.2.2.2 a (by omega)).trans d2a
  obtain ⟨w5, hw5⟩ : ∃ w5, w5 = wD w3 a (some (.inr (14, [.ref (a + 1), .int 0, .int 0, .int 0]))) := ⟨_, rfl⟩
  have e5 : pfA ev (mem ev w3) a 14 0 (some (a + 1)) = some (mem ev w5) := by
    unfold pfA
    rw [d_pV (k := 0) (by omega) d3a (by simp), hw5]
    rfl
  have z5 : szW w5 = a + 2 := by rw [hw5]; exact c5
  refine ⟨w5, a, a + 1, g, ?_, by rw [hw5]; exact dn_wD, by rw [hw5, dn_ne (by omega)]; exact c2, c3, by omega, by omega, by omega, by omega, ?_, by omega, by rw [hw5]; exact c6⟩
  · unfold f_J14_toString b_J14_toString_0
    rw [e0, b2s]
    unfold f_J15_init b_J15_init_0 f_J15_init_2 b_J15_init_2_0
    rw [Option.bind_some, iS1, Option.bind_some, gv, b2s, iS1, Option.bind_some, gl, b2s, iS1, Option.bind_some, lat0 w1 s1, b2s, if_neg (by decide)]
    unfold b_J15_init_2_22
    rw [e1, Option.bind_some, c1, b2s, e5]
    rfl
  · have f1 : Fr0 lo w w1 := by rw [hw1]; exact Fr0_nw (by omega)
    have f2 : Fr0 lo w1 w2 := by rw [hw2]; exact Fr0_wD (by omega)
    have f3 : Fr0 lo w2 w3 := ⟨c4.1, c4.2.1, c4.2.2.1, c4.2.2.2.1, fun c hc => c4.2.2.2.2 c (by omega)⟩
    have f5 : Fr0 lo w3 w5 := by rw [hw5]; exact Fr0_wD (by omega)
    exact Fr0_trans f1 (Fr0_trans f2 (Fr0_trans f3 f5))
end XSF
