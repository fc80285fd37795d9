/-! SIX NUMBERS IN ORDER: the class's answer -/
section XAL
variable {ev : Ev} {w w' w'' : Wd} {fu a A L n c t i j k M T : Nat} {K : Option Nat} {x : Int64} {e : Nat → Option Nat} {ad q : Nat → Nat} {b : Nat → Int64}
theorem ALs_Nw (h : ALs ev w L A n e ad b) (f : Nw w w' c t) : ALs ev w' L A n e ad b := by
  obtain ⟨h1, h2, h3, h4, h5, h6, h7, h8⟩ := h
  have hs := f.2.2.2.1
  exact ⟨h1, h2, by omega, by omega, h5, (f.2.2.2.2.2.2 L h3).trans h6, (f.2.2.2.2.2.2 A h4).trans h7, fun j hj => ⟨(h8 j hj).1, (h8 j hj).2.1, (h8 j hj).2.2.1, by have := (h8 j hj).2.2.2.1; omega, (Nw_mem f (h8 j hj).2.2.2.1).trans (h8 j hj).2.2.2.2⟩⟩
theorem fil_ls (hE : EvOk ev) {x2 : Int32} : ∀ (d n g : Nat) (w : Wd) (e : Nat → Option Nat) (ad : Nat → Nat), n + d = 6 → d < g → 0 < n → ALs ev w L A n e ad b → (∀ i : Nat, i < 6 → w.1 37 i = b i) → szW w + d ≤ ev.2.1 → slW w + d ≤ ev.2.2.1 → ∃ (w' : Wd) (e' : Nat → Option Nat) (ad' : Nat → Nat), ALs ev w' L A 6 e' ad' b ∧ w'.1 = w.1 ∧ w'.2.1 = w.2.1 ∧ w'.2.2.1 = w.2.2.1 ∧ szW w ≤ szW w' ∧ szW w' ≤ szW w + d ∧ slW w' ≤ slW w + d ∧ (∀ c : Nat, c ≠ L → c ≠ A → c < szW w → dyn w' c = dyn w c) ∧ L_X0_blunt_176 fu ev g (mem ev w) x2 L (ev.1 + 37) 6 (nI n) = b_X0_blunt_209 fu ev (mem ev w') x2 L := by
  intro d
  induction d with
  | zero =>
    intro n g w e ad hn hg h0 hA hb h1 h2
    obtain ⟨g, rfl⟩ : ∃ g', g = g' + 1 := ⟨g - 1, by omega⟩
    obtain rfl : n = 6 := by omega
    refine ⟨w, e, ad, hA, rfl, rfl, rfl, Nat.le_refl _, Nat.le_refl _, Nat.le_refl _, fun _ _ _ _ => rfl, ?_⟩
    show b_X0_blunt_176 _ fu ev _ _ _ _ _ _ = _
    unfold b_X0_blunt_176
    rw [if_pos (by decide)]
  | succ d ih =>
    intro n g w e ad hn hg h0 hA hb h1 h2
    obtain ⟨g, rfl⟩ : ∃ g', g = g' + 1 := ⟨g - 1, by omega⟩
    have n6 : ¬ (6 : Int32) ≤ nI n := fun z => absurd ((s_le (i := 6) (by decide) (by omega)).mp z) (by omega)
    have hL := hA.1
    have hLs := hA.2.2.1
    have hAb := hA.2.1
    have hAs := hA.2.2.2.1
    obtain ⟨a, w1, v1, v2, v3, v4⟩ := v_of (fu := fu) (w := w) (x := b n) hE (by omega) (by omega) (by omega)
    have hs1 := v2.2.2.2.1
    have hs2 := v2.2.2.2.2.1
    have hs3 := v2.2.2.2.2.2.1
    have A1 := ALs_Nw hA v2
    obtain ⟨w2, e2, a1, a2, a3, a4, a5, a6, a7, a8⟩ := al_add (fu := fu) (n := n) (x := b n) (by omega) A1 v3 (by omega) (by omega) (by omega) rfl h0
    obtain ⟨w3, e3, ad3, b1, b2, b3, b4, b5, b6, b7, b8, b9⟩ := ih (n + 1) g w2 e2 _ (by omega) (by omega) (by omega) a2 (fun i hi => by rw [a3, v2.1]; exact hb i hi) (by omega) (by omega)
    refine ⟨w3, e3, ad3, b1, b2.trans (a3.trans v2.1), b3.trans (a4.trans v2.2.1), b4.trans (a5.trans v2.2.2.1), by omega, by omega, by omega, fun c c1 c2 c3 => ((b8 c c1 c2 (by omega)).trans (a8 c c1 c2)).trans (v2.2.2.2.2.2.2 c c3), ?_⟩
    rw [← b9]
    show b_X0_blunt_176 _ fu ev _ _ _ _ _ _ = _
    unfold b_X0_blunt_176 b_X0_blunt_183
    rw [if_neg n6, rdJ (N := 6) rfl (by decide) (by decide) (by omega), Option.bind_some, hb n (by omega), v1, b2s, l_is hL A1.2.2.2.2.2.1, Option.bind_some, a1, b2s, nI_1]
theorem PQ_id : PQ (fun i => i) := ⟨fun _ h => h, fun _ => rfl⟩
theorem srt_get (hE : EvOk ev) (hf : 10 ≤ fu) (hk : k < 6) (h : ALs ev w L A 6 e ad b) : ∃ (w' : Wd) (q : Nat → Nat), PQ q ∧ SOq b q 6 ∧ w'.1 = w.1 ∧ w'.2.1 = w.2.1 ∧ w'.2.2.1 = w.2.2.1 ∧ szW w' = szW w ∧ slW w' = slW w ∧ (∀ c : Nat, c ≠ L → c ≠ A → dyn w' c = dyn w c) ∧ b_X0_blunt_209 fu ev (mem ev w) (nI k) L = some (b (q k), mem ev w') := by
  obtain ⟨hL, hA, hLs, hAs, hLA, dL, dA, hj⟩ := h
  have ws : wD w A (oAr e) = w := wD_self dA
  have lo : Lo ev w A ad b := ⟨hA, fun i hi => ⟨(hj i hi).2.1, (hj i hi).2.2.2.2⟩⟩
  obtain ⟨e', q, p1, p2, p3, p4⟩ := X_sort (fu := fu) (q := fun i => i) hE hf lo PQ_id (fun j hjj => (hj j hjj).1)
  rw [ws] at p4
  obtain ⟨w1, hw1⟩ : ∃ w1, w1 = wD w A (oAr e') := ⟨_, rfl⟩
  rw [← hw1] at p4
  have d1 : dyn w1 L = some (.inr (11, [.int (nI 6), .ref A, .int (nI 6)])) := by rw [hw1, dn_ne hLA]; exact dL
  obtain ⟨w2, hw2⟩ : ∃ w2, w2 = wD w1 L (some (.inr (11, [.int (nI 6 + 1), .ref A, .int (nI 6)]))) := ⟨_, rfl⟩
  have d2 : dyn w2 L = some (.inr (11, [.int (nI 6 + 1), .ref A, .int (nI 6)])) := by rw [hw2]; exact dn_wD
  have d2A : dyn w2 A = oAr e' := by rw [hw2, dn_ne (fun z => hLA z.symm), hw1]; exact dn_wD
  have w2s : wD w2 A (oAr e') = w2 := wD_self d2A
  have lo2 : Lo ev w2 A ad b := ⟨hA, fun i hi => ⟨(hj i hi).2.1, by rw [hw2, mD_ne (hj i hi).2.2.1, hw1, mD_ne (hj i hi).2.1]; exact (hj i hi).2.2.2.2⟩⟩
  have e1 : gfI (mem ev w) L 11 0 = some (nI 6) := l_gI hL dL rfl
  have e2 : gfA (mem ev w) L 11 1 = some (some A) := l_gA hL dL rfl
  have e3 : gfI (mem ev w) L 11 2 = some (nI 6) := l_gI hL dL rfl
  have e4 : gfI (mem ev w1) L 11 0 = some (nI 6) := l_gI hL d1 rfl
  have e5 : pfI ev (mem ev w1) L 11 0 (nI 6 + 1) = some (mem ev w2) := by
    unfold pfI
    rw [d_pV (k := 0) hL d1 (by simp), hw2]
    rfl
  have srt : f_J41_sort fu ev (mem ev w) (some L) = some ((), mem ev w2) := by
    unfold f_J41_sort b_J41_sort_0
    rw [Option.bind_some, l_is hL dL, Option.bind_some]
    unfold f_J40_sort b_J40_sort_0
    rw [e1, Option.bind_some, e2, Option.bind_some, e3, Option.bind_some, show nI 6 = (6 : Int32) from rfl, p4, b2s, e4, Option.bind_some, if_pos (show nI 6 = (6 : Int32) from rfl)]
    unfold b_J40_sort_34
    rw [e4, Option.bind_some, e5]
    rfl
  have hq := p1.1 k hk
  have g2 : gfI (mem ev w2) L 11 2 = some (nI 6) := l_gI hL d2 rfl
  have g3 : gfA (mem ev w2) L 11 1 = some (some A) := l_gA hL d2 rfl
  have n0 : ¬ nI k < (0 : Int32) := nI_pos (by omega)
  have n6 : nI k < nI 6 := by
    rw [Int32.lt_iff_toInt_lt, nI_toInt (by omega), nI_toInt (by decide)]
    omega
  have ck : f_J7_checkIndex fu ev (mem ev w2) (nI k) (nI 6) = some (nI k, mem ev w2) := by
    unfold f_J7_checkIndex b_J7_checkIndex_0 f_J8_checkIndex b_J8_checkIndex_0 b_J8_checkIndex_4 b_J8_checkIndex_16
    rw [if_neg n0, if_pos n6]
    rfl
  have ld : aldA 4 (mem ev w2) A (nI k) = some (some (ad (q k))) := by
    have := s_ld (ev := ev) (w := w2) (A := A) (e := e') (k := k) hA (by omega)
    rw [w2s, p2 k hk] at this
    exact this
  have lk := lo_ckL (e := e') lo2 hq
  have li := lo_is (e := e') lo2 hq
  have lg := lo_g (e := e') lo2 hq
  rw [w2s] at lk li lg
  refine ⟨w2, q, p1, p3, by rw [hw2, hw1]; rfl, by rw [hw2, hw1]; rfl, by rw [hw2, hw1]; rfl, by rw [hw2, hw1]; rfl, by rw [hw2, hw1]; rfl, fun c c1 c2 => by rw [hw2, dn_ne c1, hw1, dn_ne c2], ?_⟩
  unfold b_X0_blunt_209
  rw [srt, b2s, l_is hL d2, Option.bind_some]
  unfold f_J40_get b_J40_get_0
  rw [g2, Option.bind_some, ck, b2s, l_is hL d2, Option.bind_some]
  unfold f_J40_elementData b_J40_elementData_0
  rw [g3, Option.bind_some, Option.bind_some, ld, Option.bind_some, b2s, b2s, lk, Option.bind_some, Option.bind_some, li, Option.bind_some]
  unfold f_J31_longValue b_J31_longValue_0
  rw [lg]
  rfl
/-- the list, its sort, its number -/
theorem X0_order (hE : EvOk ev) (hf : 10 ≤ fu) (hk : k < 6) (hz : ev.1 + 984 ≤ szW w) (h1 : szW w + 8 ≤ ev.2.1) (h2 : slW w + 19 ≤ ev.2.2.1) (hb : ∀ i : Nat, i < 6 → w.1 37 i = b i) : ∃ (w' : Wd) (q : Nat → Nat), PQ q ∧ SOq b q 6 ∧ Nw w w' 8 19 ∧ b_X0_blunt_153 fu ev (mem ev w) ev.1 (nI k) = some (b (q k), mem ev w') := by
  obtain ⟨L, hL⟩ : ∃ L, L = szW w := ⟨_, rfl⟩
  have hLb : ev.1 + 984 ≤ L := by omega
  obtain ⟨w1, hw1⟩ : ∃ w1, w1 = nwW w 3 (.inr (11, [.int 0, .null, .int 0])) := ⟨_, rfl⟩
  obtain ⟨w2, hw2⟩ : ∃ w2, w2 = wD w1 L (some (.inr (11, [.int 0, .null, .int 0]))) := ⟨_, rfl⟩
  obtain ⟨w3, hw3⟩ : ∃ w3, w3 = wD w2 L (some (.inr (11, [.int (nI 0), .ref (xst ev 6), .int (nI 0)]))) := ⟨_, rfl⟩
  have d1 : dyn w1 L = some (.inr (11, [.int 0, .null, .int 0])) := by rw [hw1, hL]; exact dn_new
  have d2 : dyn w2 L = some (.inr (11, [.int 0, .null, .int 0])) := by rw [hw2]; exact dn_wD
  have d3 : dyn w3 L = some (.inr (11, [.int (nI 0), .ref (xst ev 6), .int (nI 0)])) := by rw [hw3]; exact dn_wD
  have nw3 : Nw w w3 1 3 := by rw [hw3, hw2, hw1]; exact Nw_wD (Nw_wD Nw_new (by omega)) (by omega)
  have z3 : szW w3 = L + 1 := by rw [hw3, hw2, hw1, hL]; rfl
  have l3 : slW w3 = slW w + 3 := by rw [hw3, hw2, hw1]; rfl
  have s6 : gsA ev 6 = some (some (xst ev 6)) := by unfold gsA; rw [hE.1.2.2.2.2.2.2.1]
  have e1 : nwO ev (mem ev w) 11 3 [.int 0, .null, .int 0] = some (L, mem ev w1) := by
    rw [hw1, hL]
    exact d_nwO hz (by show szW w + 1 ≤ _; omega) (by show slW w + 3 ≤ _; omega)
  have e2 : f_J1_init_v11 fu ev (mem ev w1) L = some ((), mem ev w2) := by
    unfold f_J1_init_v11 b_J1_init_v11_0
    show (pfI ev (mem ev w1) L 11 0 0).bind _ = _
    unfold pfI
    rw [d_pV (k := 0) hLb d1 (by simp), hw2]
    rfl
  have e3 : pfA ev (mem ev w2) L 11 1 (some (xst ev 6)) = some (mem ev w3) := by
    unfold pfA
    rw [d_pV (k := 1) hLb d2 (by simp), hw3]
    rfl
  have e4 : f_J40_init fu ev (mem ev w1) L = some ((), mem ev w3) := by
    unfold f_J40_init b_J40_init_0
    rw [e2, b2s, s6, Option.bind_some, e3]
    rfl
  have len : alen (mem ev w3) (ev.1 + 37) = some (6 : Int32) := by
    unfold alen
    rw [mem_at (by decide)]
    rfl
  have hb3 : ∀ i : Nat, i < 6 → w3.1 37 i = b i := fun i hi => by rw [nw3.1]; exact hb i hi
  obtain ⟨a, w4, v1, v2, v3, v4⟩ := v_of (fu := fu) (w := w3) (x := b 0) hE (by omega) (by omega) (by omega)
  have hs1 := v2.2.2.2.1
  have hs2 := v2.2.2.2.2.1
  have hs3 := v2.2.2.2.2.2.1
  have d4 : dyn w4 L = some (.inr (11, [.int (nI 0), .ref (xst ev 6), .int (nI 0)])) := (v2.2.2.2.2.2.2 L (by omega)).trans d3
  obtain ⟨w5, e5, a1, a2, a3, a4, a5, a6, a7, a8⟩ := al_add0 (fu := fu) (b := b) hE hLb (by omega) d4 (by omega) (by omega) v3 (by omega) (by omega) rfl
  obtain ⟨w6, e6, ad6, b1, b2, b3, b4, b5, b6, b7, b8, b9⟩ := fil_ls (fu := fu) (x2 := nI k) hE 5 1 (fu - 1) w5 e5 _ (by decide) (by omega) (by decide) a2 (fun i hi => by rw [a3, v2.1]; exact hb3 i hi) (by omega) (by omega)
  obtain ⟨w7, q, c1, c2, c3, c4, c5, c6, c7, c8, c9⟩ := srt_get (fu := fu) hE hf hk b1
  refine ⟨w7, q, c1, c2, ⟨c3.trans (b2.trans (a3.trans (v2.1.trans nw3.1))), c4.trans (b3.trans (a4.trans (v2.2.1.trans nw3.2.1))), c5.trans (b4.trans (a5.trans (v2.2.2.1.trans nw3.2.2.1))), by omega, by omega, by omega, fun c hc => ?_⟩, ?_⟩
  · have x1 : c ≠ L := by omega
    have x2 : c ≠ szW w4 := by omega
    exact ((c8 c x1 x2).trans (b8 c x1 x2 (by omega))).trans (((a8 c x1 (by omega)).trans (v2.2.2.2.2.2.2 c (by omega))).trans (nw3.2.2.2.2.2.2 c hc))
  · unfold b_X0_blunt_153
    rw [e1, b2s, e4, b2s, xf15, Option.bind_some, Option.bind_some, len, Option.bind_some]
    obtain ⟨g, hg⟩ : ∃ g, fu = g + 1 := ⟨fu - 1, by omega⟩
    have hL2 : ∀ σ x2 x5 x6 x7 x8, L_X0_blunt_176 fu ev fu σ x2 x5 x6 x7 x8 = L_X0_blunt_176 fu ev (g + 1) σ x2 x5 x6 x7 x8 := fun _ _ _ _ _ _ => by rw [← hg]
    rw [hL2]
    show b_X0_blunt_176 (L_X0_blunt_176 fu ev g) fu ev (mem ev w3) (nI k) L (ev.1 + 37) 6 (nI 0) = _
    unfold b_X0_blunt_176 b_X0_blunt_183
    rw [if_neg (by decide), rdJ (N := 6) rfl (by decide) (by decide) (by decide), Option.bind_some, hb3 0 (by decide), v1, b2s, l_is hLb d4, Option.bind_some, a1, b2s, nI_1]
    have hg1 : g = fu - 1 := by omega
    rw [hg1, b9]
    exact c9
end XAL
