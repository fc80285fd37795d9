/-! THE PAPER: the text of the log (class) -/
def txL (qs : Nat → Nat) (i : Nat) : Int32 := if i % 2 = 0 then nI (97 + qs (i / 2) / 10) else nI (48 + qs (i / 2) % 10)
theorem txL_127 {qs : Nat → Nat} {i : Nat} (h : qs (i / 2) < 128) : 0 ≤ (txL qs i).toInt ∧ (txL qs i).toInt ≤ 127 := by
  unfold txL
  split
  · exact d127 (by omega)
  · exact d127 (by omega)
section XTL
variable {ev : Ev} {w w' w'' : Wd} {fu lo S V cap n k i m c d p s t q : Nat} {f : Nat → Int32} {ad qs : Nat → Nat} {l : Option Nat}
theorem LL_S (hL : LL ev w 28 n ad qs) (h : FrS S V w w') (hn : ∀ j : Nat, j < n → ad j ≠ S ∧ ad j ≠ V) : LL ev w' 28 n ad qs := LL_sz hL (by rw [h.2.1]) (by rw [h.2.2.1]) (fun j hj => h.2.2.2.2 _ (hL.2.2.2.2.2.1 j hj).2 (hn j hj).1 (hn j hj).2) h.2.2.2.1
theorem It_S (hT : It ev w 28 t n ad i l) (h : FrS S V w w') (h1 : t ≠ S) (h2 : t ≠ V) : It ev w' 28 t n ad i l := by
  obtain ⟨t1, t2, t3, t4⟩ := hT
  refine ⟨(h.2.2.2.2 t t3 h1 h2).trans ?_, t2, Nat.lt_of_lt_of_le t3 h.2.2.2.1, t4⟩
  rw [t1, h.2.1]
theorem SBd_t {o : Option Ob} (h : SBd ev w lo S V cap n f) (h1 : t ≠ S) (h2 : t ≠ V) : SBd ev (wD w t o) lo S V cap n f := by
  obtain ⟨hlo, hS, hV, hSs, hVs, hSV, dS, dV, hn, hc, hc16, hf⟩ := h
  exact ⟨hlo, hS, hV, hSs, hVs, hSV, (dn_ne (fun z => h1 z.symm)).trans dS, (dn_ne (fun z => h2 z.symm)).trans dV, hn, hc, hc16, hf⟩
theorem ltr (h : q < 128) : (((97 : Int32) + (nI q / (10 : Int32))).toUInt32 % 65536).toInt32 = nI (97 + q / 10) ∧ nI q - nI q / (10 : Int32) * (10 : Int32) = nI (q % 10) ∧ (97 : Int32) + nI q / (10 : Int32) = nI (97 + q / 10) ∧ (48 : Int32) + (nI q - nI q / (10 : Int32) * (10 : Int32)) = nI (48 + q % 10) := by
  have key : ∀ q : Nat, q < 128 → (((97 : Int32) + (nI q / (10 : Int32))).toUInt32 % 65536).toInt32 = nI (97 + q / 10) ∧ nI q - nI q / (10 : Int32) * (10 : Int32) = nI (q % 10) ∧ (97 : Int32) + nI q / (10 : Int32) = nI (97 + q / 10) ∧ (48 : Int32) + (nI q - nI q / (10 : Int32) * (10 : Int32)) = nI (48 + q % 10) := by decide +kernel
  exact key q h
theorem tlog_l (hE : EvOk ev) (hfu : 3 ≤ fu) (hn : n ≤ 30) (hq : ∀ j : Nat, j < n → qs j < 128) (ha : ∀ j : Nat, j < n → ad j < lo) (hlt : lo ≤ t) (htS : t ≠ S) : ∀ (d i g : Nat) (w : Wd) (V cap : Nat) (f : Nat → Int32) (l : Option Nat), i + d = n → d < g → LL ev w 28 n ad qs → It ev w 28 t n ad i l → SBd ev w lo S V cap (2 * i) f → (∀ j : Nat, j < 2 * i → f j = txL qs j) → t ≠ V → szW w + 2 * d + 1 ≤ ev.2.1 → slW w + 2 * (120 - cap) ≤ ev.2.2.1 → ∃ (w' : Wd) (V' cap' : Nat) (f' : Nat → Int32), SBd ev w' lo S V' cap' (2 * n) f' ∧ (∀ j : Nat, j < 2 * n → f' j = txL qs j) ∧ Fr0 lo w w' ∧ szW w' ≤ szW w + 2 * d ∧ cap ≤ cap' ∧ slW w' + 2 * cap ≤ slW w + 2 * cap' ∧ L_X0_toldLog_16 fu ev g (mem ev w) S (some t) = b_X0_toldLog_61 fu ev (mem ev w') S := by
  intro d
  induction d with
  | zero =>
    intro i g w V cap f l hi hg hL hT hS hf htV h1 h2
    obtain ⟨g, rfl⟩ : ∃ g', g = g' + 1 := ⟨g - 1, by omega⟩
    obtain rfl : i = n := by omega
    have hn1 := ll_hasNext (fu := fu) (Or.inl rfl) hL (Nat.le_refl _) hT
    rw [if_neg (by omega)] at hn1
    refine ⟨w, V, cap, f, hS, hf, Fr0_refl, Nat.le_refl _, Nat.le_refl _, Nat.le_refl _, ?_⟩
    show b_X0_toldLog_16 _ fu ev _ _ _ = _
    unfold b_X0_toldLog_16
    rw [Option.bind_some, it_is hT.2.1 hT.1, Option.bind_some, hn1, b2s, if_pos rfl]
  | succ d ih =>
    intro i g w V cap f l hi hg hL hT hS hf htV h1 h2
    obtain ⟨g, rfl⟩ : ∃ g', g = g' + 1 := ⟨g - 1, by omega⟩
    have hin : i < n := by omega
    have hn1 := ll_hasNext (fu := fu) (Or.inl rfl) hL (by omega) hT
    rw [if_pos hin] at hn1
    obtain ⟨w1, x1, x2, x3, x4⟩ := ll_next (fu := fu) (Or.inl rfl) hL hin hT
    have hq1 := hq i hin
    obtain ⟨r1, r2, -, -⟩ := ltr hq1
    have S1 : SBd ev w1 lo S V cap (2 * i) f := by rw [x4]; exact SBd_t hS htS htV
    have z1 : szW w1 = szW w := by rw [x4]; rfl
    have l1 : slW w1 = slW w := by rw [x4]; rfl
    have f1 : Fr0 lo w w1 := by rw [x4]; exact Fr0_wD hlt
    have hSlo := hS.1
    have hS1 := hS.2.1
    have hSV := hS.2.2.1
    have tw : t < szW w := hT.2.2.1
    have iS1 : isC (mem ev w1) S 13 = some () := o_is (by omega) S1.2.2.2.2.2.2.1
    obtain ⟨w2, V2, cap2, f2, a1, a2, a3, a4, a5, a6, a7, a8, a9⟩ := sb_char (fu := fu) (c := 97 + qs i / 10) hE S1 (by omega) (by omega) (by omega) (by omega)
    have lo2 := a2.2.2.1
    have c122 := a2.2.2.2.2.2.2.2.2.2.1
    have iS2 : isC (mem ev w2) S 13 = some () := o_is (by omega) a2.2.2.2.2.2.2.1
    obtain ⟨w3, V3, cap3, f3, b1, b2, b3, b4, b5, b6, b7, b8, b9⟩ := sb_dig (fu := fu) (d := qs i % 10) hE hfu a2 (by omega) (by omega) (by omega) (by omega)
    have c122b := b2.2.2.2.2.2.2.2.2.2.1
    have m2 := a5.2.2.2.1
    have m3 := b5.2.2.2.1
    have nd : ∀ j : Nat, j < n → ad j ≠ S ∧ ad j ≠ V := fun j hj => by have := ha j hj; omega
    have nd2 : ∀ j : Nat, j < n → ad j ≠ S ∧ ad j ≠ V2 := fun j hj => by have := ha j hj; omega
    have L3 : LL ev w3 28 n ad qs := LL_S (LL_S x2 a5 nd) b5 nd2
    have T3 : It ev w3 28 t n ad (i + 1) (some (ad i)) := It_S (It_S x3 a5 htS htV) b5 htS (by omega)
    obtain ⟨w4, V4, cap4, f4, c1, c2, c3, c4, c5, c6, c7⟩ := ih (i + 1) g w3 V3 cap3 f3 _ (by omega) (by omega) L3 T3 b2 (by
      intro j hj
      by_cases y1 : j < 2 * i
      · rw [b3 j (by omega), a3 j y1, hf j y1]
      · by_cases y2 : j = 2 * i
        · rw [b3 j (by omega), y2, a4]
          unfold txL
          rw [if_pos (by omega), show 2 * i / 2 = i by omega]
        · have y3 : j = 2 * i + 1 := by omega
          rw [y3, b4]
          unfold txL
          rw [if_neg (by omega), show (2 * i + 1) / 2 = i by omega]) (by omega) (by omega) (by omega)
    have fa : Fr0 lo w1 w2 := Fr0_S a5 hS1 hSV (by omega)
    have fb : Fr0 lo w2 w3 := Fr0_S b5 hS1 lo2 (by have := a2.2.2.2.1; omega)
    refine ⟨w4, V4, cap4, f4, c1, c2, Fr0_trans f1 (Fr0_trans fa (Fr0_trans fb c3)), by omega, by omega, by omega, ?_⟩
    rw [← c7]
    show b_X0_toldLog_16 _ fu ev _ _ _ = _
    unfold b_X0_toldLog_16
    rw [Option.bind_some, it_is hT.2.1 hT.1, Option.bind_some, hn1, b2s, if_neg (by decide)]
    unfold b_X0_toldLog_25
    rw [it_is hT.2.1 hT.1, Option.bind_some, x1, b2s, ia_ck hE hq1, Option.bind_some, Option.bind_some, ia_is hE hq1, Option.bind_some, ia_val hE hq1, b2s, iS1, Option.bind_some, r1, r2, a1, b2s, Option.bind_some, iS2, Option.bind_some, b1, b2s]
/-- the class's text of the log -/
theorem X0_toldLog_c (hE : EvOk ev) (hfu : 1001 ≤ fu) (hn : n ≤ 30) (hq : ∀ j : Nat, j < n → qs j < 128) (hL : LL ev w 28 n ad qs) (hz : ev.1 + 984 ≤ szW w) (h1 : szW w + 70 ≤ ev.2.1) (h2 : slW w + 300 ≤ ev.2.2.1) : ∃ (w' : Wd) (a b : Nat) (g : Nat → Int32), f_X0_toldLog fu ev (mem ev w) ev.1 = some (some a, mem ev w') ∧ dyn w' a = some (.inr (14, [.ref b, .int 0, .int 0, .int 0])) ∧ dyn w' b = oBy (2 * n) g ∧ (∀ i : Nat, i < 2 * n → g i = txL qs i) ∧ ev.1 + 984 ≤ a ∧ ev.1 + 984 ≤ b ∧ a < szW w' ∧ b < szW w' ∧ Fr0 (szW w) w w' ∧ szW w' ≤ szW w + 70 ∧ slW w' ≤ slW w + 300 := by
  obtain ⟨w0, w1, e1, e2, e3, e4, e5, e6⟩ := sb_new (fu := fu) (w := w) hE hz (by omega) (by omega)
  have ha : ∀ j : Nat, j < n → ad j < szW w := fun j hj => (hL.2.2.2.2.2.1 j hj).2
  have L1 : LL ev w1 28 n ad qs := LL_sz hL (by rw [e4.2.1]) (by rw [e4.2.2.1]) (fun j hj => e4.2.2.2.2 _ (ha j hj)) e4.2.2.2.1
  obtain ⟨w2, i1, i2, i3, i4⟩ := ll_iter (fu := fu) (Or.inl rfl) hfu L1 (by omega) (by omega) (by omega)
  obtain ⟨t, ht⟩ : ∃ t, t = szW w1 := ⟨_, rfl⟩
  rw [← ht] at i1 i3
  have z2 : szW w2 = szW w1 + 1 := by rw [i4]; rfl
  have l2 : slW w2 = slW w1 + 5 := by rw [i4]; rfl
  have d2 : ∀ c : Nat, c < szW w1 → dyn w2 c = dyn w1 c := fun c hc => by rw [i4]; exact (Nw_new (w := w1)).2.2.2.2.2.2 c hc
  have S2 : SBd ev w2 (szW w) (szW w) (szW w + 1) 16 (2 * 0) (fun _ => 0) := by
    obtain ⟨hlo, hS, hV, hSs, hVs, hSV, dS, dV, hn, hc, hc16, hf⟩ := e3
    exact ⟨hlo, hS, hV, by omega, by omega, hSV, (d2 _ (by omega)).trans dS, (d2 _ (by omega)).trans dV, hn, hc, hc16, hf⟩
  obtain ⟨w3, V3, cap3, f3, b1, b2, b3, b4, b5, b6, b7⟩ := tlog_l (fu := fu) (lo := szW w) (S := szW w) (t := t) hE (by omega) hn hq ha (by omega) (by omega) n 0 fu w2 _ 16 _ none (by omega) (by omega) i2 i3 S2 (fun j hj => absurd hj (by omega)) (by omega) (by omega) (by omega)
  have c122 := b1.2.2.2.2.2.2.2.2.2.1
  obtain ⟨w4, a, b, g, d1, d3, d4, d5, d6, d7, d8, d9, d10, d11, d12⟩ := sb_str (fu := fu) hE b1 (by omega) (by omega)
  have f12 : Fr0 (szW w) w1 w2 := by rw [i4]; exact Fr0_nw (by omega)
  refine ⟨w4, a, b, g, ?_, d3, d4, fun i hi => (d5 i hi).trans (b2 i hi), d6, d7, d8, d9, Fr0_trans e4 (Fr0_trans f12 (Fr0_trans b3 d10)), by omega, by omega⟩
  unfold f_X0_toldLog b_X0_toldLog_0
  rw [e1, b2s, e2, b2s, xf9, Option.bind_some, Option.bind_some, hIs (Or.inl rfl), Option.bind_some, i1, b2s]
  refine b7.trans ?_
  unfold b_X0_toldLog_61
  rw [o_is (show ev.1 + 984 ≤ szW w from hz) b1.2.2.2.2.2.2.1, Option.bind_some, d1]
  rfl
end XTL
