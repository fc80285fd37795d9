/-! OPERATIONS cell, undo, RELATED; those that only read -/
theorem row983C {w : Wd} {c q i : Nat} {v : Nat → Int64} (hc : c < 118) (hq : q = 983 ∨ q = 35 := by assumption) : (setC w c v).1 q i = w.1 q i := by
  have : cr c + 7 < 26 ∨ (46 ≤ cr c ∧ cr c + 7 < 966) := by unfold cr; split <;> omega
  simp only [setC]
  rw [if_neg (by omega), if_neg (by omega), if_neg (by omega), if_neg (by omega), if_neg (by omega)]
theorem row983S {w : Wd} {K q i : Nat} {v : Nat → Int64} (hq : q = 983 ∨ q = 35 := by assumption) : (setS w K v).1 q i = w.1 q i := by
  simp only [setS]
  rw [if_neg (by omega), if_neg (by omega)]
section XO12
variable {ev : Ev} {w : Wd} {fu M C F : Nat} {x y z u : Int32} {p : Nat → Nat}
/-- one more cell, in both -/
theorem RCK_new {w1 w2 : Wd} {V P : Nat → Int64} (hR : RCK ev w M C F p) (h6 : M < 6) (hV : Mk V) (hP : Mk P) (hok : OkV V) (hfp : sFresh P = V) (h1 : w1 = wI (setC (setC w 2 V) (3 + 2 * M) V) 0 1 (nI (M + 1))) (h2 : w2 = wI (setS (setS w1 6 P) M (sFresh P)) 966 2 (nI (M + 1))) : RCK ev w2 (M + 1) C F p ∧ Fr w w2 := by
  obtain ⟨⟨hM6, hM0, hM2, hc⟩, h12, hF, hC0, hC9, hF10, hp, hinj, hrel⟩ := hR
  have i2 : ∀ q i : Nat, ¬ (q = 0 ∧ i = 1) ∧ ¬ (q = 966 ∧ i = 2) → w2.2.1 q i = w.2.1 q i := by
    intro q i h
    rw [h2, wI_ne h.2, h1]
    show (wI (setC (setC w 2 V) (3 + 2 * M) V) 0 1 (nI (M + 1))).2.1 q i = _
    rw [wI_ne h.1]
    rfl
  have cw : ∀ c : Nat, c < 118 → cv w2 c = cv w1 c := fun c hc => by rw [h2, cv_wI, cv_setS hc, cv_setS hc]
  have sw : ∀ K : Nat, sl w1 K = sl w K := fun K => by rw [h1, sl_wI, sl_setC (by omega), sl_setC (by decide)]
  have co : ∀ c : Nat, c < 118 → c ≠ 2 → c ≠ 3 + 2 * M → cv w2 c = cv w c := fun c hc hn hm => by rw [cw c hc, h1, cv_wI, cv_ne hm, cv_ne hn]
  have so : ∀ K : Nat, K ≠ 6 → K ≠ M → sl w2 K = sl w K := fun K hn hm => by rw [h2, sl_wI, sl_ne hm, sl_ne hn, sw]
  have a2 : w2.2.2 = w.2.2 := by rw [h2, h1]; rfl
  refine ⟨⟨⟨by omega, ?_, ?_, fun l hl => ?_⟩, h12, hF, ?_, ?_, ?_, ?_, hinj, fun i hi => ?_⟩, fun k hk => ⟨co _ (by omega) (by omega) (by omega), so _ (by omega) (by omega)⟩, fun q hq i => ?_, fun q i hq => ?_, fun q i _ => by rw [a2], by rw [a2]⟩
  · rw [h2, wI_ne (by omega), h1]
    exact wI_same
  · rw [h2]
    exact wI_same
  · by_cases hlM : l = M
    · subst hlM
      have e1 : cv w2 (3 + 2 * l) = V := by rw [cw _ (by omega), h1, cv_wI, cv_mk hV]
      have e2 : sl w2 l = V := by rw [h2, sl_wI, sl_mk (Mk_fresh hP), hfp]
      rw [e1, e2]
      exact ⟨rfl, hok⟩
    · rw [co _ (by omega) (by omega) (by omega), so _ (by omega) hlM]
      exact hc l (by omega)
  · rw [i2 _ _ (by omega)]; exact hC0
  · rw [i2 _ _ (by omega)]; exact hC9
  · rw [i2 _ _ (by omega)]; exact hF10
  · intro k hk
    rw [a2]
    exact hp k hk
  · have hpi := (hp i (by omega)).2
    have hm : (F + i) % 12 < 12 := Nat.mod_lt _ (by decide)
    obtain ⟨r1, r2, k, r3, r4, r5⟩ := hrel i hi
    rw [co _ (by omega) (by omega) (by omega), so _ (by omega) (by omega), i2 _ _ (by omega), i2 _ _ (by omega)]
    exact ⟨r1, r2, k, by omega, r4, r5⟩
  · have e1 : w2.1 q i = w1.1 q i := by rw [h2]; show (setS (setS w1 6 P) M (sFresh P)).1 q i = _; rw [row983S, row983S]
    rw [e1, h1]
    show (setC (setC w 2 V) (3 + 2 * M) V).1 q i = _
    rw [row983C (by omega), row983C (by decide)]
  · unfold fI at hq
    exact i2 q i (by omega)
theorem com_Po {V P : Nat → Int64} (hR : RCK ev w M C F p) (hV : Mk V) (hP : Mk P) (hfp : sFresh P = V) : ∃ M' : Nat, (M' = M ∨ M' = M + 1) ∧ Po ev w (comM (comC w M V) M P) M' ∧ ∀ l : Nat, l < M → sl (comM (comC w M V) M P) l = sl w l := by
  have h6 := hR.1.1
  have hm : mayV P = mayV V := may_six (fun i hi => by rw [← hfp]; match i, hi with | 0, _ => rfl | 1, _ => rfl | 2, _ => rfl | 3, _ => rfl | 4, _ => rfl | 5, _ => rfl)
  by_cases hb : mayV V = true ∧ M < 6
  · obtain ⟨r, f⟩ := RCK_new (w1 := comC w M V) (w2 := comM (comC w M V) M P) hR hb.2 hV hP (may_good hb.1) hfp (by unfold comC; rw [if_pos hb]) (by unfold comM; rw [hm, if_pos hb])
    have key : ∀ l : Nat, l < 6 → l ≠ M → sl (comM (comC w M V) M P) l = sl w l := by
      intro l hl hne
      unfold comM
      rw [hm, if_pos hb]
      show sl (setS (setS (comC w M V) 6 P) M (sFresh P)) l = _
      rw [sl_ne hne, sl_ne (by omega)]
      unfold comC
      rw [if_pos hb]
      show sl (setC (setC w 2 V) (3 + 2 * M) V) l = _
      rw [sl_setC (by omega), sl_setC (by omega)]
    exact ⟨M + 1, Or.inr rfl, ⟨⟨C, F, p, r⟩, f, M, key⟩, fun l hl => key l (by omega) (by omega)⟩
  · have e1 : comC w M V = setC w 2 V := by unfold comC; rw [if_neg hb]
    have e2 : comM (comC w M V) M P = setS (comC w M V) 6 P := by unfold comM; rw [hm, if_neg hb]
    rw [e2, e1]
    exact ⟨M, Or.inl rfl, Po_sq hR (Sq_trans (Sq_setC (by decide)) (Sq_setS (Or.inl rfl))), fun l hl => Sq_sl (Sq_trans (Sq_setC (by decide)) (Sq_setS (Or.inl rfl))) (by omega)⟩
theorem comC_I {V : Nat → Int64} {q i : Nat} (h : ¬ (q = 0 ∧ i = 1)) : (comC w M V).2.1 q i = w.2.1 q i := by
  unfold comC
  split
  · rw [wI_ne h]
    rfl
  · rfl
theorem op_cell {x1 x2 x3 x4 x5 x6 : Int32} (hf : 20 ≤ fu) (hR : RCK ev w M C F p) : ∃ (r : Int32) (w1 w2 : Wd), f_X0_cell fu ev (mem ev w) ev.1 x1 x2 x3 x4 x5 x6 = some (r, mem ev w1) ∧ f_X2_cell fu ev (mem ev w1) (ev.1 + 966) x1 x2 x3 x4 x5 x6 = some (r, mem ev w2) ∧ ∃ M' : Nat, (M' = M ∨ M' = M + 1) ∧ Po ev w w2 M' ∧ ∀ l : Nat, l < M → sl w2 l = sl w l := by
  obtain ⟨hM6, hM, hN, -⟩ := hR.1
  have e1 := X0_cell (ev := ev) (x1 := x1) (x2 := x2) (x3 := x3) (x4 := x4) (x5 := x5) (x6 := x6) (show 4 ≤ fu by omega) hM hM6
  have e2 := X2_cell (ev := ev) (w := comC w M (sTell x1.toInt64 x2.toInt64 x3.toInt64 x4.toInt64 x5.toInt64 x6.toInt64)) (x1 := x1) (x2 := x2) (x3 := x3) (x4 := x4) (x5 := x5) (x6 := x6) (show 10 ≤ fu by omega) (by rw [comC_I (by omega)]; exact hN) hM6
  obtain ⟨M', hM', hP⟩ := com_Po (V := sTell x1.toInt64 x2.toInt64 x3.toInt64 x4.toInt64 x5.toInt64 x6.toInt64) (P := sPut (sl (comC w M (sTell x1.toInt64 x2.toInt64 x3.toInt64 x4.toInt64 x5.toInt64 x6.toInt64)) 6) x1.toInt64 x2.toInt64 x3.toInt64 x4.toInt64 x5.toInt64 x6.toInt64) hR Mk_tell (Mk_put Mk_sl) (tell_put Mk_sl)
  exact ⟨_, _, _, e1, e2, M', hM', hP⟩
theorem op_undo (hf : 20 ≤ fu) (hR : RCK ev w M C F p) : ∃ (r : Int32) (w1 w2 : Wd), f_X0_undo fu ev (mem ev w) ev.1 = some (r, mem ev w1) ∧ f_X2_undo fu ev (mem ev w1) (ev.1 + 966) = some (r, mem ev w2) ∧ Po ev w w2 M := by
  have hR0 := hR
  obtain ⟨⟨hM6, hM0, hM2, hc⟩, h12, hF, hC0, hC9, hF10, hp, hinj, hrel⟩ := hR0
  cases C with
  | zero => exact ⟨-5, w, w, X0_undo_0 hC0, X2_undo_0 hC9, Po_refl hR⟩
  | succ D =>
    obtain ⟨r1, r2, k, r3, r4, r5⟩ := hrel D (by omega)
    have hk6 : k < 6 := by omega
    have hpD := (hp D (by omega)).2
    have hm : (F + D) % 12 < 12 := Nat.mod_lt _ (by decide)
    obtain ⟨V, hV⟩ : ∃ V, V = sl w (14 + (F + D) % 12) := ⟨_, rfl⟩
    rw [← hV] at r1 r2
    have mV : Mk V := by rw [hV]; exact Mk_sl
    have e1 := X0_undo_s (ev := ev) (fu := fu) (show 4 ≤ fu by omega) hC0 (by omega) hp r4 hk6
    rw [r1] at e1
    obtain ⟨w1, hw1⟩ : ∃ w1, w1 = setC (wI w 0 8 (nI D)) (3 + 2 * k) V := ⟨_, rfl⟩
    rw [← hw1] at e1
    have i1 : ∀ q i : Nat, ¬ (q = 0 ∧ i = 8) → w1.2.1 q i = w.2.1 q i := fun q i h => by rw [hw1]; show (wI w 0 8 (nI D)).2.1 q i = _; rw [wI_ne h]
    have s1 : ∀ K : Nat, sl w1 K = sl w K := fun K => by rw [hw1, sl_setC (by omega), sl_wI]
    have e2 := X2_undo_s (ev := ev) (fu := fu) (w := w1) (C := D) (F := F) (k := k) (show 10 ≤ fu by omega) (by rw [i1 _ _ (by omega)]; exact hC9) (by omega) (by rw [i1 _ _ (by omega)]; exact hF10) hF (by rw [i1 _ _ (by omega)]; exact r5) hk6
    rw [s1, ← hV] at e2
    obtain ⟨w2, hw2⟩ : ∃ w2, w2 = setS (wI w1 966 9 (nI D)) k V := ⟨_, rfl⟩
    rw [← hw2] at e2
    have i2 : ∀ q i : Nat, ¬ (q = 0 ∧ i = 8) ∧ ¬ (q = 966 ∧ i = 9) → w2.2.1 q i = w.2.1 q i := fun q i h => by rw [hw2]; show (wI w1 966 9 (nI D)).2.1 q i = _; rw [wI_ne h.2, i1 q i h.1]
    have co : ∀ c : Nat, c < 118 → c ≠ 3 + 2 * k → cv w2 c = cv w c := fun c hc hn => by rw [hw2, cv_setS hc, cv_wI, hw1, cv_ne hn, cv_wI]
    have so : ∀ K : Nat, K ≠ k → sl w2 K = sl w K := fun K hn => by rw [hw2, sl_ne hn, sl_wI, s1]
    have a2 : w2.2.2 = w.2.2 := by rw [hw2, hw1]; rfl
    refine ⟨nI k, w1, w2, e1, e2, ⟨D, F, p, ⟨hM6, ?_, ?_, fun l hl => ?_⟩, by omega, hF, ?_, ?_, ?_, ?_, hinj, fun i hi => ?_⟩, ⟨fun l hl => ⟨co _ (by omega) (by omega), so _ (by omega)⟩, fun q hq i => ?_, fun q i hq => ?_, fun q i _ => by rw [a2], by rw [a2]⟩, k, fun l _ hne => so l hne⟩
    · rw [i2 _ _ (by omega)]; exact hM0
    · rw [i2 _ _ (by omega)]; exact hM2
    · by_cases hlk : l = k
      · subst hlk
        have q1 : cv w2 (3 + 2 * l) = V := by rw [hw2, cv_setS (by omega), cv_wI, hw1, cv_mk mV]
        have q2 : sl w2 l = V := by rw [hw2, sl_mk mV]
        rw [q1, q2]
        exact ⟨rfl, r2⟩
      · rw [co _ (by omega) (by omega), so _ hlk]
        exact hc l hl
    · rw [hw2]
      show (wI w1 966 9 (nI D)).2.1 0 8 = _
      rw [wI_ne (by omega), hw1]
      exact wI_same
    · rw [hw2]
      exact wI_same
    · rw [i2 _ _ (by omega)]; exact hF10
    · intro j hj
      rw [a2]
      exact hp j hj
    · have hpi := (hp i (by omega)).2
      have hmi : (F + i) % 12 < 12 := Nat.mod_lt _ (by decide)
      rw [co _ (by omega) (by omega), so _ (by omega), i2 _ _ (by omega), i2 _ _ (by omega)]
      exact hrel i (by omega)
    · have q1 : w2.1 q i = w1.1 q i := by rw [hw2, row983S]; rfl
      rw [q1, hw1, row983C (by omega)]
      rfl
    · unfold fI at hq
      exact i2 q i (by omega)
end XO12
