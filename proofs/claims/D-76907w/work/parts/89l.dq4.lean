/-! THE DEQUE: contains, clear -/
section XDT
variable {ev : Ev} {w w' : Wd} {r h n k q c i j t fu : Nat} {qs : Nat → Nat}
theorem ia_eq (hE : EvOk ev) (hc : c < 128) (hq : q < 128) : f_J32_equals fu ev (mem ev w) (ia ev c) (some (ia ev q)) = some (if c = q then 1 else 0, mem ev w) := by
  have e1 : inC (mem ev w) (some (ia ev q)) "java/lang/Integer" = some 1 := by
    unfold inC
    simp only [ia_at hE hq]
    rfl
  have e2 : gfI (mem ev w) (ia ev c) 15 0 = some (nI c) := by
    unfold gfI gfV
    rw [ia_at hE hc]
    rfl
  have o01 : ¬ (1 : Int32) = 0 := by decide
  unfold f_J32_equals b_J32_equals_0
  rw [e1, Option.bind_some, if_neg o01]
  unfold b_J32_equals_7
  rw [e2, Option.bind_some, ia_ck hE hq, Option.bind_some, Option.bind_some, ia_is hE hq, Option.bind_some, ia_val hE hq]
  show (if nI c = nI q then b_J32_equals_21 fu ev (mem ev w) else b_J32_equals_25 fu ev (mem ev w)) = _
  by_cases hcq : c = q
  · rw [if_pos hcq, if_pos (by rw [hcq])]
    rfl
  · rw [if_neg hcq, if_neg (fun z => hcq ((nI_eq (by omega) (by omega)).mp z))]
    rfl
theorem dq_seg (hr : Hq r) (hE : EvOk ev) (hQ : DQ ev w r h n qs) (hc : c < 128) {e to : Nat} (hto : to ≤ 17) : ∀ (d f k p : Nat), k + d ≤ n → p + d = to → d < f → (∀ j : Nat, j < d → (h + (k + j)) % 17 = p + j) →
    ((∃ j : Nat, k ≤ j ∧ j < k + d ∧ qs j = c) ∧ L_J5_contains_35 fu ev f (mem ev w) (some (ia ev c)) (some (ev.1 + (r + 1))) (nI p) (nI e) (nI to) = some (1, mem ev w)) ∨
    ((∀ j : Nat, k ≤ j → j < k + d → qs j ≠ c) ∧ L_J5_contains_35 fu ev f (mem ev w) (some (ia ev c)) (some (ev.1 + (r + 1))) (nI p) (nI e) (nI to) = L_J5_contains_35 fu ev (f - d) (mem ev w) (some (ia ev c)) (some (ev.1 + (r + 1))) (nI to) (nI e) (nI to)) := by
  intro d
  induction d with
  | zero =>
    intro f k p _ hp _ _
    obtain rfl : p = to := by omega
    exact Or.inr ⟨fun j _ _ => by omega, rfl⟩
  | succ d ih =>
    intro f k p hkn hp hf hpos
    obtain ⟨g, rfl⟩ : ∃ g, f = g + 1 := ⟨f - 1, by omega⟩
    have h0 := hpos 0 (by omega)
    rw [Nat.add_zero, Nat.add_zero] at h0
    have hel := hQ.2.2.2.2.1 k (by omega)
    rw [h0] at hel
    have ld := qLd (ev := ev) (w := w) (k := p) hr (by omega)
    rw [hel.1] at ld
    have eq := ia_eq (fu := fu) (w := w) hE hc hel.2
    have step : L_J5_contains_35 fu ev (g + 1) (mem ev w) (some (ia ev c)) (some (ev.1 + (r + 1))) (nI p) (nI e) (nI to) = if c = qs k then some (1, mem ev w) else L_J5_contains_35 fu ev g (mem ev w) (some (ia ev c)) (some (ev.1 + (r + 1))) (nI (p + 1)) (nI e) (nI to) := by
      show b_J5_contains_35 _ fu ev _ _ _ _ _ _ = _
      unfold b_J5_contains_35
      rw [if_neg (nI_ge (by omega) (by omega))]
      unfold b_J5_contains_41
      rw [Option.bind_some, ld, Option.bind_some, Option.bind_some, ia_is hE hc, Option.bind_some, eq]
      show (if (if c = qs k then (1 : Int32) else 0) = 0 then b_J5_contains_53 _ fu ev (mem ev w) _ _ _ _ _ else b_J5_contains_51 fu ev (mem ev w)) = _
      by_cases hck : c = qs k
      · rw [if_pos hck, if_pos hck, if_neg (by decide)]
        rfl
      · rw [if_neg hck, if_neg hck, if_pos rfl]
        unfold b_J5_contains_53
        rw [nI_1]
    by_cases hck : c = qs k
    · rw [if_pos hck] at step
      exact Or.inl ⟨⟨k, Nat.le_refl _, by omega, hck.symm⟩, step⟩
    · rw [if_neg hck] at step
      rcases ih g (k + 1) (p + 1) (by omega) (by omega) (by omega) (fun j hj => by
        have := hpos (j + 1) (by omega)
        rw [show k + 1 + j = k + (j + 1) by omega, this]
        omega) with ⟨⟨j, j1, j2, j3⟩, hh⟩ | ⟨hn, hh⟩
      · exact Or.inl ⟨⟨j, by omega, by omega, j3⟩, step.trans hh⟩
      · refine Or.inr ⟨fun j j1 j2 => ?_, ?_⟩
        · by_cases hj : j = k
          · rw [hj]; exact fun z => hck z.symm
          · exact hn j (by omega) (by omega)
        · rw [step, hh, show g + 1 - (d + 1) = g - d by omega]
theorem dq_contains (hr : Hq r) (hf : 40 ≤ fu) (hE : EvOk ev) (hQ : DQ ev w r h n qs) (hc : c < 128) : ((∃ j : Nat, j < n ∧ qs j = c) ∧ f_J5_contains fu ev (mem ev w) (ev.1 + r) (some (ia ev c)) = some (1, mem ev w)) ∨ ((∀ j : Nat, j < n → qs j ≠ c) ∧ f_J5_contains fu ev (mem ev w) (ev.1 + r) (some (ia ev c)) = some (0, mem ev w)) := by
  have h17 := hQ.1
  have h6 := hQ.2.1
  have fin : ∀ (f e : Nat), 0 < f → e ≤ 17 → L_J5_contains_35 fu ev f (mem ev w) (some (ia ev c)) (some (ev.1 + (r + 1))) (nI e) (nI e) (nI e) = some (0, mem ev w) := by
    intro f e hf he
    obtain ⟨g, rfl⟩ : ∃ g, f = g + 1 := ⟨f - 1, by omega⟩
    show b_J5_contains_35 _ fu ev _ _ _ _ _ _ = _
    unfold b_J5_contains_35
    rw [if_pos (nI_le (Nat.le_refl _) (by omega))]
    unfold b_J5_contains_59
    rw [if_pos rfl]
    rfl
  unfold f_J5_contains b_J5_contains_0
  rw [if_neg (by simp)]
  unfold b_J5_contains_4
  rw [qA0 hr, Option.bind_some, qI1 hr, Option.bind_some, qI2 hr, Option.bind_some, hQ.2.2.1, hQ.2.2.2.1]
  by_cases hw : h + n < 17
  · rw [Nat.mod_eq_of_lt hw, if_neg (nI_nlt (by omega) (by omega))]
    unfold b_J5_contains_26 b_J5_contains_33
    rcases dq_seg (fu := fu) hr hE hQ hc (e := h + n) (to := h + n) (by omega) n fu 0 h (by omega) rfl (by omega) (fun j hj => by omega) with ⟨⟨j, -, j2, j3⟩, hh⟩ | ⟨hn, hh⟩
    · exact Or.inl ⟨⟨j, by omega, j3⟩, hh⟩
    · exact Or.inr ⟨fun j hj => hn j (by omega) (by omega), hh.trans (fin _ _ (by omega) (by omega))⟩
  · rw [if_pos (nI_lt (by omega) (by omega))]
    unfold b_J5_contains_31
    rw [Option.bind_some, qLen hr, Option.bind_some]
    unfold b_J5_contains_33
    rcases dq_seg (fu := fu) hr hE hQ hc (e := (h + n) % 17) (to := 17) (by omega) (17 - h) fu 0 h (by omega) (by omega) (by omega) (fun j hj => by omega) with ⟨⟨j, -, j2, j3⟩, hh⟩ | ⟨hn, hh⟩
    · exact Or.inl ⟨⟨j, by omega, j3⟩, hh⟩
    · obtain ⟨g, hg⟩ : ∃ g, fu - (17 - h) = g + 1 := ⟨fu - (17 - h) - 1, by omega⟩
      have st : L_J5_contains_35 fu ev (g + 1) (mem ev w) (some (ia ev c)) (some (ev.1 + (r + 1))) (nI 17) (nI ((h + n) % 17)) (nI 17) = L_J5_contains_35 fu ev g (mem ev w) (some (ia ev c)) (some (ev.1 + (r + 1))) (nI 0) (nI ((h + n) % 17)) (nI ((h + n) % 17)) := by
        show b_J5_contains_35 _ fu ev _ _ _ _ _ _ = _
        unfold b_J5_contains_35
        rw [if_pos (nI_le (Nat.le_refl _) (by omega))]
        unfold b_J5_contains_59
        rw [if_neg (fun z => by have := (nI_eq (by omega) (by omega)).mp z; omega)]
        rfl
      rw [hg, st] at hh
      rcases dq_seg (fu := fu) hr hE hQ hc (e := (h + n) % 17) (to := (h + n) % 17) (by omega) ((h + n) % 17) g (17 - h) 0 (by omega) (by omega) (by omega) (fun j hj => by omega) with ⟨⟨j, -, j2, j3⟩, h2⟩ | ⟨hn2, h2⟩
      · exact Or.inl ⟨⟨j, by omega, j3⟩, hh.trans h2⟩
      · refine Or.inr ⟨fun j hj => ?_, (hh.trans h2).trans (fin _ _ (by omega) (by omega))⟩
        by_cases hj2 : j < 17 - h
        · exact hn j (by omega) (by omega)
        · exact hn2 j (by omega) (by omega)
/-- clear -/
theorem cl_seg (hr : Hq r) {e to : Nat} (hto : to ≤ 17) : ∀ (d f p : Nat) (w : Wd), Els ev w r → p + d = to → d < f → ∃ w' : Wd, L_J5_circularClear_12 fu ev f (mem ev w) (some (ev.1 + (r + 1))) (nI p) (nI e) (nI to) = L_J5_circularClear_12 fu ev (f - d) (mem ev w') (some (ev.1 + (r + 1))) (nI to) (nI e) (nI to) ∧ Els ev w' r ∧ w'.1 = w.1 ∧ w'.2.1 = w.2.1 ∧ (∀ q : Nat, q ≠ r + 1 → w'.2.2.1 q = w.2.2.1 q) ∧ w'.2.2.2 = w.2.2.2 := by
  intro d
  induction d with
  | zero =>
    intro f p w hE hp _
    obtain rfl : p = to := by omega
    exact ⟨w, rfl, hE, rfl, rfl, fun _ _ => rfl, rfl⟩
  | succ d ih =>
    intro f p w hE hp hf
    obtain ⟨g, rfl⟩ : ∃ g, f = g + 1 := ⟨f - 1, by omega⟩
    have st := qSt (ev := ev) (w := w) (k := p) (x := none) hr (by omega) rfl
    obtain ⟨w', e1, e2, e3, e4, e5, e6⟩ := ih g (p + 1) (wA w (r + 1) p none) (Els_wA hE (Or.inl rfl)) (by omega) (by omega)
    refine ⟨w', ?_, e2, e3, e4, fun q hq => ?_, e6⟩
    · show b_J5_circularClear_12 _ fu ev _ _ _ _ _ = _
      unfold b_J5_circularClear_12
      rw [if_neg (nI_ge (by omega) (by omega))]
      unfold b_J5_circularClear_17
      rw [Option.bind_some, st, Option.bind_some, nI_1, e1, show g + 1 - (d + 1) = g - d by omega]
    · rw [e5 q hq, wA_row hq]
theorem dq_clear (hr : Hq r) (hf : 40 ≤ fu) (hQ : DQ ev w r h n qs) : ∃ w' : Wd, f_J5_clear fu ev (mem ev w) (ev.1 + r) = some ((), mem ev w') ∧ DQ ev w' r 0 0 qs ∧ FrQ r w w' := by
  have h17 := hQ.1
  have h6 := hQ.2.1
  have fin : ∀ (f e : Nat) (w : Wd), 0 < f → e ≤ 17 → L_J5_circularClear_12 fu ev f (mem ev w) (some (ev.1 + (r + 1))) (nI e) (nI e) (nI e) = some ((), mem ev w) := by
    intro f e w hf he
    obtain ⟨g, rfl⟩ : ∃ g, f = g + 1 := ⟨f - 1, by omega⟩
    show b_J5_circularClear_12 _ fu ev _ _ _ _ _ = _
    unfold b_J5_circularClear_12
    rw [if_pos (nI_le (Nat.le_refl _) (by omega))]
    unfold b_J5_circularClear_27
    rw [if_pos rfl]
    rfl
  have circ : ∃ w' : Wd, f_J5_circularClear fu ev (mem ev w) (some (ev.1 + (r + 1))) (nI h) (nI ((h + n) % 17)) = some ((), mem ev w') ∧ Els ev w' r ∧ w'.1 = w.1 ∧ w'.2.1 = w.2.1 ∧ (∀ q : Nat, q ≠ r + 1 → w'.2.2.1 q = w.2.2.1 q) ∧ w'.2.2.2 = w.2.2.2 := by
    unfold f_J5_circularClear b_J5_circularClear_0
    by_cases hw : h + n < 17
    · rw [Nat.mod_eq_of_lt hw, if_neg (nI_nlt (by omega) (by omega))]
      unfold b_J5_circularClear_5 b_J5_circularClear_11
      obtain ⟨w', e1, e2⟩ := cl_seg (ev := ev) (fu := fu) hr (e := h + n) (to := h + n) (by omega) n fu h w hQ.2.2.2.2.2 (by omega) (by omega)
      exact ⟨w', e1.trans (fin _ _ _ (by omega) (by omega)), e2⟩
    · rw [if_pos (nI_lt (by omega) (by omega))]
      unfold b_J5_circularClear_9
      rw [Option.bind_some, qLen hr, Option.bind_some]
      unfold b_J5_circularClear_11
      obtain ⟨w1, e1, e2, e3, e4, e5, e6⟩ := cl_seg (ev := ev) (fu := fu) hr (e := (h + n) % 17) (to := 17) (by omega) (17 - h) fu h w hQ.2.2.2.2.2 (by omega) (by omega)
      obtain ⟨g, hg⟩ : ∃ g, fu - (17 - h) = g + 1 := ⟨fu - (17 - h) - 1, by omega⟩
      have st : L_J5_circularClear_12 fu ev (g + 1) (mem ev w1) (some (ev.1 + (r + 1))) (nI 17) (nI ((h + n) % 17)) (nI 17) = L_J5_circularClear_12 fu ev g (mem ev w1) (some (ev.1 + (r + 1))) (nI 0) (nI ((h + n) % 17)) (nI ((h + n) % 17)) := by
        show b_J5_circularClear_12 _ fu ev _ _ _ _ _ = _
        unfold b_J5_circularClear_12
        rw [if_pos (nI_le (Nat.le_refl _) (by omega))]
        unfold b_J5_circularClear_27
        rw [if_neg (fun z => by have := (nI_eq (by omega) (by omega)).mp z; omega)]
        rfl
      rw [hg, st] at e1
      obtain ⟨w2, f1, f2, f3, f4, f5, f6⟩ := cl_seg (ev := ev) (fu := fu) hr (e := (h + n) % 17) (to := (h + n) % 17) (by omega) ((h + n) % 17) g 0 w1 e2 (by omega) (by omega)
      exact ⟨w2, (e1.trans f1).trans (fin _ _ _ (by omega) (by omega)), f2, f3.trans e3, f4.trans e4, fun q hq => (f5 q hq).trans (e5 q hq), f6.trans e6⟩
  obtain ⟨w1, c1, c2, c3, c4, c5, c6⟩ := circ
  refine ⟨wI (wI w1 r 2 0) r 1 0, ?_, ⟨by omega, by omega, ?_, ?_, fun i hi => by omega, c2⟩, c3, fun q hq => ?_, c5, c6⟩
  · unfold f_J5_clear b_J5_clear_0
    rw [qA0 hr, Option.bind_some, qI1 hr, Option.bind_some, qI2 hr, Option.bind_some, hQ.2.2.1, hQ.2.2.2.1, c1]
    show (pfI ev (mem ev w1) (ev.1 + r) 8 2 0).bind _ = _
    rw [qP2 hr, Option.bind_some, qP1 hr, Option.bind_some]
  · exact wI_same
  · rw [wI_ne (by omega), wI_same]; rfl
  · rw [wI_row hq, wI_row hq, c4]
end XDT
