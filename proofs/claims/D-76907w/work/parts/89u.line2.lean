/-! OPERATIONS waits, line, drop -/
def liV (n : Nat) (qs : Nat → Nat) (x : Int32) : Int32 := if (-1 : Int32) ≤ x then (if x = -1 then nI n else if nI n ≤ x then -2 else nI (qs x.toNatClampNeg)) else -1
section XL2
variable {ev : Ev} {w w' w'' : Wd} {fu k n t h c j M T : Nat} {x : Int32} {qs : Nat → Nat} {K : Option Nat}
theorem pig : ∀ (B n : Nat) (q : Nat → Nat), (∀ i : Nat, i < n → q i < B) → (∀ i j : Nat, i < n → j < n → q i = q j → i = j) → n ≤ B := by
  intro B
  induction B with
  | zero =>
    intro n q h1 _
    rcases Nat.eq_zero_or_pos n with e | e
    · omega
    · have := h1 0 e
      omega
  | succ B ih =>
    intro n q h1 h2
    by_cases hx : ∃ i : Nat, i < n ∧ q i = B
    · obtain ⟨i, hi, hq⟩ := hx
      have := ih (n - 1) (dl i q) (fun j hj => ?_) (fun a b ha hb e => ?_)
      · omega
      · unfold dl
        split
        · have a1 := h1 j (by omega)
          have a2 : q j ≠ B := fun e => by have := h2 j i (by omega) hi (e.trans hq.symm); omega
          omega
        · have a1 := h1 (j + 1) (by omega)
          have a2 : q (j + 1) ≠ B := fun e => by have := h2 (j + 1) i (by omega) hi (e.trans hq.symm); omega
          omega
      · unfold dl at e
        split at e <;> split at e
        · exact h2 a b (by omega) (by omega) e
        · have := h2 a (b + 1) (by omega) (by omega) e
          omega
        · have := h2 (a + 1) b (by omega) (by omega) e
          omega
        · have := h2 (a + 1) (b + 1) (by omega) (by omega) e
          omega
    · have := ih n q (fun i hi => by
        have a1 := h1 i hi
        have a2 : q i ≠ B := fun e => hx ⟨i, hi, e⟩
        omega) h2
      omega
theorem pig1 (h1 : ∀ i : Nat, i < n → qs i < M) (h2 : ∀ i j : Nat, i < n → j < n → qs i = qs j → i = j) (hc : c < M) (h3 : ∀ i : Nat, i < n → qs i ≠ c) : n < M := by
  refine pig M (n + 1) (fun i => if i = n then c else qs i) (fun i hi => ?_) (fun i j hi hj e => ?_)
  · show (if i = n then c else qs i) < M
    split
    · exact hc
    · exact h1 i (by omega)
  · have e' : (if i = n then c else qs i) = (if j = n then c else qs j) := e
    split at e' <;> split at e'
    · omega
    · exact absurd e'.symm (h3 j (by omega))
    · exact absurd e' (h3 i (by omega))
    · exact h2 i j (by omega) (by omega) e'
theorem QM_add (hQ : QM w 6 971 n qs M) (hc : c < M) (h3 : ∀ i : Nat, i < n → qs i ≠ c) : QM (wI (wI w 971 n (nI c)) 966 6 (nI (n + 1))) 6 971 (n + 1) (fun i => if i = n then c else qs i) M := by
  refine ⟨wI_same, fun i hi => ?_, fun i j hi hj e => ?_⟩
  · rw [wI_ne (by omega)]
    show _ = nI (if i = n then c else qs i) ∧ (if i = n then c else qs i) < M
    by_cases e : i = n
    · subst e
      rw [wI_same, if_pos rfl]
      exact ⟨rfl, hc⟩
    · rw [wI_ne (by omega), if_neg e]
      exact hQ.2.1 i (by omega)
  · have e' : (if i = n then c else qs i) = (if j = n then c else qs j) := e
    split at e' <;> split at e'
    · omega
    · exact absurd e'.symm (h3 j (by omega))
    · exact absurd e' (h3 i (by omega))
    · exact hQ.2.2 i j (by omega) (by omega) e'
theorem seg_wait (hQ : QM w 6 971 n qs M) (hn : n ≤ 6) (hB : M ≤ 6) (hc : c < 128) : ∀ (d f k : Nat), (∀ i : Nat, k ≤ i → i < k + d → qs i ≠ c) → k + d ≤ n → d ≤ f → L_X2_waits_12 fu ev f (mem ev w) (ev.1 + 966) (nI c) (nI k) = L_X2_waits_12 fu ev (f - d) (mem ev w) (ev.1 + 966) (nI c) (nI (k + d)) := by
  intro d
  induction d with
  | zero => intro f k _ _ _; rfl
  | succ d ih =>
    intro f k hne hk hf
    obtain ⟨g, rfl⟩ : ∃ g, f = g + 1 := ⟨f - 1, by omega⟩
    obtain ⟨v1, v2⟩ := hQ.2.1 k (by omega)
    have := ih g (k + 1) (fun i hi hi2 => hne i (by omega) (by omega)) (by omega) (by omega)
    rw [show g + 1 - (d + 1) = g - d by omega, show k + (d + 1) = k + 1 + d by omega, ← this]
    show b_X2_waits_12 _ fu ev _ _ _ _ = _
    unfold b_X2_waits_12
    rw [mi6, Option.bind_some, hQ.1, if_neg (nI_ge (by omega) (by omega))]
    unfold b_X2_waits_20
    rw [mf14, Option.bind_some, Option.bind_some, rdI (N := 6) rfl (by decide) (by decide) (by omega), Option.bind_some, v1, if_neg (nI_ne (by omega) (by omega) (hne k (by omega) (by omega)))]
    unfold b_X2_waits_33
    rw [nI_1]
theorem mx_wait (hf : 40 ≤ fu) (hN : w.2.1 966 2 = nI M) (a : isc (nI c) M = true) (hQ : QM w 6 971 n qs M) (hn : n ≤ 6) (hB : M ≤ 6) (hc : c < M) : (∀ j : Nat, j < n → qs j = c → f_X2_waits fu ev (mem ev w) (ev.1 + 966) (nI c) = some (-5, mem ev w)) ∧ ((∀ j : Nat, j < n → qs j ≠ c) → f_X2_waits fu ev (mem ev w) (ev.1 + 966) (nI c) = some (nI (n + 1), mem ev (wI (wI w 971 n (nI c)) 966 6 (nI (n + 1))))) := by
  have hd : f_X2_waits fu ev (mem ev w) (ev.1 + 966) (nI c) = L_X2_waits_12 fu ev fu (mem ev w) (ev.1 + 966) (nI c) (nI 0) := by
    simp only [f_X2_waits, b_X2_waits_0, b_X2_waits_10, mis, X2_isCell hN, a, Option.bind_some, bd2, b01, if_true, if_false, not_true_eq_false, not_false_eq_true, Bool.false_eq_true, eq_self, Int32.reduceAdd, Int32.reduceMul, Int32.reduceLE, Int32.reduceLT, reduceIte, Int32.add_assoc, ie_0_1, ie_0_2, ie_0_3, ie_0_4, ie_0_5, ie_0_6, ie_0_7, ie_0_8, ie_0_9, ie_1_0, ie_1_2, ie_1_3, ie_1_4, ie_1_5, ie_1_6, ie_1_7, ie_1_8, ie_1_9, ie_2_0, ie_2_1, ie_2_3, ie_2_4, ie_2_5, ie_2_6, ie_2_7, ie_2_8, ie_2_9, ie_3_0, ie_3_1, ie_3_2, ie_3_4, ie_3_5, ie_3_6, ie_3_7, ie_3_8, ie_3_9, ie_4_0, ie_4_1, ie_4_2, ie_4_3, ie_4_5, ie_4_6, ie_4_7, ie_4_8, ie_4_9, ie_5_0, ie_5_1, ie_5_2, ie_5_3, ie_5_4, ie_5_6, ie_5_7, ie_5_8, ie_5_9, ie_6_0, ie_6_1, ie_6_2, ie_6_3, ie_6_4, ie_6_5, ie_6_7, ie_6_8, ie_6_9, ie_7_0, ie_7_1, ie_7_2, ie_7_3, ie_7_4, ie_7_5, ie_7_6, ie_7_8, ie_7_9, ie_8_0, ie_8_1, ie_8_2, ie_8_3, ie_8_4, ie_8_5, ie_8_6, ie_8_7, ie_8_9, ie_9_0, ie_9_1, ie_9_2, ie_9_3, ie_9_4, ie_9_5, ie_9_6, ie_9_7, ie_9_8, nI_1, nI_pred, setC_21, setS_21, wI_same, Int32.reduceSub]
    rfl
  refine ⟨fun j hj hq => ?_, fun hne => ?_⟩
  · have s1 := seg_wait (fu := fu) (ev := ev) (c := c) hQ hn hB (by omega) j fu 0 (fun i _ hi e => by have := hQ.2.2 i j (by omega) hj (e.trans hq.symm); omega) (by omega) (by omega)
    rw [Nat.zero_add] at s1
    obtain ⟨g, hg⟩ : ∃ g, fu - j = g + 1 := ⟨fu - j - 1, by omega⟩
    rw [hd, s1, hg]
    show b_X2_waits_12 _ fu ev _ _ _ _ = _
    unfold b_X2_waits_12
    rw [mi6, Option.bind_some, hQ.1, if_neg (nI_ge (by omega) (by omega))]
    unfold b_X2_waits_20
    rw [mf14, Option.bind_some, Option.bind_some, rdI (N := 6) rfl (by decide) (by decide) (by omega), Option.bind_some, (hQ.2.1 j hj).1, hq, if_pos rfl]
    rfl
  · have s1 := seg_wait (fu := fu) (ev := ev) (c := c) hQ hn hB (by omega) n fu 0 (fun i _ hi => hne i (by omega)) (by omega) (by omega)
    rw [Nat.zero_add] at s1
    have hlt := pig1 (fun i hi => (hQ.2.1 i hi).2) hQ.2.2 hc hne
    obtain ⟨g, hg⟩ : ∃ g, fu - n = g + 1 := ⟨fu - n - 1, by omega⟩
    have q6 : (wI w 971 n (nI c)).2.1 966 6 = nI n := by rw [wI_ne (by omega)]; exact hQ.1
    rw [hd, s1, hg]
    show b_X2_waits_12 _ fu ev _ _ _ _ = _
    unfold b_X2_waits_12
    rw [mi6, Option.bind_some, hQ.1, if_pos (Int32.le_refl _)]
    unfold b_X2_waits_39
    rw [mf14, Option.bind_some, mi6, Option.bind_some, Option.bind_some, hQ.1, wrI (N := 6) rfl (by decide) (by decide) (by omega), Option.bind_some, mi6, Option.bind_some, q6, nI_1, mp6, Option.bind_some, mi6, Option.bind_some, wI_same]
theorem op_waits (hE : EvOk ev) (hf : 40 ≤ fu) (hR : Rel ev w M K T) : ∃ (r : Int32) (w1 w2 : Wd), f_X0_waits fu ev (mem ev w) ev.1 x = some (r, mem ev w1) ∧ f_X2_waits fu ev (mem ev w1) (ev.1 + 966) x = some (r, mem ev w2) ∧ Rel ev w2 M K T ∧ szW w2 = szW w ∧ slW w2 = slW w ∧ w2.1 = w.1 := by
  have hr : Hq 38 := Or.inl rfl
  obtain ⟨⟨C, F, p, rc⟩, -, -, -, ⟨h, n, qs, hQ, hm⟩, -⟩ := id hR
  obtain ⟨hM6, hM, hN, -⟩ := rc.1
  have hn6 := hQ.2.1
  by_cases a : isc x M = true
  · obtain ⟨c, hc, rfl⟩ := isc_of hM6 a
    have vo := ia_of (w := w) (fu := fu) (k := c) hE (by omega)
    have hd : ∀ b : Int32, f_J5_contains fu ev (mem ev w) (ev.1 + 38) (some (ia ev c)) = some (b, mem ev w) → f_X0_waits fu ev (mem ev w) ev.1 (nI c) = if b = 0 then b_X0_waits_27 fu ev (mem ev w) ev.1 (nI c) else some (-5, mem ev w) := by
      intro b e
      simp only [f_X0_waits, b_X0_waits_0, b_X0_waits_10, b_X0_waits_24, xis, X0_isCell hM, a, xf16, vo, qIs hr, e, Option.bind_some, bd2, b01, if_true, if_false, not_true_eq_false, not_false_eq_true, Bool.false_eq_true, eq_self, Int32.reduceAdd, Int32.reduceMul, Int32.reduceLE, Int32.reduceLT, reduceIte, Int32.add_assoc, ie_0_1, ie_0_2, ie_0_3, ie_0_4, ie_0_5, ie_0_6, ie_0_7, ie_0_8, ie_0_9, ie_1_0, ie_1_2, ie_1_3, ie_1_4, ie_1_5, ie_1_6, ie_1_7, ie_1_8, ie_1_9, ie_2_0, ie_2_1, ie_2_3, ie_2_4, ie_2_5, ie_2_6, ie_2_7, ie_2_8, ie_2_9, ie_3_0, ie_3_1, ie_3_2, ie_3_4, ie_3_5, ie_3_6, ie_3_7, ie_3_8, ie_3_9, ie_4_0, ie_4_1, ie_4_2, ie_4_3, ie_4_5, ie_4_6, ie_4_7, ie_4_8, ie_4_9, ie_5_0, ie_5_1, ie_5_2, ie_5_3, ie_5_4, ie_5_6, ie_5_7, ie_5_8, ie_5_9, ie_6_0, ie_6_1, ie_6_2, ie_6_3, ie_6_4, ie_6_5, ie_6_7, ie_6_8, ie_6_9, ie_7_0, ie_7_1, ie_7_2, ie_7_3, ie_7_4, ie_7_5, ie_7_6, ie_7_8, ie_7_9, ie_8_0, ie_8_1, ie_8_2, ie_8_3, ie_8_4, ie_8_5, ie_8_6, ie_8_7, ie_8_9, ie_9_0, ie_9_1, ie_9_2, ie_9_3, ie_9_4, ie_9_5, ie_9_6, ie_9_7, ie_9_8, nI_1, nI_pred, setC_21, setS_21, wI_same, Int32.reduceSub]
    rcases dq_contains (fu := fu) (c := c) hr hf hE hQ (by omega) with ⟨⟨j, hj, hq⟩, e⟩ | ⟨hne, e⟩
    · exact ⟨-5, w, w, by rw [hd _ e, if_neg (by decide)], (mx_wait (ev := ev) (fu := fu) hf hN a hm hn6 hM6 hc).1 j hj hq, hR, rfl, rfl, rfl⟩
    · have hlt := pig1 (fun i hi => (hm.2.1 i hi).2) hm.2.2 hc hne
      obtain ⟨w1, e1, Q1, F1⟩ := dq_addLast (fu := fu) (q := c) hr hE hQ (by omega) (by omega)
      have f1 := FrX_Q38 F1
      have sz := dq_size (fu := fu) hr Q1
      have m1 := QM6_x hm f1 (by decide)
      have hN' : w1.2.1 966 2 = nI M := by rw [f1.1 966 2 (by decide) (by decide)]; exact hN
      obtain ⟨w2, hw2⟩ : ∃ w2, w2 = wI (wI w1 971 n (nI c)) 966 6 (nI (n + 1)) := ⟨_, rfl⟩
      have e2 := (mx_wait (ev := ev) (fu := fu) hf hN' a m1 hn6 hM6 hc).2 hne
      rw [← hw2] at e2
      have f2 : FrX [16] w1 w2 := by rw [hw2]; exact FrX_trans (U := [16]) (FrX_wI (S := [16]) (Or.inr List.mem_cons_self)) (FrX_wI (S := [16]) (Or.inr (by decide))) (by decide) (by decide)
      have d2 : w2.2.2 = w1.2.2 := by rw [hw2]; rfl
      have d1 : w2.2.2.2 = w.2.2.2 := by rw [d2, F1.2.2.2]
      refine ⟨nI (n + 1), w1, w2, ?_, e2, Rel_ln hR (FrX_trans f1 f2 (by decide) (by decide)) (by unfold szW; rw [d1]; exact Nat.le_refl _) (fun a _ => by unfold dyn; rw [d1]) ⟨h, n + 1, _, DQ38_x Q1 f2 (by decide), by rw [hw2]; exact QM_add m1 hc hne⟩, by unfold szW; rw [d1], by unfold slW; rw [d1], by rw [hw2]; exact F1.1⟩
      rw [hd _ e, if_pos rfl]
      simp only [b_X0_waits_27, xf16, vo, qIs hr, e1, sz, Option.bind_some, bd2, b01, if_true, if_false, not_true_eq_false, not_false_eq_true, Bool.false_eq_true, eq_self, Int32.reduceAdd, Int32.reduceMul, Int32.reduceLE, Int32.reduceLT, reduceIte, Int32.add_assoc, ie_0_1, ie_0_2, ie_0_3, ie_0_4, ie_0_5, ie_0_6, ie_0_7, ie_0_8, ie_0_9, ie_1_0, ie_1_2, ie_1_3, ie_1_4, ie_1_5, ie_1_6, ie_1_7, ie_1_8, ie_1_9, ie_2_0, ie_2_1, ie_2_3, ie_2_4, ie_2_5, ie_2_6, ie_2_7, ie_2_8, ie_2_9, ie_3_0, ie_3_1, ie_3_2, ie_3_4, ie_3_5, ie_3_6, ie_3_7, ie_3_8, ie_3_9, ie_4_0, ie_4_1, ie_4_2, ie_4_3, ie_4_5, ie_4_6, ie_4_7, ie_4_8, ie_4_9, ie_5_0, ie_5_1, ie_5_2, ie_5_3, ie_5_4, ie_5_6, ie_5_7, ie_5_8, ie_5_9, ie_6_0, ie_6_1, ie_6_2, ie_6_3, ie_6_4, ie_6_5, ie_6_7, ie_6_8, ie_6_9, ie_7_0, ie_7_1, ie_7_2, ie_7_3, ie_7_4, ie_7_5, ie_7_6, ie_7_8, ie_7_9, ie_8_0, ie_8_1, ie_8_2, ie_8_3, ie_8_4, ie_8_5, ie_8_6, ie_8_7, ie_8_9, ie_9_0, ie_9_1, ie_9_2, ie_9_3, ie_9_4, ie_9_5, ie_9_6, ie_9_7, ie_9_8, nI_1, nI_pred, setC_21, setS_21, wI_same, Int32.reduceSub]
  · exact ⟨-1, w, w, by simp only [f_X0_waits, b_X0_waits_0, b_X0_waits_8, xis, X0_isCell hM, a, Option.bind_some, bd2, b01, if_true, if_false, not_true_eq_false, not_false_eq_true, Bool.false_eq_true, eq_self, Int32.reduceAdd, Int32.reduceMul, Int32.reduceLE, Int32.reduceLT, reduceIte, Int32.add_assoc, ie_0_1, ie_0_2, ie_0_3, ie_0_4, ie_0_5, ie_0_6, ie_0_7, ie_0_8, ie_0_9, ie_1_0, ie_1_2, ie_1_3, ie_1_4, ie_1_5, ie_1_6, ie_1_7, ie_1_8, ie_1_9, ie_2_0, ie_2_1, ie_2_3, ie_2_4, ie_2_5, ie_2_6, ie_2_7, ie_2_8, ie_2_9, ie_3_0, ie_3_1, ie_3_2, ie_3_4, ie_3_5, ie_3_6, ie_3_7, ie_3_8, ie_3_9, ie_4_0, ie_4_1, ie_4_2, ie_4_3, ie_4_5, ie_4_6, ie_4_7, ie_4_8, ie_4_9, ie_5_0, ie_5_1, ie_5_2, ie_5_3, ie_5_4, ie_5_6, ie_5_7, ie_5_8, ie_5_9, ie_6_0, ie_6_1, ie_6_2, ie_6_3, ie_6_4, ie_6_5, ie_6_7, ie_6_8, ie_6_9, ie_7_0, ie_7_1, ie_7_2, ie_7_3, ie_7_4, ie_7_5, ie_7_6, ie_7_8, ie_7_9, ie_8_0, ie_8_1, ie_8_2, ie_8_3, ie_8_4, ie_8_5, ie_8_6, ie_8_7, ie_8_9, ie_9_0, ie_9_1, ie_9_2, ie_9_3, ie_9_4, ie_9_5, ie_9_6, ie_9_7, ie_9_8, nI_1, nI_pred, setC_21, setS_21, wI_same, Int32.reduceSub], by simp only [f_X2_waits, b_X2_waits_0, b_X2_waits_8, mis, X2_isCell hN, a, Option.bind_some, bd2, b01, if_true, if_false, not_true_eq_false, not_false_eq_true, Bool.false_eq_true, eq_self, Int32.reduceAdd, Int32.reduceMul, Int32.reduceLE, Int32.reduceLT, reduceIte, Int32.add_assoc, ie_0_1, ie_0_2, ie_0_3, ie_0_4, ie_0_5, ie_0_6, ie_0_7, ie_0_8, ie_0_9, ie_1_0, ie_1_2, ie_1_3, ie_1_4, ie_1_5, ie_1_6, ie_1_7, ie_1_8, ie_1_9, ie_2_0, ie_2_1, ie_2_3, ie_2_4, ie_2_5, ie_2_6, ie_2_7, ie_2_8, ie_2_9, ie_3_0, ie_3_1, ie_3_2, ie_3_4, ie_3_5, ie_3_6, ie_3_7, ie_3_8, ie_3_9, ie_4_0, ie_4_1, ie_4_2, ie_4_3, ie_4_5, ie_4_6, ie_4_7, ie_4_8, ie_4_9, ie_5_0, ie_5_1, ie_5_2, ie_5_3, ie_5_4, ie_5_6, ie_5_7, ie_5_8, ie_5_9, ie_6_0, ie_6_1, ie_6_2, ie_6_3, ie_6_4, ie_6_5, ie_6_7, ie_6_8, ie_6_9, ie_7_0, ie_7_1, ie_7_2, ie_7_3, ie_7_4, ie_7_5, ie_7_6, ie_7_8, ie_7_9, ie_8_0, ie_8_1, ie_8_2, ie_8_3, ie_8_4, ie_8_5, ie_8_6, ie_8_7, ie_8_9, ie_9_0, ie_9_1, ie_9_2, ie_9_3, ie_9_4, ie_9_5, ie_9_6, ie_9_7, ie_9_8, nI_1, nI_pred, setC_21, setS_21, wI_same, Int32.reduceSub], hR, rfl, rfl, rfl⟩
/-! the k-th of the line -/
theorem Lx_line (hE : EvOk ev) (hj : j < 2 ^ 31) : ∀ (d f k : Nat) (w : Wd) (l : Int32), k + d = n → DQ ev w 38 h n qs → Di ev w 38 t h n k l → d < f → k ≤ j → ∃ w' : Wd, L_X0_line_30 fu ev f (mem ev w) (nI j) (nI k) (some t) = some (if n ≤ j then -2 else nI (qs j), mem ev w') ∧ DQ ev w' 38 h n qs ∧ FrU t w w' := by
  have hr : Hq 38 := Or.inl rfl
  intro d
  induction d with
  | zero =>
    intro f k w l hk hQ hT hf hkj
    obtain ⟨g, rfl⟩ : ∃ g, f = g + 1 := ⟨f - 1, by omega⟩
    have hn := dq_hasNext (fu := fu) hQ.2.1 (by omega) hT
    rw [if_neg (by omega)] at hn
    refine ⟨w, ?_, hQ, FrU_refl⟩
    show b_X0_line_30 _ fu ev _ _ _ _ = _
    unfold b_X0_line_30
    rw [Option.bind_some, di_is hT.2.1 hT.1, Option.bind_some, hn, if_pos (by omega)]
    rfl
  | succ d ih =>
    intro f k w l hk hQ hT hf hkj
    obtain ⟨g, rfl⟩ : ∃ g, f = g + 1 := ⟨f - 1, by omega⟩
    have hn6 := hQ.2.1
    have hn := dq_hasNext (fu := fu) hQ.2.1 (by omega) hT
    rw [if_pos (by omega)] at hn
    obtain ⟨wa, Qa, Ta, Fa, e1, e2, e3, e4⟩ := out_next (fu := fu) hE hQ (show k < n by omega) hT
    have hd : L_X0_line_30 fu ev (g + 1) (mem ev w) (nI j) (nI k) (some t) = if nI k = nI j then b_X0_line_58 fu ev (mem ev wa) (nI (qs k)) else b_X0_line_61 (L_X0_line_30 fu ev g) fu ev (mem ev wa) (nI j) (nI k) t := by
      show b_X0_line_30 _ fu ev _ _ _ _ = _
      unfold b_X0_line_30
      rw [Option.bind_some, di_is hT.2.1 hT.1, Option.bind_some, hn]
      show b_X0_line_39 (L_X0_line_30 fu ev g) fu ev (mem ev w) (nI j) (nI k) t = _
      unfold b_X0_line_39
      rw [di_is hT.2.1 hT.1, Option.bind_some, e1]
      show (ckC (mem ev wa) (some (ia ev (qs k))) "java/lang/Integer").bind _ = _
      rw [e2, Option.bind_some]
      show (isC (mem ev wa) (ia ev (qs k)) 15).bind _ = _
      rw [e3, Option.bind_some, e4]
      rfl
    by_cases hq : k = j
    · subst hq
      refine ⟨wa, ?_, Qa, Fa⟩
      rw [hd, if_pos rfl, if_neg (by omega)]
      rfl
    · obtain ⟨w', a1, a2, a3⟩ := ih g (k + 1) wa (nI ((h + k) % 17)) (by omega) Qa Ta (by omega) (by omega)
      refine ⟨w', ?_, a2, FrU_trans Fa a3⟩
      rw [hd, if_neg (nI_ne (by omega) hj hq)]
      unfold b_X0_line_61
      rw [nI_1]
      exact a1
theorem op_line (hE : EvOk ev) (hf : 40 ≤ fu) (hR : Rel ev w M K T) (h1 : szW w + 1 ≤ ev.2.1) (h2 : slW w + 4 ≤ ev.2.2.1) : ∃ (r : Int32) (w1 : Wd), f_X0_line fu ev (mem ev w) ev.1 x = some (r, mem ev w1) ∧ f_X2_line fu ev (mem ev w1) (ev.1 + 966) x = some (r, mem ev w1) ∧ Rel ev w1 M K T ∧ szW w1 ≤ szW w + 1 ∧ slW w1 ≤ slW w + 4 ∧ w1.1 = w.1 := by
  have hr : Hq 38 := Or.inl rfl
  obtain ⟨⟨C, F, p, rc⟩, -, -, -, ⟨h, n, qs, hQ, hm⟩, -, -, -, -, h984⟩ := id hR
  obtain ⟨hM6, hM, hN, -⟩ := rc.1
  have hn6 := hQ.2.1
  by_cases c1 : (-1 : Int32) ≤ x
  · by_cases c2 : x = -1
    · subst c2
      have sz := dq_size (fu := fu) hr hQ
      refine ⟨nI n, w, ?_, ?_, hR, by omega, by omega, rfl⟩
      · simp only [f_X0_line, b_X0_line_0, b_X0_line_7, b_X0_line_12, xf16, qIs hr, sz, c1, Option.bind_some, bd2, b01, if_true, if_false, not_true_eq_false, not_false_eq_true, Bool.false_eq_true, eq_self, Int32.reduceAdd, Int32.reduceMul, Int32.reduceLE, Int32.reduceLT, reduceIte, Int32.add_assoc, ie_0_1, ie_0_2, ie_0_3, ie_0_4, ie_0_5, ie_0_6, ie_0_7, ie_0_8, ie_0_9, ie_1_0, ie_1_2, ie_1_3, ie_1_4, ie_1_5, ie_1_6, ie_1_7, ie_1_8, ie_1_9, ie_2_0, ie_2_1, ie_2_3, ie_2_4, ie_2_5, ie_2_6, ie_2_7, ie_2_8, ie_2_9, ie_3_0, ie_3_1, ie_3_2, ie_3_4, ie_3_5, ie_3_6, ie_3_7, ie_3_8, ie_3_9, ie_4_0, ie_4_1, ie_4_2, ie_4_3, ie_4_5, ie_4_6, ie_4_7, ie_4_8, ie_4_9, ie_5_0, ie_5_1, ie_5_2, ie_5_3, ie_5_4, ie_5_6, ie_5_7, ie_5_8, ie_5_9, ie_6_0, ie_6_1, ie_6_2, ie_6_3, ie_6_4, ie_6_5, ie_6_7, ie_6_8, ie_6_9, ie_7_0, ie_7_1, ie_7_2, ie_7_3, ie_7_4, ie_7_5, ie_7_6, ie_7_8, ie_7_9, ie_8_0, ie_8_1, ie_8_2, ie_8_3, ie_8_4, ie_8_5, ie_8_6, ie_8_7, ie_8_9, ie_9_0, ie_9_1, ie_9_2, ie_9_3, ie_9_4, ie_9_5, ie_9_6, ie_9_7, ie_9_8, nI_1, nI_pred, setC_21, setS_21, wI_same, Int32.reduceSub]
      · simp only [f_X2_line, b_X2_line_0, b_X2_line_7, b_X2_line_12, b_X2_line_38, mi6, hm.1, c1, Option.bind_some, bd2, b01, if_true, if_false, not_true_eq_false, not_false_eq_true, Bool.false_eq_true, eq_self, Int32.reduceAdd, Int32.reduceMul, Int32.reduceLE, Int32.reduceLT, reduceIte, Int32.add_assoc, ie_0_1, ie_0_2, ie_0_3, ie_0_4, ie_0_5, ie_0_6, ie_0_7, ie_0_8, ie_0_9, ie_1_0, ie_1_2, ie_1_3, ie_1_4, ie_1_5, ie_1_6, ie_1_7, ie_1_8, ie_1_9, ie_2_0, ie_2_1, ie_2_3, ie_2_4, ie_2_5, ie_2_6, ie_2_7, ie_2_8, ie_2_9, ie_3_0, ie_3_1, ie_3_2, ie_3_4, ie_3_5, ie_3_6, ie_3_7, ie_3_8, ie_3_9, ie_4_0, ie_4_1, ie_4_2, ie_4_3, ie_4_5, ie_4_6, ie_4_7, ie_4_8, ie_4_9, ie_5_0, ie_5_1, ie_5_2, ie_5_3, ie_5_4, ie_5_6, ie_5_7, ie_5_8, ie_5_9, ie_6_0, ie_6_1, ie_6_2, ie_6_3, ie_6_4, ie_6_5, ie_6_7, ie_6_8, ie_6_9, ie_7_0, ie_7_1, ie_7_2, ie_7_3, ie_7_4, ie_7_5, ie_7_6, ie_7_8, ie_7_9, ie_8_0, ie_8_1, ie_8_2, ie_8_3, ie_8_4, ie_8_5, ie_8_6, ie_8_7, ie_8_9, ie_9_0, ie_9_1, ie_9_2, ie_9_3, ie_9_4, ie_9_5, ie_9_6, ie_9_7, ie_9_8, nI_1, nI_pred, setC_21, setS_21, wI_same, Int32.reduceSub]
    · obtain ⟨j, hj, rfl⟩ := nI_of (lg_pos c1 c2)
      obtain ⟨wa, e1, Qa, Ta, hwa⟩ := dq_iter (fu := fu) hr hQ h984 h1 h2
      obtain ⟨w1, a1, a2, a3, a4, a5, a6⟩ := Lx_line (fu := fu) hE hj n fu 0 wa (-1) (by omega) Qa Ta (by omega) (by omega)
      have za : szW wa = szW w + 1 := by rw [hwa]; rfl
      have ya : slW wa = slW w + 4 := by rw [hwa]; rfl
      have Fa : FrX [6] w wa := by rw [hwa]; exact FrX_row rfl (fun _ _ _ _ => rfl) (fun _ _ _ _ => rfl)
      have ja : wa.1 = w.1 := by rw [hwa]; rfl
      have da : ∀ a : Nat, a < szW w → dyn wa a = dyn w a := fun a ha => by rw [hwa, dyn_nw, if_neg (by omega)]
      have zz : szW w1 = szW wa := congrArg Prod.fst a5
      have yy : slW w1 = slW wa := congrArg Prod.snd a5
      have f1 : FrX [6] w w1 := FrX_trans Fa a4 (by decide) (by decide)
      have m1 := QM6_x hm f1 (by decide)
      refine ⟨if n ≤ j then -2 else nI (qs j), w1, ?_, ?_, Rel_ln hR (FrX_mono f1 (by decide)) (by omega) (fun a ha => (a6 a (by omega)).trans (da a ha)) ⟨h, n, qs, a2, m1⟩, by omega, by omega, a3.trans ja⟩
      · rw [nI_0] at a1
        simp only [f_X0_line, b_X0_line_0, b_X0_line_7, b_X0_line_20, xf16, qIs hr, e1, a1, c1, c2, Option.bind_some, bd2, b01, if_true, if_false, not_true_eq_false, not_false_eq_true, Bool.false_eq_true, eq_self, Int32.reduceAdd, Int32.reduceMul, Int32.reduceLE, Int32.reduceLT, reduceIte, Int32.add_assoc, ie_0_1, ie_0_2, ie_0_3, ie_0_4, ie_0_5, ie_0_6, ie_0_7, ie_0_8, ie_0_9, ie_1_0, ie_1_2, ie_1_3, ie_1_4, ie_1_5, ie_1_6, ie_1_7, ie_1_8, ie_1_9, ie_2_0, ie_2_1, ie_2_3, ie_2_4, ie_2_5, ie_2_6, ie_2_7, ie_2_8, ie_2_9, ie_3_0, ie_3_1, ie_3_2, ie_3_4, ie_3_5, ie_3_6, ie_3_7, ie_3_8, ie_3_9, ie_4_0, ie_4_1, ie_4_2, ie_4_3, ie_4_5, ie_4_6, ie_4_7, ie_4_8, ie_4_9, ie_5_0, ie_5_1, ie_5_2, ie_5_3, ie_5_4, ie_5_6, ie_5_7, ie_5_8, ie_5_9, ie_6_0, ie_6_1, ie_6_2, ie_6_3, ie_6_4, ie_6_5, ie_6_7, ie_6_8, ie_6_9, ie_7_0, ie_7_1, ie_7_2, ie_7_3, ie_7_4, ie_7_5, ie_7_6, ie_7_8, ie_7_9, ie_8_0, ie_8_1, ie_8_2, ie_8_3, ie_8_4, ie_8_5, ie_8_6, ie_8_7, ie_8_9, ie_9_0, ie_9_1, ie_9_2, ie_9_3, ie_9_4, ie_9_5, ie_9_6, ie_9_7, ie_9_8, nI_1, nI_pred, setC_21, setS_21, wI_same, Int32.reduceSub]
      · by_cases e : n ≤ j
        · simp only [f_X2_line, b_X2_line_0, b_X2_line_7, b_X2_line_19, b_X2_line_36, b_X2_line_38, mi6, m1.1, c1, c2, nI_le e hj, e, Option.bind_some, bd2, b01, if_true, if_false, not_true_eq_false, not_false_eq_true, Bool.false_eq_true, eq_self, Int32.reduceAdd, Int32.reduceMul, Int32.reduceLE, Int32.reduceLT, reduceIte, Int32.add_assoc, ie_0_1, ie_0_2, ie_0_3, ie_0_4, ie_0_5, ie_0_6, ie_0_7, ie_0_8, ie_0_9, ie_1_0, ie_1_2, ie_1_3, ie_1_4, ie_1_5, ie_1_6, ie_1_7, ie_1_8, ie_1_9, ie_2_0, ie_2_1, ie_2_3, ie_2_4, ie_2_5, ie_2_6, ie_2_7, ie_2_8, ie_2_9, ie_3_0, ie_3_1, ie_3_2, ie_3_4, ie_3_5, ie_3_6, ie_3_7, ie_3_8, ie_3_9, ie_4_0, ie_4_1, ie_4_2, ie_4_3, ie_4_5, ie_4_6, ie_4_7, ie_4_8, ie_4_9, ie_5_0, ie_5_1, ie_5_2, ie_5_3, ie_5_4, ie_5_6, ie_5_7, ie_5_8, ie_5_9, ie_6_0, ie_6_1, ie_6_2, ie_6_3, ie_6_4, ie_6_5, ie_6_7, ie_6_8, ie_6_9, ie_7_0, ie_7_1, ie_7_2, ie_7_3, ie_7_4, ie_7_5, ie_7_6, ie_7_8, ie_7_9, ie_8_0, ie_8_1, ie_8_2, ie_8_3, ie_8_4, ie_8_5, ie_8_6, ie_8_7, ie_8_9, ie_9_0, ie_9_1, ie_9_2, ie_9_3, ie_9_4, ie_9_5, ie_9_6, ie_9_7, ie_9_8, nI_1, nI_pred, setC_21, setS_21, wI_same, Int32.reduceSub]
        · have ld := rdI (ev := ev) (w := w1) (r := 971) (k := j) (N := 6) rfl (by decide) (by decide) (by omega)
          rw [(m1.2.1 j (by omega)).1] at ld
          simp only [f_X2_line, b_X2_line_0, b_X2_line_7, b_X2_line_19, b_X2_line_27, b_X2_line_38, mi6, m1.1, mf14, ld, c1, c2, nI_ge (show j < n by omega) (show n < 2 ^ 31 by omega), e, Option.bind_some, bd2, b01, if_true, if_false, not_true_eq_false, not_false_eq_true, Bool.false_eq_true, eq_self, Int32.reduceAdd, Int32.reduceMul, Int32.reduceLE, Int32.reduceLT, reduceIte, Int32.add_assoc, ie_0_1, ie_0_2, ie_0_3, ie_0_4, ie_0_5, ie_0_6, ie_0_7, ie_0_8, ie_0_9, ie_1_0, ie_1_2, ie_1_3, ie_1_4, ie_1_5, ie_1_6, ie_1_7, ie_1_8, ie_1_9, ie_2_0, ie_2_1, ie_2_3, ie_2_4, ie_2_5, ie_2_6, ie_2_7, ie_2_8, ie_2_9, ie_3_0, ie_3_1, ie_3_2, ie_3_4, ie_3_5, ie_3_6, ie_3_7, ie_3_8, ie_3_9, ie_4_0, ie_4_1, ie_4_2, ie_4_3, ie_4_5, ie_4_6, ie_4_7, ie_4_8, ie_4_9, ie_5_0, ie_5_1, ie_5_2, ie_5_3, ie_5_4, ie_5_6, ie_5_7, ie_5_8, ie_5_9, ie_6_0, ie_6_1, ie_6_2, ie_6_3, ie_6_4, ie_6_5, ie_6_7, ie_6_8, ie_6_9, ie_7_0, ie_7_1, ie_7_2, ie_7_3, ie_7_4, ie_7_5, ie_7_6, ie_7_8, ie_7_9, ie_8_0, ie_8_1, ie_8_2, ie_8_3, ie_8_4, ie_8_5, ie_8_6, ie_8_7, ie_8_9, ie_9_0, ie_9_1, ie_9_2, ie_9_3, ie_9_4, ie_9_5, ie_9_6, ie_9_7, ie_9_8, nI_1, nI_pred, setC_21, setS_21, wI_same, Int32.reduceSub]
  · exact ⟨-1, w, by simp only [f_X0_line, b_X0_line_0, b_X0_line_5, c1, Option.bind_some, bd2, b01, if_true, if_false, not_true_eq_false, not_false_eq_true, Bool.false_eq_true, eq_self, Int32.reduceAdd, Int32.reduceMul, Int32.reduceLE, Int32.reduceLT, reduceIte, Int32.add_assoc, ie_0_1, ie_0_2, ie_0_3, ie_0_4, ie_0_5, ie_0_6, ie_0_7, ie_0_8, ie_0_9, ie_1_0, ie_1_2, ie_1_3, ie_1_4, ie_1_5, ie_1_6, ie_1_7, ie_1_8, ie_1_9, ie_2_0, ie_2_1, ie_2_3, ie_2_4, ie_2_5, ie_2_6, ie_2_7, ie_2_8, ie_2_9, ie_3_0, ie_3_1, ie_3_2, ie_3_4, ie_3_5, ie_3_6, ie_3_7, ie_3_8, ie_3_9, ie_4_0, ie_4_1, ie_4_2, ie_4_3, ie_4_5, ie_4_6, ie_4_7, ie_4_8, ie_4_9, ie_5_0, ie_5_1, ie_5_2, ie_5_3, ie_5_4, ie_5_6, ie_5_7, ie_5_8, ie_5_9, ie_6_0, ie_6_1, ie_6_2, ie_6_3, ie_6_4, ie_6_5, ie_6_7, ie_6_8, ie_6_9, ie_7_0, ie_7_1, ie_7_2, ie_7_3, ie_7_4, ie_7_5, ie_7_6, ie_7_8, ie_7_9, ie_8_0, ie_8_1, ie_8_2, ie_8_3, ie_8_4, ie_8_5, ie_8_6, ie_8_7, ie_8_9, ie_9_0, ie_9_1, ie_9_2, ie_9_3, ie_9_4, ie_9_5, ie_9_6, ie_9_7, ie_9_8, nI_1, nI_pred, setC_21, setS_21, wI_same, Int32.reduceSub], by simp only [f_X2_line, b_X2_line_0, b_X2_line_5, c1, Option.bind_some, bd2, b01, if_true, if_false, not_true_eq_false, not_false_eq_true, Bool.false_eq_true, eq_self, Int32.reduceAdd, Int32.reduceMul, Int32.reduceLE, Int32.reduceLT, reduceIte, Int32.add_assoc, ie_0_1, ie_0_2, ie_0_3, ie_0_4, ie_0_5, ie_0_6, ie_0_7, ie_0_8, ie_0_9, ie_1_0, ie_1_2, ie_1_3, ie_1_4, ie_1_5, ie_1_6, ie_1_7, ie_1_8, ie_1_9, ie_2_0, ie_2_1, ie_2_3, ie_2_4, ie_2_5, ie_2_6, ie_2_7, ie_2_8, ie_2_9, ie_3_0, ie_3_1, ie_3_2, ie_3_4, ie_3_5, ie_3_6, ie_3_7, ie_3_8, ie_3_9, ie_4_0, ie_4_1, ie_4_2, ie_4_3, ie_4_5, ie_4_6, ie_4_7, ie_4_8, ie_4_9, ie_5_0, ie_5_1, ie_5_2, ie_5_3, ie_5_4, ie_5_6, ie_5_7, ie_5_8, ie_5_9, ie_6_0, ie_6_1, ie_6_2, ie_6_3, ie_6_4, ie_6_5, ie_6_7, ie_6_8, ie_6_9, ie_7_0, ie_7_1, ie_7_2, ie_7_3, ie_7_4, ie_7_5, ie_7_6, ie_7_8, ie_7_9, ie_8_0, ie_8_1, ie_8_2, ie_8_3, ie_8_4, ie_8_5, ie_8_6, ie_8_7, ie_8_9, ie_9_0, ie_9_1, ie_9_2, ie_9_3, ie_9_4, ie_9_5, ie_9_6, ie_9_7, ie_9_8, nI_1, nI_pred, setC_21, setS_21, wI_same, Int32.reduceSub], hR, by omega, by omega, rfl⟩
end XL2
