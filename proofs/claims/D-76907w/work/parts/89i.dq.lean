/-! THE DEQUE: head and tail at place r, elements at place r + 1 -/
def Hq (r : Nat) : Prop := r = 38 ∨ r = 44
def DQ (ev : Ev) (w : Wd) (r h n : Nat) (qs : Nat → Nat) : Prop := h < 17 ∧ n ≤ 6 ∧ w.2.1 r 1 = nI h ∧ w.2.1 r 2 = nI ((h + n) % 17) ∧ (∀ i : Nat, i < n → w.2.2.1 (r + 1) ((h + i) % 17) = some (ia ev (qs i)) ∧ qs i < 128) ∧ ∀ j : Nat, j < 17 → w.2.2.1 (r + 1) j = none ∨ ∃ q : Nat, q < 128 ∧ w.2.2.1 (r + 1) j = some (ia ev q)
def FrQ (r : Nat) (w w' : Wd) : Prop := w'.1 = w.1 ∧ (∀ q : Nat, q ≠ r → w'.2.1 q = w.2.1 q) ∧ (∀ q : Nat, q ≠ r + 1 → w'.2.2.1 q = w.2.2.1 q) ∧ w'.2.2.2 = w.2.2.2
def cpW (w : Wd) (r s d l : Nat) : Wd := (w.1, w.2.1, fun q j => if q = r ∧ d ≤ j ∧ j < d + l then w.2.2.1 r (s + (j - d)) else w.2.2.1 q j, w.2.2.2)
section XDQ
variable {ev : Ev} {w w' w'' : Wd} {r h n k q c i j a b fu : Nat} {qs : Nat → Nat}
theorem FrQ_refl : FrQ r w w := ⟨rfl, fun _ _ => rfl, fun _ _ => rfl, rfl⟩
theorem FrQ_trans (h1 : FrQ r w w') (h2 : FrQ r w' w'') : FrQ r w w'' := ⟨h2.1.trans h1.1, fun q hq => (h2.2.1 q hq).trans (h1.2.1 q hq), fun q hq => (h2.2.2.1 q hq).trans (h1.2.2.1 q hq), h2.2.2.2.trans h1.2.2.2⟩
theorem lenA {κ : Nat} (hκ : κ < 9) (hd : ds r = (3, κ, n)) (hr : r < 984) : alen (mem ev w) (ev.1 + r) = some (nI n) := by
  have h : (mem ev w).1 (ev.1 + r) = some (.inl (κ, n, .inr (.inr (.inr (.inr fun i => if i < n then rf ev w r i else none))))) := by rw [mem_at hr, fx3 hd]
  unfold alen
  rw [h]
  exact if_pos hκ
theorem qI1 (h : Hq r) : gfI (mem ev w) (ev.1 + r) 8 1 = some (w.2.1 r 1) := by rcases h with rfl | rfl <;> exact gI (n := 3) rfl (by decide) (by decide) rfl
theorem qI2 (h : Hq r) : gfI (mem ev w) (ev.1 + r) 8 2 = some (w.2.1 r 2) := by rcases h with rfl | rfl <;> exact gI (n := 3) rfl (by decide) (by decide) rfl
theorem qP1 (h : Hq r) {x : Int32} : pfI ev (mem ev w) (ev.1 + r) 8 1 x = some (mem ev (wI w r 1 x)) := by rcases h with rfl | rfl <;> exact pI (n := 3) rfl (by decide) (by decide) rfl x
theorem qP2 (h : Hq r) {x : Int32} : pfI ev (mem ev w) (ev.1 + r) 8 2 x = some (mem ev (wI w r 2 x)) := by rcases h with rfl | rfl <;> exact pI (n := 3) rfl (by decide) (by decide) rfl x
theorem qA0 (h : Hq r) : gfA (mem ev w) (ev.1 + r) 8 0 = some (some (ev.1 + (r + 1))) := by rcases h with rfl | rfl <;> exact gA (n := 3) rfl (by decide) (by decide) rfl
theorem qIs (h : Hq r) : isC (mem ev w) (ev.1 + r) 8 = some () := by rcases h with rfl | rfl <;> exact isCm (n := 3) rfl (by decide)
theorem qLen (h : Hq r) : alen (mem ev w) (ev.1 + (r + 1)) = some (nI 17) := by rcases h with rfl | rfl <;> exact lenA (n := 17) (κ := 4) (by decide) rfl (by decide)
theorem qLd (h : Hq r) (hk : k < 17) : aldA 4 (mem ev w) (ev.1 + (r + 1)) (nI k) = some (w.2.2.1 (r + 1) k) := by
  rcases h with rfl | rfl
  · rw [ldA (r := 39) (n := 17) (κ := 4) rfl (by decide) (vp_in_nI hk (by decide)), nI_clamp (by omega)]
    rfl
  · rw [ldA (r := 45) (n := 17) (κ := 4) rfl (by decide) (vp_in_nI hk (by decide)), nI_clamp (by omega)]
    rfl
theorem ia_asg (hE : EvOk ev) (hq : q < 128) : (some (ia ev q)).all (asg (mem ev w) 4) = true := by
  show asg (mem ev w) 4 (ia ev q) = true
  unfold asg
  rw [ia_at hE hq]
  show (decide ("java/lang/Integer" = "java/lang/Object") || decide (("java/lang/Integer", "java/lang/Object") ∈ xCa)) = true
  decide
theorem qSt (h : Hq r) (hk : k < 17) {x : Option Nat} (hx : x.all (asg (mem ev w) 4) = true) : astA ev 4 (mem ev w) (ev.1 + (r + 1)) (nI k) x = some (mem ev (wA w (r + 1) k x)) := by
  rcases h with rfl | rfl
  · rw [stA (r := 39) (n := 17) (κ := 4) rfl (by decide) (fun _ => rfl) (vp_in_nI hk (by decide)) hx, nI_clamp (by omega)]
  · rw [stA (r := 45) (n := 17) (κ := 4) rfl (by decide) (fun _ => rfl) (vp_in_nI hk (by decide)) hx, nI_clamp (by omega)]
theorem cpA {s d l r n : Nat} (hd : ds r = (3, 4, n)) (hr : r < 984) (hmu : ∀ i : Nat, mu r i = true) (hn : n < 1000) (hs : s + l ≤ n) (hdl : d + l ≤ n) (hb : ∀ j : Nat, j < n → (w.2.2.1 r j).all (asg (mem ev w) 4) = true) : cpyA ev (mem ev w) (ev.1 + r) (nI s) (ev.1 + r) (nI d) (nI l) = some (mem ev (cpW w r s d l)) := by
  have h : (mem ev w).1 (ev.1 + r) = some (.inl (4, n, .inr (.inr (.inr (.inr fun i => if i < n then rf ev w r i else none))))) := by rw [mem_at hr, fx3 hd]
  unfold cpyA
  rw [h]
  dsimp only
  have c1 : ¬ nI s < 0 := nI_pos (by omega)
  have c2 : ¬ nI d < 0 := nI_pos (by omega)
  have c3 : ¬ nI l < 0 := nI_pos (by omega)
  rw [nI_clamp (n := s) (by omega), nI_clamp (n := d) (by omega), nI_clamp (n := l) (by omega)]
  have hall : ((List.range l).all fun i => Option.all (asg (mem ev w) 4) (if s + i < n then rf ev w r (s + i) else none)) = true := by
    rw [List.all_eq_true]
    intro i hi
    have hil := List.mem_range.mp hi
    rw [if_pos (by omega)]
    have e : rf ev w r (s + i) = w.2.2.1 r (s + i) := if_pos (hmu _)
    rw [e]
    exact hb _ (by omega)
  rw [if_pos ⟨⟨rfl, rfl, Nat.le_add_right _ _⟩, by simp only [c1, c2, c3, hs, hdl]; decide, hall⟩]
  · refine congrArg some (mem_up hr ?_ (fun q hq => ⟨rfl, rfl, ?_⟩) rfl)
    · rw [fx3 hd]
      refine congrArg (fun f => some (Sum.inl (4, n, Sum.inr (Sum.inr (Sum.inr (Sum.inr f)))))) (funext fun j => ?_)
      unfold va_cpy
      by_cases hj : j < n
      · rw [if_pos hj]
        show (if mu r j = true then (if r = r ∧ d ≤ j ∧ j < d + l then w.2.2.1 r (s + (j - d)) else w.2.2.1 r j) else _) = _
        rw [if_pos (hmu j)]
        by_cases hc : d ≤ j ∧ j < d + l
        · rw [if_pos ⟨rfl, hc⟩, if_pos hc]
          dsimp only
          rw [if_pos (by omega)]
          exact (if_pos (hmu _)).symm
        · rw [if_neg (fun z => hc z.2), if_neg hc]
          dsimp only
          rw [if_pos hj]
          exact (if_pos (hmu _)).symm
      · rw [if_neg hj, if_neg (by omega)]
        dsimp only
        rw [if_neg hj]
    · funext j
      show (if q = r ∧ d ≤ j ∧ j < d + l then _ else w.2.2.1 q j) = w.2.2.1 q j
      rw [if_neg (fun z => hq z.1)]
theorem qCp {s d l : Nat} (h : Hq r) (hs : s + l ≤ 17) (hdl : d + l ≤ 17) (hb : ∀ j : Nat, j < 17 → (w.2.2.1 (r + 1) j).all (asg (mem ev w) 4) = true) : cpyA ev (mem ev w) (ev.1 + (r + 1)) (nI s) (ev.1 + (r + 1)) (nI d) (nI l) = some (mem ev (cpW w (r + 1) s d l)) := by
  rcases h with rfl | rfl
  · exact cpA (r := 39) (n := 17) rfl (by decide) (fun _ => rfl) (by decide) hs hdl hb
  · exact cpA (r := 45) (n := 17) rfl (by decide) (fun _ => rfl) (by decide) hs hdl hb
theorem q_inc {σ : Mm} (h : i < 17) : f_J5_inc fu ev σ (nI i) (nI 17) = some (nI ((i + 1) % 17), σ) := by
  simp only [f_J5_inc, b_J5_inc_0, nI_1]
  by_cases hc : i + 1 < 17
  · rw [if_pos (nI_lt hc (by decide)), Nat.mod_eq_of_lt hc]
    rfl
  · rw [if_neg (nI_nlt (by omega) (by omega))]
    obtain rfl : i = 16 := by omega
    rfl
theorem q_dec {σ : Mm} (h : i < 17) : f_J5_dec fu ev σ (nI i) (nI 17) = some (nI ((i + 16) % 17), σ) := by
  simp only [f_J5_dec, b_J5_dec_0]
  cases i with
  | zero => rfl
  | succ m =>
    rw [pk_m1, if_pos (nI_pos' (by omega)), show (m + 1 + 16) % 17 = m by omega]
    rfl
theorem q_sub {σ : Mm} (ha : a < 17) (hb : b < 17) : f_J5_sub fu ev σ (nI a) (nI b) (nI 17) = some (nI ((a + 17 - b) % 17), σ) := by
  simp only [f_J5_sub, b_J5_sub_0]
  by_cases hc : b ≤ a
  · rw [pk_sub hc, if_pos (nI_pos' (by omega)), show (a + 17 - b) % 17 = a - b by omega]
    rfl
  · have hneg := pk_sneg (a := a) (b := b) (by omega) (by omega)
    rw [if_neg (fun z => absurd (Int32.le_iff_toInt_le.mp z) (by have := Int32.lt_iff_toInt_lt.mp hneg; omega))]
    show some (nI a - nI b + nI 17, σ) = _
    rw [show (a + 17 - b) % 17 = a + 17 - b by omega, ← pk_sub (by omega), ← nI_add]
    congr 2
    rw [Int32.sub_eq_add_neg, Int32.sub_eq_add_neg, Int32.add_assoc, Int32.add_comm (-nI b), ← Int32.add_assoc]
theorem dq_size (hr : Hq r) (hQ : DQ ev w r h n qs) : f_J5_size fu ev (mem ev w) (ev.1 + r) = some (nI n, mem ev w) := by
  obtain ⟨h1, h2, h3, h4, -⟩ := hQ
  have e := q_sub (ev := ev) (fu := fu) (σ := mem ev w) (a := (h + n) % 17) (b := h) (by omega) h1
  rw [show ((h + n) % 17 + 17 - h) % 17 = n by omega] at e
  simp only [b_J5_size_0, f_J5_size, qI1 hr, qI2 hr, qA0 hr, qLen hr, h3, h4, e, Option.bind_some, bd2]
theorem dq_isEmpty (hr : Hq r) (hQ : DQ ev w r h n qs) : f_J5_isEmpty fu ev (mem ev w) (ev.1 + r) = some (if n = 0 then 1 else 0, mem ev w) := by
  obtain ⟨h1, h2, h3, h4, -⟩ := hQ
  simp only [f_J5_isEmpty, b_J5_isEmpty_0, qI1 hr, qI2 hr, h3, h4, Option.bind_some]
  by_cases hn : n = 0
  · rw [if_pos hn, if_pos (by rw [hn, Nat.add_zero, Nat.mod_eq_of_lt h1])]
    rfl
  · rw [if_neg hn, if_neg (fun z => by have := (nI_eq (by omega) (by omega)).mp z; omega)]
    rfl
theorem dq_asg (hE : EvOk ev) (hQ : DQ ev w r h n qs) : ∀ j : Nat, j < 17 → (w.2.2.1 (r + 1) j).all (asg (mem ev w) 4) = true := by
  intro j hj
  rcases hQ.2.2.2.2.2 j hj with e | ⟨q, hq, e⟩
  · rw [e]; rfl
  · rw [e]; exact ia_asg hE hq
theorem dq_addLast (hr : Hq r) (hE : EvOk ev) (hQ : DQ ev w r h n qs) (hn : n < 6) (hq : q < 128) : ∃ w' : Wd, f_J5_addLast fu ev (mem ev w) (ev.1 + r) (some (ia ev q)) = some ((), mem ev w') ∧ DQ ev w' r h (n + 1) (fun i => if i = n then q else qs i) ∧ FrQ r w w' := by
  obtain ⟨h1, h2, h3, h4, h5, h6⟩ := hQ
  have hp : (h + n) % 17 < 17 := Nat.mod_lt _ (by decide)
  have st := qSt (ev := ev) (w := w) (x := some (ia ev q)) hr hp (ia_asg hE hq)
  have e := q_inc (ev := ev) (fu := fu) (σ := mem ev (wA w (r + 1) ((h + n) % 17) (some (ia ev q)))) hp
  have ne : ¬ nI h = nI (((h + n) % 17 + 1) % 17) := fun z => by have := (nI_eq (by omega) (by omega)).mp z; omega
  refine ⟨wI (wA w (r + 1) ((h + n) % 17) (some (ia ev q))) r 2 (nI (((h + n) % 17 + 1) % 17)), ?_, ⟨h1, by omega, ?_, ?_, fun i hi => ?_, fun j hj => ?_⟩, rfl, fun p hp => ?_, fun p hp => ?_, rfl⟩
  · simp only [b_J5_addLast_50, b_J5_addLast_45, b_J5_addLast_12, b_J5_addLast_4, b_J5_addLast_0, f_J5_addLast, qA0 hr, qI2 hr, qI1 hr, h4, h3, st, wA_21, qLen hr, e, qP2 hr, ne, reduceCtorEq, if_false, Option.bind_some, bd2]
  · rw [wI_ne (by omega)]; exact h3
  · rw [wI_same, show ((h + n) % 17 + 1) % 17 = (h + (n + 1)) % 17 by omega]
  · show (wA w (r + 1) ((h + n) % 17) (some (ia ev q))).2.2.1 (r + 1) ((h + i) % 17) = _ ∧ _
    rw [wA_at]
    by_cases e : i = n
    · subst e
      rw [if_pos ⟨rfl, rfl⟩]
      exact ⟨by simp, by simpa using hq⟩
    · rw [if_neg (by omega)]
      simp only [e, if_false]
      exact h5 i (by omega)
  · show (wA w (r + 1) ((h + n) % 17) (some (ia ev q))).2.2.1 (r + 1) j = _ ∨ _
    rw [wI_22, wA_at]
    by_cases e : j = (h + n) % 17
    · rw [if_pos ⟨rfl, e⟩]
      exact Or.inr ⟨q, hq, rfl⟩
    · rw [if_neg (fun z => e z.2)]
      exact h6 j hj
  · exact wI_row hp
  · exact wA_row hp
theorem dq_removeFirst (hr : Hq r) (hE : EvOk ev) (hQ : DQ ev w r h (n + 1) qs) : ∃ w' : Wd, f_J5_removeFirst fu ev (mem ev w) (ev.1 + r) = some (some (ia ev (qs 0)), mem ev w') ∧ DQ ev w' r ((h + 1) % 17) n (fun i => qs (i + 1)) ∧ FrQ r w w' := by
  obtain ⟨h1, h2, h3, h4, h5, h6⟩ := hQ
  have ld := qLd (ev := ev) (w := w) hr h1
  have e0 := (h5 0 (by omega)).1
  rw [show (h + 0) % 17 = h by omega] at e0
  rw [e0] at ld
  have st := qSt (ev := ev) (w := w) (x := none) hr h1 rfl
  have e := q_inc (ev := ev) (fu := fu) (σ := mem ev (wA w (r + 1) h none)) h1
  refine ⟨wI (wA w (r + 1) h none) r 1 (nI ((h + 1) % 17)), ?_, ⟨by omega, by omega, ?_, ?_, fun i hi => ?_, fun j hj => ?_⟩, rfl, fun p hp => ?_, fun p hp => ?_, rfl⟩
  · simp only [b_J5_removeFirst_17, b_J5_removeFirst_9, b_J5_removeFirst_0, f_J5_removeFirst, b_J5_pollFirst_34, b_J5_pollFirst_20, b_J5_pollFirst_0, f_J5_pollFirst, b_J5_elementAt_0, f_J5_elementAt, qIs hr, qA0 hr, qI1 hr, h3, ld, st, qLen hr, e, qP1 hr, reduceCtorEq, if_false, Option.bind_some, bd2]
  · exact wI_same
  · rw [wI_ne (by omega), wA_21, h4, show ((h + 1) % 17 + n) % 17 = (h + (n + 1)) % 17 by omega]
  · show (wA w (r + 1) h none).2.2.1 (r + 1) (((h + 1) % 17 + i) % 17) = _ ∧ _
    rw [wA_ne (by omega), show ((h + 1) % 17 + i) % 17 = (h + (i + 1)) % 17 by omega]
    exact h5 (i + 1) (by omega)
  · show (wA w (r + 1) h none).2.2.1 (r + 1) j = _ ∨ _
    rw [wI_22, wA_at]
    split
    · exact Or.inl rfl
    · exact h6 j hj
  · exact wI_row hp
  · exact wA_row hp
end XDQ
