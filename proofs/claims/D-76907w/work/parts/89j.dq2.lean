/-! THE DEQUE: delete, iterator, contains, clear -/
def diO (c m l : Int32) (h : Nat) : Option Ob := some (.inr (9, [.int c, .int m, .int l, .ref h]))
section XDR
variable {ev : Ev} {w w' : Wd} {r h n k q c i j t fu : Nat} {qs : Nat → Nat}
theorem cpW_at {s d l r' : Nat} : (cpW w r s d l).2.2.1 r' j = if r' = r ∧ d ≤ j ∧ j < d + l then w.2.2.1 r (s + (j - d)) else w.2.2.1 r' j := rfl
theorem cpW_I {s d l : Nat} : (cpW w r s d l).2.1 = w.2.1 := rfl
theorem cpW_row {s d l p : Nat} (hp : p ≠ r) : (cpW w r s d l).2.2.1 p = w.2.2.1 p := funext fun _ => if_neg fun z => hp z.1
/-- elements stay elements -/
def Els (ev : Ev) (w : Wd) (r : Nat) : Prop := ∀ j : Nat, j < 17 → w.2.2.1 (r + 1) j = none ∨ ∃ q : Nat, q < 128 ∧ w.2.2.1 (r + 1) j = some (ia ev q)
theorem Els_cp {s d l : Nat} (h : Els ev w r) (hs : s + l ≤ 17) : Els ev (cpW w (r + 1) s d l) r := by
  intro j hj
  rw [cpW_at]
  split
  · exact h _ (by omega)
  · exact h j hj
theorem Els_wA {p : Nat} {x : Option Nat} (h : Els ev w r) (hx : x = none ∨ ∃ q : Nat, q < 128 ∧ x = some (ia ev q)) : Els ev (wA w (r + 1) p x) r := by
  intro j hj
  rw [wA_at]
  split
  · exact hx
  · exact h j hj
theorem Els_asg (hE : EvOk ev) (h : Els ev w r) : ∀ j : Nat, j < 17 → (w.2.2.1 (r + 1) j).all (asg (mem ev w) 4) = true := by
  intro j hj
  rcases h j hj with e | ⟨q, hq, e⟩
  · rw [e]; rfl
  · rw [e]; exact ia_asg hE hq
theorem dq_delete (hr : Hq r) (hE : EvOk ev) (hQ : DQ ev w r h (n + 1) qs) (hk : k < n + 1) : ∃ (b : Int32) (h' : Nat) (w' : Wd), f_J5_delete fu ev (mem ev w) (ev.1 + r) (nI ((h + k) % 17)) = some (b, mem ev w') ∧ ((b = 0 ∧ h' = (h + 1) % 17) ∨ (b = 1 ∧ h' = h)) ∧ DQ ev w' r h' n (dl k qs) ∧ FrQ r w w' := by
  obtain ⟨h1, h2, h3, h4, h5, h6⟩ := hQ
  have hp : (h + k) % 17 < 17 := Nat.mod_lt _ (by decide)
  have ht : (h + (n + 1)) % 17 < 17 := Nat.mod_lt _ (by decide)
  have s1 := q_sub (ev := ev) (fu := fu) (σ := mem ev w) (a := (h + k) % 17) (b := h) hp h1
  rw [show ((h + k) % 17 + 17 - h) % 17 = k by omega] at s1
  have s2 := q_sub (ev := ev) (fu := fu) (σ := mem ev w) (a := (h + (n + 1)) % 17) (b := (h + k) % 17) ht hp
  rw [show ((h + (n + 1)) % 17 + 17 - (h + k) % 17) % 17 = n - k + 1 by omega] at s2
  have key : ∀ (w' : Wd) (h' : Nat), h' < 17 → (∀ i : Nat, i < n → w'.2.2.1 (r + 1) ((h' + i) % 17) = w.2.2.1 (r + 1) ((h + (if i < k then i else i + 1)) % 17)) → ∀ i : Nat, i < n → w'.2.2.1 (r + 1) ((h' + i) % 17) = some (ia ev (dl k qs i)) ∧ dl k qs i < 128 := by
    intro w' h' _ hall i hi
    rw [hall i hi]
    unfold dl
    by_cases hik : i < k
    · rw [if_pos hik, if_pos hik]
      exact h5 i (by omega)
    · rw [if_neg hik, if_neg hik]
      exact h5 (i + 1) (by omega)
  by_cases hfb : n - k ≤ k
  · have hcond : nI (n - k + 1) - 1 ≤ nI k := by rw [nI_pred]; exact nI_le hfb (by omega)
    have d1 := q_dec (ev := ev) (fu := fu) (σ := mem ev w) (i := (h + (n + 1)) % 17) ht
    rw [show ((h + (n + 1)) % 17 + 16) % 17 = (h + n) % 17 by omega] at d1
    have ht' : (h + n) % 17 < 17 := Nat.mod_lt _ (by decide)
    by_cases hw : (h + n) % 17 < (h + k) % 17
    · -- wrapped
      obtain ⟨w1, hw1⟩ : ∃ w1, w1 = wI w r 2 (nI ((h + n) % 17)) := ⟨_, rfl⟩
      have E1 : Els ev w1 r := by rw [hw1]; exact h6
      have c1 := qCp (ev := ev) (w := w1) (s := (h + k) % 17 + 1) (d := (h + k) % 17) (l := 17 - ((h + k) % 17 + 1)) hr (by omega) (by omega) (Els_asg hE E1)
      obtain ⟨w2, hw2⟩ : ∃ w2, w2 = cpW w1 (r + 1) ((h + k) % 17 + 1) ((h + k) % 17) (17 - ((h + k) % 17 + 1)) := ⟨_, rfl⟩
      rw [← hw2] at c1
      have E2 : Els ev w2 r := by rw [hw2]; exact Els_cp E1 (by omega)
      have l2 := qLd (ev := ev) (w := w2) (k := 0) hr (by decide)
      have a3 := qSt (ev := ev) (w := w2) (k := 16) (x := w2.2.2.1 (r + 1) 0) hr (by decide) (Els_asg hE E2 0 (by decide))
      obtain ⟨w3, hw3⟩ : ∃ w3, w3 = wA w2 (r + 1) 16 (w2.2.2.1 (r + 1) 0) := ⟨_, rfl⟩
      rw [← hw3] at a3
      have E3 : Els ev w3 r := by rw [hw3]; exact Els_wA E2 (E2 0 (by decide))
      have c4 := qCp (ev := ev) (w := w3) (s := 1) (d := 0) (l := (h + (n + 1)) % 17 - 1) hr (by omega) (by omega) (Els_asg hE E3)
      obtain ⟨w4, hw4⟩ : ∃ w4, w4 = cpW w3 (r + 1) 1 0 ((h + (n + 1)) % 17 - 1) := ⟨_, rfl⟩
      rw [← hw4] at c4
      have E4 : Els ev w4 r := by rw [hw4]; exact Els_cp E3 (by omega)
      have a5 := qSt (ev := ev) (w := w4) (k := (h + n) % 17) (x := none) hr ht' rfl
      have i4 : w4.2.1 r 2 = nI ((h + n) % 17) := by rw [hw4, cpW_I, hw3, wA_21, hw2, cpW_I, hw1, wI_same]
      have i1 : w1.2.1 r 2 = nI ((h + n) % 17) := by rw [hw1, wI_same]
      refine ⟨1, h, wA w4 (r + 1) ((h + n) % 17) none, ?_, Or.inr ⟨rfl, rfl⟩, ⟨h1, by omega, ?_, ?_, key _ h h1 (fun i hi => ?_), Els_wA E4 (Or.inl rfl)⟩, ?_, fun p hp => ?_, fun p hp => ?_, ?_⟩
      · have lt : nI ((h + n) % 17) < nI ((h + k) % 17) := nI_lt hw (by omega)
        have m1 : nI 17 - nI ((h + k) % 17 + 1) = nI (17 - ((h + k) % 17 + 1)) := pk_sub (by omega)
        have m2 : nI 17 - 1 = nI 16 := rfl
        have m3 : nI ((h + (n + 1)) % 17) - 1 = nI ((h + (n + 1)) % 17 - 1) := pk_sub (b := 1) (by omega)
        have z0 : nI 0 = (0 : Int32) := rfl
        have z1 : nI 1 = (1 : Int32) := rfl
        rw [z0] at l2 c4
        rw [z1] at c4
        rw [hw1] at c1
        simp only [f_J5_delete, b_J5_delete_0, qA0 hr, qLen hr, qI1 hr, qI2 hr, h3, h4, s1, s2, hcond, if_true, b_J5_delete_117, d1, qP2 hr, wI_same, lt, b_J5_delete_149, nI_1, m1, c1, l2, m2, a3, m3, c4, b_J5_delete_182, i4, a5, Option.bind_some, bd2]
      · rw [wA_21, hw4, cpW_I, hw3, wA_21, hw2, cpW_I, hw1, wI_ne (by omega)]; exact h3
      · rw [wA_21]; exact i4
      · rw [wA_at, if_neg (by omega), hw4, cpW_at, hw3, hw2, hw1]
        simp only [wA_at, cpW_at, wI_22, true_and]
        repeat' split
        all_goals first | (exfalso; omega) | (refine congrArg (w.2.2.1 (r + 1)) ?_; omega)
      · rw [hw4, hw3, hw2, hw1]; rfl
      · rw [wA_21, hw4, cpW_I, hw3, wA_21, hw2, cpW_I, hw1, wI_row hp]
      · rw [wA_row hp, hw4, cpW_row hp, hw3, wA_row hp, hw2, cpW_row hp, hw1]; rfl
      · rw [hw4, hw3, hw2, hw1]; rfl
    · obtain ⟨w1, hw1⟩ : ∃ w1, w1 = wI w r 2 (nI ((h + n) % 17)) := ⟨_, rfl⟩
      have E1 : Els ev w1 r := by rw [hw1]; exact h6
      have c1 := qCp (ev := ev) (w := w1) (s := (h + k) % 17 + 1) (d := (h + k) % 17) (l := n - k) hr (by omega) (by omega) (Els_asg hE E1)
      obtain ⟨w2, hw2⟩ : ∃ w2, w2 = cpW w1 (r + 1) ((h + k) % 17 + 1) ((h + k) % 17) (n - k) := ⟨_, rfl⟩
      rw [← hw2] at c1
      have E2 : Els ev w2 r := by rw [hw2]; exact Els_cp E1 (by omega)
      have a5 := qSt (ev := ev) (w := w2) (k := (h + n) % 17) (x := none) hr ht' rfl
      have i4 : w2.2.1 r 2 = nI ((h + n) % 17) := by rw [hw2, cpW_I, hw1, wI_same]
      refine ⟨1, h, wA w2 (r + 1) ((h + n) % 17) none, ?_, Or.inr ⟨rfl, rfl⟩, ⟨h1, by omega, ?_, ?_, key _ h h1 (fun i hi => ?_), Els_wA E2 (Or.inl rfl)⟩, ?_, fun p hp => ?_, fun p hp => ?_, ?_⟩
      · have lt : ¬ nI ((h + n) % 17) < nI ((h + k) % 17) := nI_nlt (by omega) (by omega)
        rw [hw1] at c1
        rw [nI_pred] at hcond
        simp only [f_J5_delete, b_J5_delete_0, qA0 hr, qLen hr, qI1 hr, qI2 hr, h3, h4, s1, s2, nI_pred, hcond, if_true, b_J5_delete_117, d1, qP2 hr, wI_same, lt, if_false, b_J5_delete_135, nI_1, c1, b_J5_delete_182, i4, a5, Option.bind_some, bd2]
      · rw [wA_21, hw2, cpW_I, hw1, wI_ne (by omega)]; exact h3
      · rw [wA_21]; exact i4
      · rw [wA_at, if_neg (by omega), hw2, hw1]
        simp only [cpW_at, wI_22, true_and]
        repeat' split
        all_goals first | (exfalso; omega) | (refine congrArg (w.2.2.1 (r + 1)) ?_; omega)
      · rw [hw2, hw1]; rfl
      · rw [wA_21, hw2, cpW_I, hw1, wI_row hp]
      · rw [wA_row hp, hw2, cpW_row hp, hw1]; rfl
      · rw [hw2, hw1]; rfl
  · have hcond : ¬ nI (n - k + 1) - 1 ≤ nI k := by rw [nI_pred]; exact nI_ge (by omega) (by omega)
    have i1 : ∀ σ : Mm, f_J5_inc fu ev σ (nI h) (nI 17) = some (nI ((h + 1) % 17), σ) := fun σ => q_inc h1
    have z0 : nI 0 = (0 : Int32) := rfl
    have z1 : nI 1 = (1 : Int32) := rfl
    by_cases hw : (h + k) % 17 < h
    · have E1 : Els ev w r := h6
      have c1 := qCp (ev := ev) (w := w) (s := 0) (d := 1) (l := (h + k) % 17) hr (by omega) (by omega) (Els_asg hE E1)
      obtain ⟨w2, hw2⟩ : ∃ w2, w2 = cpW w (r + 1) 0 1 ((h + k) % 17) := ⟨_, rfl⟩
      rw [← hw2] at c1
      have E2 : Els ev w2 r := by rw [hw2]; exact Els_cp E1 (by omega)
      have l2 := qLd (ev := ev) (w := w2) (k := 16) hr (by decide)
      have a3 := qSt (ev := ev) (w := w2) (k := 0) (x := w2.2.2.1 (r + 1) 16) hr (by decide) (Els_asg hE E2 16 (by decide))
      obtain ⟨w3, hw3⟩ : ∃ w3, w3 = wA w2 (r + 1) 0 (w2.2.2.1 (r + 1) 16) := ⟨_, rfl⟩
      rw [← hw3] at a3
      have E3 : Els ev w3 r := by rw [hw3]; exact Els_wA E2 (E2 16 (by decide))
      have c4 := qCp (ev := ev) (w := w3) (s := h) (d := h + 1) (l := k - ((h + k) % 17 + 1)) hr (by omega) (by omega) (Els_asg hE E3)
      obtain ⟨w4, hw4⟩ : ∃ w4, w4 = cpW w3 (r + 1) h (h + 1) (k - ((h + k) % 17 + 1)) := ⟨_, rfl⟩
      rw [← hw4] at c4
      have E4 : Els ev w4 r := by rw [hw4]; exact Els_cp E3 (by omega)
      have a5 := qSt (ev := ev) (w := w4) (k := h) (x := none) hr h1 rfl
      refine ⟨0, (h + 1) % 17, wI (wA w4 (r + 1) h none) r 1 (nI ((h + 1) % 17)), ?_, Or.inl ⟨rfl, rfl⟩, ⟨by omega, by omega, ?_, ?_, key _ ((h + 1) % 17) (by omega) (fun i hi => ?_), Els_wA E4 (Or.inl rfl)⟩, ?_, fun p hp => ?_, fun p hp => ?_, ?_⟩
      · have lt : nI ((h + k) % 17) < nI h := nI_lt hw (by omega)
        have m1 : nI k - nI ((h + k) % 17 + 1) = nI (k - ((h + k) % 17 + 1)) := pk_sub (by omega)
        have m2 : nI 17 - 1 = nI 16 := rfl
        rw [z0, z1] at c1
        rw [z0] at a3
        rw [nI_pred] at hcond
        simp only [f_J5_delete, b_J5_delete_0, qA0 hr, qLen hr, qI1 hr, qI2 hr, h3, h4, s1, s2, nI_pred, hcond, if_false, b_J5_delete_45, lt, if_true, b_J5_delete_67, c1, m2, l2, a3, nI_1, m1, c4, b_J5_delete_100, a5, i1, qP1 hr, Option.bind_some, bd2]
      · rw [wI_same]
      · rw [wI_ne (by omega), wA_21, hw4, cpW_I, hw3, wA_21, hw2, cpW_I, h4, show (h + (n + 1)) % 17 = ((h + 1) % 17 + n) % 17 by omega]
      · rw [wI_22, wA_at, if_neg (by omega), hw4, cpW_at, hw3, hw2]
        simp only [wA_at, cpW_at, true_and]
        repeat' split
        all_goals first | (exfalso; omega) | (refine congrArg (w.2.2.1 (r + 1)) ?_; omega)
      · rw [hw4, hw3, hw2]; rfl
      · rw [wI_row hp, wA_21, hw4, cpW_I, hw3, wA_21, hw2, cpW_I]
      · rw [wI_22, wA_row hp, hw4, cpW_row hp, hw3, wA_row hp, hw2, cpW_row hp]
      · rw [hw4, hw3, hw2]; rfl
    · have E1 : Els ev w r := h6
      have c1 := qCp (ev := ev) (w := w) (s := h) (d := h + 1) (l := k) hr (by omega) (by omega) (Els_asg hE E1)
      obtain ⟨w2, hw2⟩ : ∃ w2, w2 = cpW w (r + 1) h (h + 1) k := ⟨_, rfl⟩
      rw [← hw2] at c1
      have E2 : Els ev w2 r := by rw [hw2]; exact Els_cp E1 (by omega)
      have a5 := qSt (ev := ev) (w := w2) (k := h) (x := none) hr h1 rfl
      refine ⟨0, (h + 1) % 17, wI (wA w2 (r + 1) h none) r 1 (nI ((h + 1) % 17)), ?_, Or.inl ⟨rfl, rfl⟩, ⟨by omega, by omega, ?_, ?_, key _ ((h + 1) % 17) (by omega) (fun i hi => ?_), Els_wA E2 (Or.inl rfl)⟩, ?_, fun p hp => ?_, fun p hp => ?_, ?_⟩
      · have lt : ¬ nI ((h + k) % 17) < nI h := nI_nlt (by omega) (by omega)
        rw [nI_pred] at hcond
        simp only [f_J5_delete, b_J5_delete_0, qA0 hr, qLen hr, qI1 hr, qI2 hr, h3, h4, s1, s2, nI_pred, hcond, if_false, b_J5_delete_45, lt, b_J5_delete_51, nI_1, c1, b_J5_delete_100, a5, i1, qP1 hr, Option.bind_some, bd2]
      · rw [wI_same]
      · rw [wI_ne (by omega), wA_21, hw2, cpW_I, h4, show (h + (n + 1)) % 17 = ((h + 1) % 17 + n) % 17 by omega]
      · rw [wI_22, wA_at, if_neg (by omega), hw2]
        simp only [cpW_at, true_and]
        repeat' split
        all_goals first | (exfalso; omega) | (refine congrArg (w.2.2.1 (r + 1)) ?_; omega)
      · rw [hw2]; rfl
      · rw [wI_row hp, wA_21, hw2, cpW_I]
      · rw [wI_22, wA_row hp, hw2, cpW_row hp]
      · rw [hw2]; rfl
/-! its iterator -/
theorem di_0 {c m l : Int32} {a : Nat} (ht : ev.1 + 984 ≤ t) (hd : w.2.2.2.1 t = diO c m l a) : gfI (mem ev w) t 9 0 = some c := by
  unfold gfI
  rw [d_gV ht hd]
  rfl
theorem di_1 {c m l : Int32} {a : Nat} (ht : ev.1 + 984 ≤ t) (hd : w.2.2.2.1 t = diO c m l a) : gfI (mem ev w) t 9 1 = some m := by
  unfold gfI
  rw [d_gV ht hd]
  rfl
theorem di_2 {c m l : Int32} {a : Nat} (ht : ev.1 + 984 ≤ t) (hd : w.2.2.2.1 t = diO c m l a) : gfI (mem ev w) t 9 2 = some l := by
  unfold gfI
  rw [d_gV ht hd]
  rfl
theorem di_3 {c m l : Int32} {a : Nat} (ht : ev.1 + 984 ≤ t) (hd : w.2.2.2.1 t = diO c m l a) : gfA (mem ev w) t 9 3 = some (some a) := by
  unfold gfA
  rw [d_gV ht hd]
  rfl
theorem di_p0 {c m l x : Int32} {a : Nat} (ht : ev.1 + 984 ≤ t) (hd : w.2.2.2.1 t = diO c m l a) : pfI ev (mem ev w) t 9 0 x = some (mem ev (wD w t (diO x m l a))) := d_pV (k := 0) ht hd (by simp)
theorem di_p1 {c m l x : Int32} {a : Nat} (ht : ev.1 + 984 ≤ t) (hd : w.2.2.2.1 t = diO c m l a) : pfI ev (mem ev w) t 9 1 x = some (mem ev (wD w t (diO c x l a))) := d_pV (k := 1) ht hd (by simp)
theorem di_p2 {c m l x : Int32} {a : Nat} (ht : ev.1 + 984 ≤ t) (hd : w.2.2.2.1 t = diO c m l a) : pfI ev (mem ev w) t 9 2 x = some (mem ev (wD w t (diO c m x a))) := d_pV (k := 2) ht hd (by simp)
theorem di_is {c m l : Int32} {a : Nat} (ht : ev.1 + 984 ≤ t) (hd : w.2.2.2.1 t = diO c m l a) : isC (mem ev w) t 9 = some () := d_isC ht hd
/-- an iterator over the deque at r, k of n are behind it -/
def Di (ev : Ev) (w : Wd) (r t h n k : Nat) (l : Int32) : Prop := dyn w t = diO (nI ((h + k) % 17)) (nI (n - k)) l (ev.1 + r) ∧ ev.1 + 984 ≤ t ∧ t < szW w
theorem DQ_row (hQ : DQ ev w r h n qs) (hI : w'.2.1 r = w.2.1 r) (hA : w'.2.2.1 (r + 1) = w.2.2.1 (r + 1)) : DQ ev w' r h n qs := by
  obtain ⟨h1, h2, h3, h4, h5, h6⟩ := hQ
  exact ⟨h1, h2, by rw [hI]; exact h3, by rw [hI]; exact h4, fun i hi => by rw [hA]; exact h5 i hi, fun j hj => by rw [hA]; exact h6 j hj⟩
theorem dq_iter (hr : Hq r) (hQ : DQ ev w r h n qs) (h0 : ev.1 + 984 ≤ szW w) (h1 : szW w + 1 ≤ ev.2.1) (h2 : slW w + 4 ≤ ev.2.2.1) :
    ∃ w' : Wd, f_J5_iterator fu ev (mem ev w) (ev.1 + r) = some (some (szW w), mem ev w') ∧ DQ ev w' r h n qs ∧ Di ev w' r (szW w) h n 0 (-1) ∧ w' = nwW w 4 (.inr (9, [.int (nI h), .int (nI n), .int (-1), .ref (ev.1 + r)])) := by
  have o1 : nwO ev (mem ev w) 9 4 [.int 0, .int 0, .int 0, .null] = some (szW w, mem ev (nwW w 4 (.inr (9, [.int 0, .int 0, .int 0, .null])))) := d_nwO h0 h1 h2
  obtain ⟨w1, hw1⟩ : ∃ w1, w1 = nwW w 4 (.inr (9, [.int 0, .int 0, .int 0, .null])) := ⟨_, rfl⟩
  obtain ⟨w2, hw2⟩ : ∃ w2, w2 = nwW w 4 (.inr (9, [.int 0, .int 0, .int 0, .ref (ev.1 + r)])) := ⟨_, rfl⟩
  obtain ⟨w3, hw3⟩ : ∃ w3, w3 = nwW w 4 (.inr (9, [.int 0, .int (nI n), .int 0, .ref (ev.1 + r)])) := ⟨_, rfl⟩
  obtain ⟨w4, hw4⟩ : ∃ w4, w4 = nwW w 4 (.inr (9, [.int 0, .int (nI n), .int (-1), .ref (ev.1 + r)])) := ⟨_, rfl⟩
  obtain ⟨w5, hw5⟩ : ∃ w5, w5 = nwW w 4 (.inr (9, [.int (nI h), .int (nI n), .int (-1), .ref (ev.1 + r)])) := ⟨_, rfl⟩
  rw [← hw1] at o1
  have p3 : pfA ev (mem ev w1) (szW w) 9 3 (some (ev.1 + r)) = some (mem ev w2) := by
    have hd : w1.2.2.2.1 (szW w) = some (.inr (9, [.int 0, .int 0, .int 0, .null])) := by rw [hw1]; exact if_pos rfl
    have e := d_pV (k := 3) (v := .ref (ev.1 + r)) h0 hd (by simp)
    rw [hw1] at e
    rw [hw1, hw2]
    rw [show (some (Sum.inr (9, List.set [Value.int 0, .int 0, .int 0, .null] 3 (.ref (ev.1 + r)))) : Option Ob) = some (.inr (9, [.int 0, .int 0, .int 0, .ref (ev.1 + r)])) from rfl, wD_nw] at e
    exact e
  have d2 : w2.2.2.2.1 (szW w) = diO 0 0 0 (ev.1 + r) := by rw [hw2]; exact if_pos rfl
  have d3 : w3.2.2.2.1 (szW w) = diO 0 (nI n) 0 (ev.1 + r) := by rw [hw3]; exact if_pos rfl
  have d4 : w4.2.2.2.1 (szW w) = diO 0 (nI n) (-1) (ev.1 + r) := by rw [hw4]; exact if_pos rfl
  have p1 : pfI ev (mem ev w2) (szW w) 9 1 (nI n) = some (mem ev w3) := by
    have e := di_p1 (x := nI n) h0 d2
    rw [hw2, diO, wD_nw] at e
    rw [hw2, hw3]
    exact e
  have p2 : pfI ev (mem ev w3) (szW w) 9 2 (-1) = some (mem ev w4) := by
    have e := di_p2 (x := -1) h0 d3
    rw [hw3, diO, wD_nw] at e
    rw [hw3, hw4]
    exact e
  have p0 : pfI ev (mem ev w4) (szW w) 9 0 (nI h) = some (mem ev w5) := by
    have e := di_p0 (x := nI h) h0 d4
    rw [hw4, diO, wD_nw] at e
    rw [hw4, hw5]
    exact e
  have Q2 : DQ ev w2 r h n qs := DQ_row hQ (by rw [hw2]; rfl) (by rw [hw2]; rfl)
  have Q5 : DQ ev w5 r h n qs := DQ_row hQ (by rw [hw5]; rfl) (by rw [hw5]; rfl)
  have sz := dq_size (fu := fu) hr Q2
  have i4 : w4.2.1 r 1 = nI h := by rw [hw4]; exact hQ.2.2.1
  refine ⟨w5, ?_, Q5, ⟨?_, h0, ?_⟩, hw5⟩
  · simp only [b_J5_iterator_0, f_J5_iterator, b_J6_init_0, f_J6_init, o1, p3, di_3 h0 d2, qIs hr, sz, p1, p2, qI1 hr, i4, p0, Option.bind_some, bd2]
  · rw [hw5, dyn_nw, if_pos rfl, Nat.add_zero, Nat.mod_eq_of_lt hQ.1, Nat.sub_zero]
    rfl
  · rw [hw5]
    show szW w < szW w + 1
    omega
theorem dq_hasNext {l : Int32} (hn : n ≤ 6) (hk : k ≤ n) (hT : Di ev w r t h n k l) : f_J6_hasNext fu ev (mem ev w) t = some (if k < n then 1 else 0, mem ev w) := by
  obtain ⟨hd, h0, hs⟩ := hT
  simp only [f_J6_hasNext, b_J6_hasNext_0, di_1 h0 hd, Option.bind_some]
  by_cases hc : k < n
  · rw [if_pos hc, if_neg (nI_nle (by omega) (by omega))]
    rfl
  · rw [if_neg hc, show n - k = 0 by omega]
    rfl
theorem dq_next {l : Int32} (hr : Hq r) (hQ : DQ ev w r h n qs) (hk : k < n) (hT : Di ev w r t h n k l) :
    ∃ w' : Wd, f_J6_next fu ev (mem ev w) t = some (some (ia ev (qs k)), mem ev w') ∧ DQ ev w' r h n qs ∧ Di ev w' r t h n (k + 1) (nI ((h + k) % 17)) ∧ w' = wD w t (diO (nI ((h + (k + 1)) % 17)) (nI (n - (k + 1))) (nI ((h + k) % 17)) (ev.1 + r)) := by
  obtain ⟨hd, h0, hs⟩ := hT
  have hn6 := hQ.2.1
  have hp : (h + k) % 17 < 17 := Nat.mod_lt _ (by decide)
  obtain ⟨w1, hw1⟩ : ∃ w1, w1 = wD w t (diO (nI ((h + k) % 17)) (nI (n - k)) (nI ((h + k) % 17)) (ev.1 + r)) := ⟨_, rfl⟩
  obtain ⟨w2, hw2⟩ : ∃ w2, w2 = wD w t (diO (nI ((h + (k + 1)) % 17)) (nI (n - k)) (nI ((h + k) % 17)) (ev.1 + r)) := ⟨_, rfl⟩
  obtain ⟨w3, hw3⟩ : ∃ w3, w3 = wD w t (diO (nI ((h + (k + 1)) % 17)) (nI (n - (k + 1))) (nI ((h + k) % 17)) (ev.1 + r)) := ⟨_, rfl⟩
  have d1 := dOf hw1
  have d2 := dOf hw2
  have d3 := dOf hw3
  have p2 : pfI ev (mem ev w) t 9 2 (nI ((h + k) % 17)) = some (mem ev w1) := by rw [hw1]; exact di_p2 h0 hd
  have p0 : pfI ev (mem ev w1) t 9 0 (nI ((h + (k + 1)) % 17)) = some (mem ev w2) := by
    have e := di_p0 (x := nI ((h + (k + 1)) % 17)) h0 d1
    rw [hw1, wD_wD] at e
    rw [hw1, hw2]
    exact e
  have p1 : pfI ev (mem ev w2) t 9 1 (nI (n - (k + 1))) = some (mem ev w3) := by
    have e := di_p1 (x := nI (n - (k + 1))) h0 d2
    rw [hw2, wD_wD] at e
    rw [hw2, hw3]
    exact e
  have ld := qLd (ev := ev) (w := w) hr hp
  rw [(hQ.2.2.2.2.1 k hk).1] at ld
  have inc := q_inc (ev := ev) (fu := fu) (σ := mem ev w1) hp
  rw [show ((h + k) % 17 + 1) % 17 = (h + (k + 1)) % 17 by omega] at inc
  have m1 : nI (n - k) - 1 = nI (n - (k + 1)) := pk_sub (b := 1) (by omega)
  have c0 : (0 : Int32) < nI (n - k) := nI_lt (a := 0) (by omega) (by omega)
  refine ⟨w3, ?_, DQ_row hQ (by rw [hw3]; rfl) (by rw [hw3]; rfl), ⟨d3, h0, by rw [hw3]; exact hs⟩, hw3⟩
  simp only [b_J6_next_15, b_J6_next_7, b_J6_next_0, f_J6_next, b_J5_nonNullElementAt_16, b_J5_nonNullElementAt_8, b_J5_nonNullElementAt_0, f_J5_nonNullElementAt, di_1 h0 hd, c0, if_true, di_3 h0 hd, qA0 hr, di_0 h0 hd, ld, reduceCtorEq, if_false, p2, qLen hr, inc, p0, di_1 h0 d2, m1, p1, Option.bind_some, bd2]
end XDR
