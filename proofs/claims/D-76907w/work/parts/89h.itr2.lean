/-! LINKED LISTS: an iterator goes on; get; clear -/
section XIU
variable {ev : Ev} {w : Wd} {r n i k t fu : Nat} {ad qs : Nat → Nat} {l : Option Nat}
theorem dOf {w w1 : Wd} {a : Nat} {o : Option Ob} (h : w1 = wD w a o) : w1.2.2.2.1 a = o := by rw [h]; exact wD_at
theorem ll_hasNext (hr : Hd r) (hL : LL ev w r n ad qs) (hi : i ≤ n) (hT : It ev w r t n ad i l) : f_J29_hasNext fu ev (mem ev w) t = some (if i < n then 1 else 0, mem ev w) := by
  obtain ⟨hd, h0, hs, hne⟩ := hT
  have h1000 := hL.1
  simp only [f_J29_hasNext, b_J29_hasNext_0, it_2 h0 hd, it_4 h0 hd, hI1 hr, hL.2.1, Option.bind_some]
  by_cases h : i < n
  · rw [if_pos h, if_neg (nI_ge h (by omega))]
    rfl
  · rw [if_neg h, if_pos (nI_le (by omega) (by omega))]
    rfl
theorem ll_co (hr : Hd r) (hT : It ev w r t n ad i l) : f_J29_checkForComodification fu ev (mem ev w) t = some ((), mem ev w) := by
  obtain ⟨hd, h0, hs, hne⟩ := hT
  simp only [b_J29_checkForComodification_22, b_J29_checkForComodification_14, b_J29_checkForComodification_0, f_J29_checkForComodification, it_3 h0 hd, it_4 h0 hd, hI0 hr, Option.bind_some, if_true, eq_self]
theorem FrL_it (hne : ∀ j : Nat, j < n → t ≠ ad j) {o : Option Ob} {b : Nat} (hb : b ≠ t) : dyn (wD w t o) b = dyn w b := by rw [dyn_wD, if_neg hb]
theorem ll_next (hr : Hd r) (hL : LL ev w r n ad qs) (hi : i < n) (hT : It ev w r t n ad i l) :
    ∃ w' : Wd, f_J29_next fu ev (mem ev w) t = some (some (ia ev (qs i)), mem ev w') ∧ LL ev w' r n ad qs ∧ It ev w' r t n ad (i + 1) (some (ad i)) ∧ w' = wD w t (itO (some (ad i)) (nx n ad (i + 1)) (nI (i + 1)) (w.2.1 r 0) (ev.1 + r)) := by
  have hco := ll_co (fu := fu) hr hT
  have hhn := ll_hasNext (fu := fu) hr hL (by omega) hT
  rw [if_pos hi] at hhn
  obtain ⟨hd, h0, hs, hne⟩ := hT
  have e1 : nx n ad i = some (ad i) := if_pos hi
  rw [e1] at hd
  obtain ⟨w1, hw1⟩ : ∃ w1, w1 = wD w t (itO (some (ad i)) (some (ad i)) (nI i) (w.2.1 r 0) (ev.1 + r)) := ⟨_, rfl⟩
  obtain ⟨w2, hw2⟩ : ∃ w2, w2 = wD w t (itO (some (ad i)) (nx n ad (i + 1)) (nI i) (w.2.1 r 0) (ev.1 + r)) := ⟨_, rfl⟩
  obtain ⟨w3, hw3⟩ : ∃ w3, w3 = wD w t (itO (some (ad i)) (nx n ad (i + 1)) (nI (i + 1)) (w.2.1 r 0) (ev.1 + r)) := ⟨_, rfl⟩
  have d1 := dOf hw1
  have d2 := dOf hw2
  have d3 := dOf hw3
  have p0 : pfA ev (mem ev w) t 7 0 (some (ad i)) = some (mem ev w1) := by rw [hw1]; exact it_p0 h0 hd
  have p1 : pfA ev (mem ev w1) t 7 1 (nx n ad (i + 1)) = some (mem ev w2) := by
    have e := it_p1 (y := nx n ad (i + 1)) h0 d1
    rw [hw1, wD_wD] at e
    rw [hw1, hw2]
    exact e
  have p2 : pfI ev (mem ev w2) t 7 2 (nI (i + 1)) = some (mem ev w3) := by
    have e := it_p2 (z := nI (i + 1)) h0 d2
    rw [hw2, wD_wD] at e
    rw [hw2, hw3]
    exact e
  have L1 : LL ev w1 r n ad qs := LL_sz hL (by rw [hw1]; rfl) (by rw [hw1]; rfl) (fun j hj => by rw [hw1, dyn_wD, if_neg (fun z => hne j hj z.symm)]) (by rw [hw1]; exact Nat.le_refl _)
  have L3 : LL ev w3 r n ad qs := LL_sz hL (by rw [hw3]; rfl) (by rw [hw3]; rfl) (fun j hj => by rw [hw3, dyn_wD, if_neg (fun z => hne j hj z.symm)]) (by rw [hw3]; exact Nat.le_refl _)
  have g1 := nr1 (LL_ND L1) hi
  have g0 := nr0 (LL_ND L3) hi
  have o01 : ¬ (1 : Int32) = 0 := by decide
  refine ⟨w3, ?_, L3, ⟨?_, h0, ?_, hne⟩, hw3⟩
  · simp only [b_J29_next_19, b_J29_next_11, b_J29_next_0, f_J29_next, it_is h0 hd, hco, hhn, o01, it_1 h0 hd, p0, it_1 h0 d1, g1, p1, it_2 h0 d2, nI_1, p2, it_0 h0 d3, g0, Option.bind_some, bd2, if_false]
  · rw [show dyn w3 t = _ from d3, hw3]
    rfl
  · rw [hw3]
    exact hs
theorem ll_remove (hr : Hd r) (hL : LL ev w r (n + 1) ad qs) (hi : i < n + 1) (hT : It ev w r t (n + 1) ad (i + 1) (some (ad i))) :
    ∃ w' : Wd, f_J29_remove fu ev (mem ev w) t = some ((), mem ev w') ∧ LL ev w' r n (dl i ad) (dl i qs) ∧ It ev w' r t n (dl i ad) i none ∧
      w'.1 = w.1 ∧ (∀ q : Nat, q ≠ r → w'.2.1 q = w.2.1 q ∧ w'.2.2.1 q = w.2.2.1 q) ∧ (∀ a : Nat, a < szW w → a ≠ t → (∀ j : Nat, j < n + 1 → a ≠ ad j) → dyn w' a = dyn w a) ∧ w'.2.2.2.2 = w.2.2.2.2 := by
  have hco := ll_co (fu := fu) hr hT
  obtain ⟨hd, h0, hs, hne⟩ := hT
  obtain ⟨w1, e1, L1, ⟨f1, f2, f3, f4, f5⟩, s1, m1⟩ := ll_unlink (fu := fu) hr hL hi
  have g1 := nr1 (LL_ND hL) hi
  have d1 : w1.2.2.2.1 t = itO (some (ad i)) (nx (n + 1) ad (i + 1)) (nI (i + 1)) (w.2.1 r 0) (ev.1 + r) := by
    have := f3 t hs hne
    exact this.trans hd
  have hx : ¬ nx (n + 1) ad (i + 1) = some (ad i) := by
    unfold nx
    split
    · intro z
      have := hL.2.2.2.2.2.2 (i + 1) i (by omega) (by omega) (Option.some.inj z)
      omega
    · simp
  obtain ⟨w2, hw2⟩ : ∃ w2, w2 = wD w1 t (itO (some (ad i)) (nx (n + 1) ad (i + 1)) (nI i) (w.2.1 r 0) (ev.1 + r)) := ⟨_, rfl⟩
  obtain ⟨w3, hw3⟩ : ∃ w3, w3 = wD w1 t (itO none (nx (n + 1) ad (i + 1)) (nI i) (w.2.1 r 0) (ev.1 + r)) := ⟨_, rfl⟩
  obtain ⟨w4, hw4⟩ : ∃ w4, w4 = wD w1 t (itO none (nx (n + 1) ad (i + 1)) (nI i) (w.2.1 r 0 + 1) (ev.1 + r)) := ⟨_, rfl⟩
  have d2 := dOf hw2
  have d3 := dOf hw3
  have d4 := dOf hw4
  have p2 : pfI ev (mem ev w1) t 7 2 (nI i) = some (mem ev w2) := by rw [hw2]; exact it_p2 h0 d1
  have p0 : pfA ev (mem ev w2) t 7 0 none = some (mem ev w3) := by
    have e := it_p0 (y := none) h0 d2
    rw [hw2, wD_wD] at e
    rw [hw2, hw3]
    exact e
  have p3 : pfI ev (mem ev w3) t 7 3 (w.2.1 r 0 + 1) = some (mem ev w4) := by
    have e := it_p3 (z := w.2.1 r 0 + 1) h0 d3
    rw [hw3, wD_wD] at e
    rw [hw3, hw4]
    exact e
  have sz1 : szW w1 = szW w := congrArg Prod.fst s1
  have hne' : ∀ j : Nat, j < n → t ≠ dl i ad j := by
    intro j hj
    unfold dl
    split
    · exact hne j (by omega)
    · exact hne (j + 1) (by omega)
  have L4 : LL ev w4 r n (dl i ad) (dl i qs) := LL_sz L1 (by rw [hw4]; rfl) (by rw [hw4]; rfl) (fun j hj => by rw [hw4, dyn_wD, if_neg (fun z => hne' j hj z.symm)]) (by rw [hw4]; exact Nat.le_refl _)
  refine ⟨w4, ?_, L4, ⟨?_, h0, ?_, hne'⟩, ?_, fun q hq => ?_, fun a ha hat hn => ?_, ?_⟩
  · simp only [b_J29_remove_68, b_J29_remove_58, b_J29_remove_50, b_J29_remove_19, b_J29_remove_11, b_J29_remove_0, f_J29_remove, it_is h0 hd, hco, it_0 h0 hd, g1, it_4 h0 hd, hIs hr, e1, it_1 h0 d1, it_0 h0 d1, hx, it_2 h0 d1, nI_pred, p2, p0, it_3 h0 d3, p3, reduceCtorEq, Option.bind_some, bd2, if_false]
  · rw [show dyn w4 t = _ from d4]
    have e2 : w4.2.1 r 0 = w.2.1 r 0 + 1 := by rw [hw4]; exact m1
    rw [e2]
    have e3 : nx (n + 1) ad (i + 1) = nx n (dl i ad) i := by
      unfold nx dl
      by_cases hy : i < n
      · rw [if_pos (by omega), if_pos hy, if_neg (by omega)]
      · rw [if_neg (by omega), if_neg hy]
    rw [e3]
  · rw [hw4]
    show t < szW w1
    omega
  · rw [hw4]; exact f1
  · rw [hw4]; exact f2 q hq
  · rw [hw4, dyn_wD, if_neg hat]
    exact f3 a ha hn
  · rw [hw4]; exact s1
theorem ia_at (hE : EvOk ev) (hq : k < 128) : (mem ev w).1 (ia ev k) = some (.inr (15, [.int (nI k)])) := by
  obtain ⟨-, -, c2, -, -, -, -, -, -, -, -, -, hlt⟩ := hE
  have e := c2 (k + 128) (by omega)
  rw [show vb_c (k + 128) = nI k from by
    show Int32.ofNat (k + 128) - 128 = nI k
    rw [show Int32.ofNat (k + 128) = nI k + nI 128 from (nI_add k 128).symm, show (128 : Int32) = nI 128 from rfl, Int32.add_sub_cancel]] at e
  unfold ia
  rw [mem_old (hlt _ _ e), e]
theorem ia_is (hE : EvOk ev) (hq : k < 128) : isC (mem ev w) (ia ev k) 15 = some () := by
  unfold isC
  rw [ia_at hE hq]
  exact if_pos rfl
theorem ia_ck (hE : EvOk ev) (hq : k < 128) : ckC (mem ev w) (some (ia ev k)) "java/lang/Integer" = some () := by
  unfold ckC
  simp only [ia_at hE hq]
  rfl
theorem ia_val (hE : EvOk ev) (hq : k < 128) : f_J32_intValue fu ev (mem ev w) (ia ev k) = some (nI k, mem ev w) := by
  have e : gfI (mem ev w) (ia ev k) 15 0 = some (nI k) := by
    unfold gfI gfV
    rw [ia_at hE hq]
    rfl
  simp only [b_J32_intValue_0, f_J32_intValue, e, Option.bind_some]
theorem ia_of (hE : EvOk ev) (hq : k < 128) : f_J32_valueOf fu ev (mem ev w) (nI k) = some (some (ia ev k), mem ev w) := valueOf hE hq
theorem ll_get (hr : Hd r) (hf : 1001 ≤ fu) (hL : LL ev w r n ad qs) (hk : k < n) : f_J3_get fu ev (mem ev w) (ev.1 + r) (nI k) = some (some (ia ev (qs k)), mem ev w) := by
  have h1000 := hL.1
  have e := ll_node (fu := fu) hr hf hL hk
  have g0 := nr0 (LL_ND hL) hk
  have n0 : ¬ nI k < 0 := nI_pos (by omega)
  have n1 : ¬ nI n ≤ nI k := nI_ge hk (by omega)
  have o01 : ¬ (1 : Int32) = 0 := by decide
  have ck : f_J3_checkElementIndex fu ev (mem ev w) (ev.1 + r) (nI k) = some ((), mem ev w) := by
    simp only [b_J3_checkElementIndex_21, b_J3_checkElementIndex_8, b_J3_checkElementIndex_0, f_J3_checkElementIndex, b_J3_isElementIndex_17, b_J3_isElementIndex_16, b_J3_isElementIndex_12, b_J3_isElementIndex_4, b_J3_isElementIndex_0, f_J3_isElementIndex, hIs hr, hI1 hr, hL.2.1, n0, n1, o01, if_false, zb1, Option.bind_some, bd2]
  simp only [b_J3_get_0, f_J3_get, hIs hr, ck, e, g0, Option.bind_some, bd2]
theorem ll_size (hr : Hd r) (hL : LL ev w r n ad qs) : f_J3_size fu ev (mem ev w) (ev.1 + r) = some (nI n, mem ev w) := by
  simp only [b_J3_size_0, f_J3_size, hI1 hr, hL.2.1, Option.bind_some]
theorem ll_clearL (hr : Hd r) : ∀ (m f : Nat) (w : Wd) (I N P : Nat → Option Nat), ND ev w ad n I N P → m ≤ n → m < f → (∀ j : Nat, n - m ≤ j → j < n → N j = nx n ad (j + 1)) → ∃ w' : Wd, L_J3_clear_5 fu ev f (mem ev w) (ev.1 + r) (nx n ad (n - m)) = some ((), mem ev (wI (wI (wA (wA w' r 3 none) r 2 none) r 1 0) r 0 (w.2.1 r 0 + 1))) ∧ NS w w' ad n := by
  intro m
  induction m with
  | zero =>
    intro f w I N P hnd _ hf _
    obtain ⟨g, rfl⟩ : ∃ g, f = g + 1 := ⟨f - 1, by omega⟩
    refine ⟨w, ?_, rfl, rfl, rfl, fun _ _ => rfl, rfl⟩
    show b_J3_clear_5 _ fu ev _ _ _ = _
    have e : nx n ad (n - 0) = none := if_neg (by omega)
    have q0 : (wI (wA (wA w r 3 none) r 2 none) r 1 0).2.1 r 0 = w.2.1 r 0 := by rw [wI_ne (by omega)]; rfl
    rw [e]
    simp only [b_J3_clear_5, if_true, b_J3_clear_34, hQ3 hr, hQ2 hr, hP1 hr, hI0 hr, hP0 hr, q0, Option.bind_some]
  | succ m ih =>
    intro f w I N P hnd hm hf hN
    obtain ⟨g, rfl⟩ : ∃ g, f = g + 1 := ⟨f - 1, by omega⟩
    have hj : n - (m + 1) < n := by omega
    have e : nx n ad (n - (m + 1)) = some (ad (n - (m + 1))) := if_pos hj
    have g1 := nr1 hnd hj
    rw [hN _ (Nat.le_refl _) hj, show n - (m + 1) + 1 = n - m by omega] at g1
    obtain ⟨w1, e1, n1, s1⟩ := nw0 hnd hj none
    obtain ⟨w2, e2, n2, s2⟩ := nw1 n1 hj none
    obtain ⟨w3, e3, n3, s3⟩ := nw2 n2 hj none
    have s := NS_trans (NS_trans s1 s2) s3
    obtain ⟨w', e4, s4⟩ := ih g w3 _ _ _ n3 (by omega) (by omega) (fun j h1 h2 => by
      show upF N (n - (m + 1)) none j = _
      unfold upF
      rw [if_neg (by omega)]
      exact hN j (by omega) h2)
    refine ⟨w', ?_, NS_trans s s4⟩
    show b_J3_clear_5 _ fu ev _ _ _ = _
    rw [e]
    rw [s.2.1] at e4
    simp only [b_J3_clear_5, reduceCtorEq, if_false, b_J3_clear_9, Option.bind_some, g1, e1, e2, e3, e4]
theorem ll_clear (hr : Hd r) (hf : 1001 ≤ fu) (hL : LL ev w r n ad qs) : ∃ w' : Wd, f_J3_clear fu ev (mem ev w) (ev.1 + r) = some ((), mem ev w') ∧ LL ev w' r 0 ad qs ∧ FrL r w n ad w' 0 ad ∧ w'.2.2.2.2 = w.2.2.2.2 := by
  have h1000 := hL.1
  obtain ⟨w', e, s⟩ := ll_clearL (fu := fu) hr n fu w _ _ _ (LL_ND hL) (Nat.le_refl _) (by omega) (fun j _ _ => rfl)
  rw [Nat.sub_self] at e
  refine ⟨wI (wI (wA (wA w' r 3 none) r 2 none) r 1 0) r 0 (w.2.1 r 0 + 1), ?_, ⟨by omega, ?_, ?_, ?_, fun i hi => by omega, fun i hi => by omega, fun i j hi => by omega⟩, ⟨s.1, fun q hq => ⟨?_, ?_⟩, fun a _ hn => s.2.2.2.1 a hn, ?_, fun i hi => by omega⟩, s.2.2.2.2⟩
  · simp only [b_J3_clear_34, b_J3_clear_9, b_J3_clear_5, b_J3_clear_0, f_J3_clear, hA2 hr, hL.2.2.1, Option.bind_some, e]
  · rw [wI_ne (by omega), wI_same]; rfl
  · show (wA (wA w' r 3 none) r 2 none).2.2.1 r 2 = _
    rw [wA_same]; rfl
  · show (wA (wA w' r 3 none) r 2 none).2.2.1 r 3 = _
    rw [wA_ne (by omega), wA_same]; rfl
  · rw [wI_row hq, wI_row hq, wA_21, wA_21, s.2.1]
  · show (wA (wA w' r 3 none) r 2 none).2.2.1 q = _
    rw [wA_row hq, wA_row hq, s.2.2.1]
  · show szW w ≤ szW w'
    rw [show szW w' = szW w from congrArg Prod.fst s.2.2.2.2]
    exact Nat.le_refl _
end XIU
