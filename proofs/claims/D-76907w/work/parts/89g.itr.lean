/-! LINKED LISTS: the k-th, an iterator -/
def itO (l x : Option Nat) (i m : Int32) (h : Nat) : Option Ob := some (.inr (7, [va_rf l, va_rf x, .int i, .int m, .ref h]))
section XIT
variable {ev : Ev} {w : Wd} {r n i k t h fu : Nat} {ad qs : Nat → Nat} {l x y : Option Nat} {c m z : Int32}
theorem it_0 (ht : ev.1 + 984 ≤ t) (hd : w.2.2.2.1 t = itO l x c m h) : gfA (mem ev w) t 7 0 = some l := by
  unfold gfA
  rw [d_gV ht hd]
  cases l <;> rfl
theorem it_1 (ht : ev.1 + 984 ≤ t) (hd : w.2.2.2.1 t = itO l x c m h) : gfA (mem ev w) t 7 1 = some x := by
  unfold gfA
  rw [d_gV ht hd]
  cases x <;> rfl
theorem it_2 (ht : ev.1 + 984 ≤ t) (hd : w.2.2.2.1 t = itO l x c m h) : gfI (mem ev w) t 7 2 = some c := by
  unfold gfI
  rw [d_gV ht hd]
  rfl
theorem it_3 (ht : ev.1 + 984 ≤ t) (hd : w.2.2.2.1 t = itO l x c m h) : gfI (mem ev w) t 7 3 = some m := by
  unfold gfI
  rw [d_gV ht hd]
  rfl
theorem it_4 (ht : ev.1 + 984 ≤ t) (hd : w.2.2.2.1 t = itO l x c m h) : gfA (mem ev w) t 7 4 = some (some h) := by
  unfold gfA
  rw [d_gV ht hd]
  rfl
theorem it_p0 (ht : ev.1 + 984 ≤ t) (hd : w.2.2.2.1 t = itO l x c m h) : pfA ev (mem ev w) t 7 0 y = some (mem ev (wD w t (itO y x c m h))) := d_pV (k := 0) ht hd (by simp)
theorem it_p1 (ht : ev.1 + 984 ≤ t) (hd : w.2.2.2.1 t = itO l x c m h) : pfA ev (mem ev w) t 7 1 y = some (mem ev (wD w t (itO l y c m h))) := d_pV (k := 1) ht hd (by simp)
theorem it_p2 (ht : ev.1 + 984 ≤ t) (hd : w.2.2.2.1 t = itO l x c m h) : pfI ev (mem ev w) t 7 2 z = some (mem ev (wD w t (itO l x z m h))) := d_pV (k := 2) ht hd (by simp)
theorem it_p3 (ht : ev.1 + 984 ≤ t) (hd : w.2.2.2.1 t = itO l x c m h) : pfI ev (mem ev w) t 7 3 z = some (mem ev (wD w t (itO l x c z h))) := d_pV (k := 3) ht hd (by simp)
theorem d_isC {ci a : Nat} {vs : List Value} (ht : ev.1 + 984 ≤ a) (hd : w.2.2.2.1 a = some (.inr (ci, vs))) : isC (mem ev w) a ci = some () := by
  unfold isC
  rw [mem_dyn ht, hd]
  exact if_pos rfl
theorem it_is (ht : ev.1 + 984 ≤ t) (hd : w.2.2.2.1 t = itO l x c m h) : isC (mem ev w) t 7 = some () := d_isC ht hd
theorem wD_at {a : Nat} {o : Option Ob} : (wD w a o).2.2.2.1 a = o := if_pos rfl
/-- the k-th node -/
theorem ll_L47 (hL : LL ev w r n ad qs) (hk : k < n) : ∀ (d f : Nat), k + d < n → d < f → L_J3_node_47 fu ev f (mem ev w) (nI k) (some (ad (k + d))) (nI (k + d)) = some (some (ad k), mem ev w) := by
  have nd' := LL_ND hL
  have h1000 := hL.1
  intro d
  induction d with
  | zero =>
    intro f _ hf
    obtain ⟨g, rfl⟩ : ∃ g, f = g + 1 := ⟨f - 1, by omega⟩
    show b_J3_node_47 _ fu ev _ _ _ _ = _
    unfold b_J3_node_47
    rw [if_pos (nI_le (by omega) (by omega))]
    rfl
  | succ d ih =>
    intro f hd hf
    obtain ⟨g, rfl⟩ : ∃ g, f = g + 1 := ⟨f - 1, by omega⟩
    show b_J3_node_47 _ fu ev _ _ _ _ = _
    have e := nr2 nd' hd
    unfold b_J3_node_47
    rw [if_neg (nI_ge (by omega) (by omega))]
    unfold b_J3_node_52
    rw [Option.bind_some, e, Option.bind_some]
    rw [show k + (d + 1) = k + d + 1 from rfl, pk_m1]
    exact ih g (by omega) (by omega)
theorem ll_L17 (hL : LL ev w r n ad qs) (hk : k < n) : ∀ (d f : Nat), d ≤ k → d < f → L_J3_node_17 fu ev f (mem ev w) (nI k) (some (ad (k - d))) (nI (k - d)) = some (some (ad k), mem ev w) := by
  have nd' := LL_ND hL
  have h1000 := hL.1
  intro d
  induction d with
  | zero =>
    intro f _ hf
    obtain ⟨g, rfl⟩ : ∃ g, f = g + 1 := ⟨f - 1, by omega⟩
    show b_J3_node_17 _ fu ev _ _ _ _ = _
    unfold b_J3_node_17
    rw [if_pos (nI_le (by omega) (by omega))]
    rfl
  | succ d ih =>
    intro f hd hf
    obtain ⟨g, rfl⟩ : ∃ g, f = g + 1 := ⟨f - 1, by omega⟩
    show b_J3_node_17 _ fu ev _ _ _ _ = _
    have e := nr1 nd' (show k - (d + 1) < n by omega)
    unfold b_J3_node_17
    rw [if_neg (nI_ge (by omega) (by omega))]
    unfold b_J3_node_22
    rw [Option.bind_some, e, Option.bind_some, nI_1]
    rw [show k - (d + 1) + 1 = k - d by omega, show nx n ad (k - d) = some (ad (k - d)) from if_pos (by omega)]
    exact ih g (by omega) (by omega)
theorem sh1 (h : n ≤ 1000) : nI n >>> ((1 : Int32) &&& 31) = nI (n / 2) := pk_shrN (by omega) _ 1 (by decide)
theorem ll_node (hr : Hd r) (hf : 1001 ≤ fu) (hL : LL ev w r n ad qs) (hk : k < n) : f_J3_node fu ev (mem ev w) (ev.1 + r) (nI k) = some (some (ad k), mem ev w) := by
  have h1000 := hL.1
  simp only [f_J3_node, b_J3_node_0, hI1 hr, hL.2.1, Option.bind_some, sh1 h1000]
  by_cases hc : n / 2 ≤ k
  · rw [if_pos (nI_le hc (by omega))]
    obtain ⟨d, hd⟩ : ∃ d, n = k + d + 1 := ⟨n - k - 1, by omega⟩
    have e := ll_L47 (fu := fu) hL hk d fu (by omega) (by omega)
    have e3 : w.2.2.1 r 3 = some (ad (k + d)) := by rw [hL.2.2.2.1, hd]; rfl
    simp only [b_J3_node_35, hI1 hr, hA3 hr, hL.2.1, e3, Option.bind_some]
    rw [hd, nI_pred]
    exact e
  · rw [if_neg (nI_ge (by omega) (by omega))]
    have e := ll_L17 (fu := fu) hL hk k fu (by omega) (by omega)
    have e3 : w.2.2.1 r 2 = some (ad 0) := by rw [hL.2.2.1]; exact if_pos (by omega)
    simp only [b_J3_node_10, hA2 hr, e3, Option.bind_some]
    rw [Nat.sub_self] at e
    exact e
/-- an iterator over the list at r, i of n are behind it -/
def It (ev : Ev) (w : Wd) (r t n : Nat) (ad : Nat → Nat) (i : Nat) (l : Option Nat) : Prop := dyn w t = itO l (nx n ad i) (nI i) (w.2.1 r 0) (ev.1 + r) ∧ ev.1 + 984 ≤ t ∧ t < szW w ∧ ∀ j : Nat, j < n → t ≠ ad j
theorem LL_sz {w' : Wd} (hL : LL ev w r n ad qs) (hI : w'.2.1 r = w.2.1 r) (hA : w'.2.2.1 r = w.2.2.1 r) (hd : ∀ j : Nat, j < n → dyn w' (ad j) = dyn w (ad j)) (hs : szW w ≤ szW w') : LL ev w' r n ad qs := by
  obtain ⟨k1, k2, k3, k4, k5, k6, k7⟩ := hL
  refine ⟨k1, by rw [hI]; exact k2, by rw [hA]; exact k3, by rw [hA]; exact k4, fun i hi => (hd i hi).trans (k5 i hi), fun i hi => ?_, k7⟩
  have := k6 i hi
  omega
theorem ll_iter (hr : Hd r) (hf : 1001 ≤ fu) (hL : LL ev w r n ad qs) (h0 : ev.1 + 984 ≤ szW w) (h1 : szW w + 1 ≤ ev.2.1) (h2 : slW w + 5 ≤ ev.2.2.1) :
    ∃ w' : Wd, f_J2_iterator fu ev (mem ev w) (ev.1 + r) = some (some (szW w), mem ev w') ∧ LL ev w' r n ad qs ∧ It ev w' r (szW w) n ad 0 none ∧ w' = nwW w 5 (.inr (7, [va_rf none, va_rf (nx n ad 0), .int 0, .int (w.2.1 r 0), .ref (ev.1 + r)])) := by
  have h1000 := hL.1
  have o1 : nwO ev (mem ev w) 7 5 [.null, .null, .int 0, .int 0, .null] = some (szW w, mem ev (nwW w 5 (.inr (7, [.null, .null, .int 0, .int 0, .null])))) := d_nwO h0 h1 h2
  obtain ⟨w1, hw1⟩ : ∃ w1, w1 = nwW w 5 (.inr (7, [.null, .null, .int 0, .int 0, .null])) := ⟨_, rfl⟩
  obtain ⟨w2, hw2⟩ : ∃ w2, w2 = nwW w 5 (.inr (7, [va_rf none, va_rf none, .int 0, .int 0, .ref (ev.1 + r)])) := ⟨_, rfl⟩
  obtain ⟨w3, hw3⟩ : ∃ w3, w3 = nwW w 5 (.inr (7, [va_rf none, va_rf none, .int 0, .int (w.2.1 r 0), .ref (ev.1 + r)])) := ⟨_, rfl⟩
  obtain ⟨w4, hw4⟩ : ∃ w4, w4 = nwW w 5 (.inr (7, [va_rf none, va_rf (nx n ad 0), .int 0, .int (w.2.1 r 0), .ref (ev.1 + r)])) := ⟨_, rfl⟩
  rw [← hw1] at o1
  have p4 : pfA ev (mem ev w1) (szW w) 7 4 (some (ev.1 + r)) = some (mem ev w2) := by
    have hd : w1.2.2.2.1 (szW w) = some (.inr (7, [.null, .null, .int 0, .int 0, .null])) := by rw [hw1]; exact if_pos rfl
    have e := d_pV (k := 4) (v := .ref (ev.1 + r)) h0 hd (by simp)
    rw [hw1] at e
    rw [hw1, hw2]
    rw [show (some (Sum.inr (7, List.set [Value.null, .null, .int 0, .int 0, .null] 4 (.ref (ev.1 + r)))) : Option Ob) = some (.inr (7, [va_rf none, va_rf none, .int 0, .int 0, .ref (ev.1 + r)])) from rfl, wD_nw] at e
    exact e
  have d2 : w2.2.2.2.1 (szW w) = itO none none 0 0 (ev.1 + r) := by rw [hw2]; exact if_pos rfl
  have d3 : w3.2.2.2.1 (szW w) = itO none none 0 (w.2.1 r 0) (ev.1 + r) := by rw [hw3]; exact if_pos rfl
  have d4 : w4.2.2.2.1 (szW w) = itO none (nx n ad 0) 0 (w.2.1 r 0) (ev.1 + r) := by rw [hw4]; exact if_pos rfl
  have g4 := it_4 (ev := ev) h0 d2
  have p3 : pfI ev (mem ev w2) (szW w) 7 3 (w.2.1 r 0) = some (mem ev w3) := by
    have e := it_p3 (z := w.2.1 r 0) h0 d2
    rw [hw2, itO, wD_nw] at e
    rw [hw2, hw3]
    exact e
  have p1 : pfA ev (mem ev w3) (szW w) 7 1 (nx n ad 0) = some (mem ev w4) := by
    have e := it_p1 (y := nx n ad 0) h0 d3
    rw [hw3, itO, wD_nw] at e
    rw [hw3, hw4]
    exact e
  have p2 : pfI ev (mem ev w4) (szW w) 7 2 0 = some (mem ev w4) := by
    have e := it_p2 (z := 0) h0 d4
    rw [hw4, itO, wD_nw] at e
    rw [hw4]
    exact e
  have i2 : w2.2.1 = w.2.1 := by rw [hw2]; rfl
  have i3 : w3.2.1 = w.2.1 := by rw [hw3]; rfl
  have L3 : LL ev w3 r n ad qs := LL_sz hL (by rw [i3]) (by rw [hw3]; rfl) (fun j hj => by rw [hw3, dyn_nw, if_neg (by have := hL.2.2.2.2.2.1 j hj; omega)]) (by rw [hw3]; show szW w ≤ szW w + 1; omega)
  have L4 : LL ev w4 r n ad qs := LL_sz hL (by rw [hw4]; rfl) (by rw [hw4]; rfl) (fun j hj => by rw [hw4, dyn_nw, if_neg (by have := hL.2.2.2.2.2.1 j hj; omega)]) (by rw [hw4]; show szW w ≤ szW w + 1; omega)
  have n0 : ¬ nI n < 0 := nI_pos (by omega)
  have z0 : ¬ (0 : Int32) < 0 := by decide
  have o01 : ¬ (1 : Int32) = 0 := by decide
  have ck : f_J3_checkPositionIndex fu ev (mem ev w) (ev.1 + r) 0 = some ((), mem ev w) := by
    simp only [b_J3_checkPositionIndex_21, b_J3_checkPositionIndex_8, b_J3_checkPositionIndex_0, f_J3_checkPositionIndex, b_J3_isPositionIndex_17, b_J3_isPositionIndex_16, b_J3_isPositionIndex_12, b_J3_isPositionIndex_4, b_J3_isPositionIndex_0, f_J3_isPositionIndex, hIs hr, hI1 hr, hL.2.1, n0, z0, o01, if_false, zb1, Option.bind_some, bd2]
  have ini : f_J29_init fu ev (mem ev w1) (szW w) (some (ev.1 + r)) 0 = some ((), mem ev w4) := by
    by_cases hn : n = 0
    · have e : nx n ad 0 = none := if_neg (by omega)
      rw [e] at p1
      have en : (0 : Int32) = nI n := by rw [hn]; rfl
      simp only [b_J29_init_38, b_J29_init_33, b_J29_init_29, b_J29_init_0, f_J29_init, p4, g4, hI0 hr, hI1 hr, i2, i3, p3, hL.2.1, ← en, p1, p2, Option.bind_some, if_true, eq_self]
    · have e : nx n ad 0 = some (ad 0) := if_pos (by omega)
      have en : ¬ (0 : Int32) = nI n := fun z => nI_ne0 (show 0 < n by omega) (by omega) z.symm
      have nd0 := ll_node (ev := ev) (k := 0) hr hf L3 (by omega)
      rw [nI_0] at nd0
      rw [e] at p1
      simp only [b_J29_init_38, b_J29_init_33, b_J29_init_29, b_J29_init_0, f_J29_init, p4, g4, hI0 hr, hI1 hr, i2, i3, p3, hL.2.1, en, p1, p2, Option.bind_some, if_false, hIs hr, nd0, bd2]
  refine ⟨w4, ?_, L4, ⟨?_, h0, ?_, fun j hj => ?_⟩, hw4⟩
  · simp only [b_J2_iterator_0, f_J2_iterator, b_J1_listIterator_0, f_J1_listIterator, b_J3_listIterator_0, f_J3_listIterator, hIs hr, ck, o1, ini, Option.bind_some, bd2]
  · rw [show dyn w4 (szW w) = _ from d4, hw4]
    rfl
  · rw [hw4]
    show szW w < szW w + 1
    omega
  · have := hL.2.2.2.2.2.1 j hj
    omega
end XIT
