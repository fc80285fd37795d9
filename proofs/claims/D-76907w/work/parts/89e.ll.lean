/-! LINKED LISTS: header at place r, nodes among what is made later -/
def ia (ev : Ev) (q : Nat) : Nat := xel ev (xst ev 1) (q + 128)
def nx (n : Nat) (ad : Nat → Nat) (i : Nat) : Option Nat := if i < n then some (ad i) else none
def pv (ad : Nat → Nat) (i : Nat) : Option Nat := match i with
  | 0 => none
  | j + 1 => some (ad j)
def Hd (r : Nat) : Prop := r = 28 ∨ r = 43
def szW (w : Wd) : Nat := w.2.2.2.2.1
def slW (w : Wd) : Nat := w.2.2.2.2.2
def dyn (w : Wd) : Nat → Option Ob := w.2.2.2.1
def LL (ev : Ev) (w : Wd) (r n : Nat) (ad q : Nat → Nat) : Prop := n ≤ 1000 ∧ w.2.1 r 1 = nI n ∧ w.2.2.1 r 2 = nx n ad 0 ∧ w.2.2.1 r 3 = pv ad n ∧
  (∀ i : Nat, i < n → dyn w (ad i) = nd (some (ia ev (q i))) (nx n ad (i + 1)) (pv ad i)) ∧ (∀ i : Nat, i < n → ev.1 + 984 ≤ ad i ∧ ad i < szW w) ∧ ∀ i j : Nat, i < n → j < n → ad i = ad j → i = j
/-- what a change of the list at r leaves alone -/
def FrL (r : Nat) (w : Wd) (n : Nat) (ad : Nat → Nat) (w' : Wd) (n' : Nat) (ad' : Nat → Nat) : Prop := w'.1 = w.1 ∧ (∀ q : Nat, q ≠ r → w'.2.1 q = w.2.1 q ∧ w'.2.2.1 q = w.2.2.1 q) ∧
  (∀ a : Nat, a < szW w → (∀ i : Nat, i < n → a ≠ ad i) → dyn w' a = dyn w a) ∧ szW w ≤ szW w' ∧ ∀ i : Nat, i < n' → szW w ≤ ad' i ∨ ∃ j : Nat, j < n ∧ ad' i = ad j
section XLL
variable {ev : Ev} {w w' w'' : Wd} {r n n' n'' a k q fu : Nat} {ad qs ad' ad'' : Nat → Nat}
theorem FrL_refl : FrL r w n ad w n ad := ⟨rfl, fun _ _ => ⟨rfl, rfl⟩, fun _ _ _ => rfl, Nat.le_refl _, fun i hi => Or.inr ⟨i, hi, rfl⟩⟩
theorem FrL_trans (h1 : FrL r w n ad w' n' ad') (h2 : FrL r w' n' ad' w'' n'' ad'') : FrL r w n ad w'' n'' ad'' := by
  obtain ⟨a1, b1, c1, d1, e1⟩ := h1
  obtain ⟨a2, b2, c2, d2, e2⟩ := h2
  refine ⟨a2.trans a1, fun q hq => ⟨(b2 q hq).1.trans (b1 q hq).1, (b2 q hq).2.trans (b1 q hq).2⟩, fun a ha hn => ?_, Nat.le_trans d1 d2, fun i hi => ?_⟩
  · rw [c2 a (Nat.lt_of_lt_of_le ha d1) (fun i hi he => ?_), c1 a ha hn]
    rcases e1 i hi with h | ⟨j, hj, h⟩
    · omega
    · exact hn j hj (he.trans h)
  · rcases e2 i hi with h | ⟨j, hj, h⟩
    · exact Or.inl (Nat.le_trans d1 h)
    · rw [h]
      exact e1 j hj
theorem hI0 (h : Hd r) : gfI (mem ev w) (ev.1 + r) 5 0 = some (w.2.1 r 0) := by rcases h with rfl | rfl <;> exact gI (n := 4) rfl (by decide) (by decide) rfl
theorem hI1 (h : Hd r) : gfI (mem ev w) (ev.1 + r) 5 1 = some (w.2.1 r 1) := by rcases h with rfl | rfl <;> exact gI (n := 4) rfl (by decide) (by decide) rfl
theorem hP0 (h : Hd r) {x : Int32} : pfI ev (mem ev w) (ev.1 + r) 5 0 x = some (mem ev (wI w r 0 x)) := by rcases h with rfl | rfl <;> exact pI (n := 4) rfl (by decide) (by decide) rfl x
theorem hP1 (h : Hd r) {x : Int32} : pfI ev (mem ev w) (ev.1 + r) 5 1 x = some (mem ev (wI w r 1 x)) := by rcases h with rfl | rfl <;> exact pI (n := 4) rfl (by decide) (by decide) rfl x
theorem hA2 (h : Hd r) : gfA (mem ev w) (ev.1 + r) 5 2 = some (w.2.2.1 r 2) := by rcases h with rfl | rfl <;> exact gA (n := 4) rfl (by decide) (by decide) rfl
theorem hA3 (h : Hd r) : gfA (mem ev w) (ev.1 + r) 5 3 = some (w.2.2.1 r 3) := by rcases h with rfl | rfl <;> exact gA (n := 4) rfl (by decide) (by decide) rfl
theorem hQ2 (h : Hd r) {x : Option Nat} : pfA ev (mem ev w) (ev.1 + r) 5 2 x = some (mem ev (wA w r 2 x)) := by rcases h with rfl | rfl <;> exact pA (n := 4) rfl (by decide) (by decide) rfl rfl x
theorem hQ3 (h : Hd r) {x : Option Nat} : pfA ev (mem ev w) (ev.1 + r) 5 3 x = some (mem ev (wA w r 3 x)) := by rcases h with rfl | rfl <;> exact pA (n := 4) rfl (by decide) (by decide) rfl rfl x
theorem hIs (h : Hd r) : isC (mem ev w) (ev.1 + r) 5 = some () := by rcases h with rfl | rfl <;> exact isCm (n := 4) rfl (by decide)
theorem wA_same {i : Nat} {x : Option Nat} : (wA w r i x).2.2.1 r i = x := if_pos ⟨rfl, rfl⟩
theorem wA_ne {i r' i' : Nat} {x : Option Nat} (h : ¬ (r' = r ∧ i' = i)) : (wA w r i x).2.2.1 r' i' = w.2.2.1 r' i' := if_neg h
theorem wI_22 {i : Nat} {x : Int32} : (wI w r i x).2.2 = w.2.2 := rfl
theorem wA_21 {i : Nat} {x : Option Nat} : (wA w r i x).2.1 = w.2.1 := rfl
theorem wA_222 {i : Nat} {x : Option Nat} : (wA w r i x).2.2.2 = w.2.2.2 := rfl
theorem wD_I {o : Option Ob} : (wD w a o).2.1 = w.2.1 := rfl
theorem wD_A {o : Option Ob} : (wD w a o).2.2.1 = w.2.2.1 := rfl
theorem nwW_I {N : Nat} {o : Ob} : (nwW w N o).2.1 = w.2.1 := rfl
theorem nwW_A {N : Nat} {o : Ob} : (nwW w N o).2.2.1 = w.2.2.1 := rfl
theorem dyn_wI {i : Nat} {x : Int32} : dyn (wI w r i x) = dyn w := rfl
theorem dyn_wA {i : Nat} {x : Option Nat} : dyn (wA w r i x) = dyn w := rfl
theorem dyn_wD {o : Option Ob} {b : Nat} : dyn (wD w a o) b = if b = a then o else dyn w b := rfl
theorem dyn_nw {N : Nat} {o : Ob} {b : Nat} : dyn (nwW w N o) b = if b = szW w then some o else dyn w b := rfl
theorem sz_wI {i : Nat} {x : Int32} : szW (wI w r i x) = szW w := rfl
theorem sz_wA {i : Nat} {x : Option Nat} : szW (wA w r i x) = szW w := rfl
theorem sz_wD {o : Option Ob} : szW (wD w a o) = szW w := rfl
theorem sz_nw {N : Nat} {o : Ob} : szW (nwW w N o) = szW w + 1 := rfl
theorem sl_wI' {i : Nat} {x : Int32} : slW (wI w r i x) = slW w := rfl
theorem sl_wA' {i : Nat} {x : Option Nat} : slW (wA w r i x) = slW w := rfl
theorem sl_wD' {o : Option Ob} : slW (wD w a o) = slW w := rfl
theorem sl_nw' {N : Nat} {o : Ob} : slW (nwW w N o) = slW w + N := rfl
theorem wD_wD {o o' : Option Ob} : wD (wD w a o) a o' = wD w a o' := by
  refine Prod.ext rfl (Prod.ext rfl (Prod.ext rfl (Prod.ext ?_ rfl)))
  funext b
  show (if b = a then o' else if b = a then o else w.2.2.2.1 b) = if b = a then o' else w.2.2.2.1 b
  split <;> rfl
theorem wD_nw {N : Nat} {o o' : Ob} : wD (nwW w N o) (szW w) (some o') = nwW w N o' := by
  refine Prod.ext rfl (Prod.ext rfl (Prod.ext rfl (Prod.ext ?_ rfl)))
  funext b
  show (if b = szW w then some o' else if b = szW w then some o else w.2.2.2.1 b) = if b = szW w then some o' else w.2.2.2.1 b
  split <;> rfl
def no (i x p : Option Nat) : Ob := .inr (6, [va_rf i, va_rf x, va_rf p])
theorem J33_init {x p l : Option Nat} (h : ev.1 + 984 ≤ szW w) : f_J33_init fu ev (mem ev (nwW w 3 (.inr (6, [.null, .null, .null])))) (szW w) p x l = some ((), mem ev (nwW w 3 (no x l p))) := by
  have e0 : (nwW w 3 (.inr (6, [.null, .null, .null]))).2.2.2.1 (szW w) = nd none none none := if_pos rfl
  have e1 : (nwW w 3 (no x none none)).2.2.2.1 (szW w) = nd x none none := if_pos rfl
  have e2 : (nwW w 3 (no x l none)).2.2.2.1 (szW w) = nd x l none := if_pos rfl
  have p0 := nd_p0 (x := x) h e0
  have p1 := nd_p1 (x := l) h e1
  have p2 := nd_p2 (x := p) h e2
  rw [show nd x none none = some (no x none none) from rfl, wD_nw] at p0
  rw [show nd x l none = some (no x l none) from rfl, wD_nw] at p1
  rw [show nd x l p = some (no x l p) from rfl, wD_nw] at p2
  simp only [b_J33_init_0, f_J33_init, p0, p1, p2, Option.bind_some]
theorem ll_linkLast (hr : Hd r) (h : LL ev w r n ad qs) (h0 : ev.1 + 984 ≤ szW w) (h1 : szW w + 1 ≤ ev.2.1) (h2 : slW w + 3 ≤ ev.2.2.1) (hn : n < 1000) :
    ∃ w' : Wd, f_J3_linkLast fu ev (mem ev w) (ev.1 + r) (some (ia ev q)) = some ((), mem ev w') ∧ LL ev w' r (n + 1) (fun i => if i = n then szW w else ad i) (fun i => if i = n then q else qs i) ∧ FrL r w n ad w' (n + 1) (fun i => if i = n then szW w else ad i) ∧ szW w' = szW w + 1 ∧ slW w' = slW w + 3 := by
  obtain ⟨k1, k2, k3, k4, k5, k6, k7⟩ := h
  have o1 : nwO ev (mem ev w) 6 3 [.null, .null, .null] = some (szW w, mem ev (nwW w 3 (.inr (6, [.null, .null, .null])))) := d_nwO h0 h1 h2
  have o2 := J33_init (ev := ev) (w := w) (fu := fu) (x := some (ia ev q)) (l := none) (p := pv ad n) h0
  cases n with
  | zero =>
    refine ⟨wI (wI (wA (wA (nwW w 3 (no (some (ia ev q)) none none)) r 3 (some (szW w))) r 2 (some (szW w))) r 1 (nI 1)) r 0 (w.2.1 r 0 + 1), ?_, ⟨by omega, ?_, ?_, ?_, ?_, ?_, ?_⟩, ⟨rfl, fun q hq => ⟨?_, ?_⟩, fun a ha _ => ?_, ?_, ?_⟩, rfl, rfl⟩
    · simp only [pv] at o2 k4
      simp only [b_J3_linkLast_38, b_J3_linkLast_33, b_J3_linkLast_25, b_J3_linkLast_0, f_J3_linkLast, hA3 hr, k4, o1, o2, hQ3 hr, hQ2 hr, hI0 hr, hI1 hr, hP0 hr, hP1 hr, Option.bind_some, bd2, if_true, eq_self, wA_21, nwW_I, k2, nI_1]
      rw [wI_ne (by omega)]
      rfl
    · rw [wI_ne (by omega), wI_same]
    · rw [wI_22, wI_22, wA_same]; rfl
    · rw [wI_22, wI_22, wA_ne (by omega), wA_same]; rfl
    · intro i hi
      obtain rfl : i = 0 := by omega
      simp only [dyn_wI, dyn_wA, dyn_nw, if_true, eq_self]
      rfl
    · intro i hi
      obtain rfl : i = 0 := by omega
      simp only [if_true, eq_self, sz_wI, sz_wA, sz_nw]
      omega
    · intro i j hi hj _
      omega
    · rw [wI_row hq, wI_row hq]; rfl
    · show (wA (wA (nwW w 3 _) r 3 _) r 2 _).2.2.1 q = _
      rw [wA_row hq, wA_row hq]; rfl
    · simp only [dyn_wI, dyn_wA, dyn_nw]
      rw [if_neg (by omega)]
    · show szW w ≤ szW w + 1
      omega
    · intro i hi
      obtain rfl : i = 0 := by omega
      exact Or.inl (by simp)
  | succ m =>
    have hm : m < m + 1 := by omega
    have e4 := k5 m hm
    have hlt := k6 m hm
    have e5 : (wA (nwW w 3 (no (some (ia ev q)) none (some (ad m)))) r 3 (some (szW w))).2.2.2.1 (ad m) = nd (some (ia ev (qs m))) (nx (m + 1) ad (m + 1)) (pv ad m) := by
      show dyn (wA (nwW w 3 _) r 3 _) (ad m) = _
      rw [dyn_wA, dyn_nw, if_neg (by omega)]
      exact e4
    have p1 := nd_p1 (x := some (szW w)) hlt.1 e5
    refine ⟨wI (wI (wD (wA (nwW w 3 (no (some (ia ev q)) none (some (ad m)))) r 3 (some (szW w))) (ad m) (nd (some (ia ev (qs m))) (some (szW w)) (pv ad m))) r 1 (nI (m + 2))) r 0 (w.2.1 r 0 + 1), ?_, ⟨by omega, ?_, ?_, ?_, ?_, ?_, ?_⟩, ⟨rfl, fun q hq => ⟨?_, ?_⟩, fun a ha hna => ?_, ?_, ?_⟩, rfl, rfl⟩
    · have k4' : w.2.2.1 r 3 = some (ad m) := k4
      have o2' : f_J33_init fu ev (mem ev (nwW w 3 (Sum.inr (6, [Value.null, Value.null, Value.null])))) (szW w) (some (ad m)) (some (ia ev q)) none = some ((), mem ev (nwW w 3 (no (some (ia ev q)) none (some (ad m))))) := o2
      simp only [b_J3_linkLast_38, b_J3_linkLast_33, b_J3_linkLast_25, b_J3_linkLast_0, f_J3_linkLast, hA3 hr, k4', o1, o2', hQ3 hr, p1, hI0 hr, hI1 hr, hP0 hr, hP1 hr, Option.bind_some, bd2, wD_I, wA_21, nwW_I, k2, nI_1, reduceCtorEq, if_false]
      rw [wI_ne (by omega)]
      rfl
    · rw [wI_ne (by omega), wI_same]
    · rw [wI_22, wI_22, wD_A, wA_ne (by omega), nwW_A, k3]
      unfold nx
      rw [if_pos (by omega), if_pos (by omega)]
      dsimp only
      rw [if_neg (by omega)]
    · rw [wI_22, wI_22, wD_A, wA_same]
      show _ = some (if m + 1 = m + 1 then szW w else ad (m + 1))
      rw [if_pos rfl]
    · intro i hi
      simp only [dyn_wI, dyn_wD, dyn_wA, dyn_nw]
      by_cases hi1 : i = m + 1
      · subst hi1
        rw [if_pos rfl, if_neg (by omega), if_pos rfl, if_pos rfl]
        unfold nx
        rw [if_neg (by omega)]
        show some (no _ _ _) = nd _ _ (some (if m = m + 1 then szW w else ad m))
        rw [if_neg (by omega)]
        rfl
      · rw [if_neg hi1, if_neg hi1]
        have pe : pv (fun i => if i = m + 1 then szW w else ad i) i = pv ad i := by
          cases i with
          | zero => rfl
          | succ l =>
            show some (if l = m + 1 then szW w else ad l) = _
            rw [if_neg (by omega)]
            rfl
        rw [pe]
        by_cases him : i = m
        · subst him
          rw [if_pos rfl]
          unfold nx
          rw [if_pos (by omega)]
          dsimp only
          rw [if_pos rfl]
        · have hne : ad i ≠ ad m := fun e => him (k7 i m (by omega) (by omega) e)
          rw [if_neg hne, if_neg (by have := k6 i (by omega); omega), k5 i (by omega)]
          unfold nx
          rw [if_pos (by omega), if_pos (by omega)]
          dsimp only
          rw [if_neg (by omega)]
    · intro i hi
      simp only [sz_wI, sz_wD, sz_wA, sz_nw]
      split
      · omega
      · have := k6 i (by omega)
        omega
    · intro i j hi hj e
      dsimp only at e
      split at e <;> split at e
      · omega
      · have := k6 j (by omega)
        omega
      · have := k6 i (by omega)
        omega
      · exact k7 i j (by omega) (by omega) e
    · rw [wI_row hq, wI_row hq]; rfl
    · show (wA (nwW w 3 _) r 3 _).2.2.1 q = _
      rw [wA_row hq]; rfl
    · simp only [dyn_wI, dyn_wD, dyn_wA, dyn_nw]
      rw [if_neg (hna m hm), if_neg (by omega)]
    · show szW w ≤ szW w + 1
      omega
    · intro i hi
      by_cases hi1 : i = m + 1
      · exact Or.inl (by simp [hi1])
      · exact Or.inr ⟨i, by omega, by simp [hi1]⟩
theorem ll_add (hr : Hd r) (h : LL ev w r n ad qs) (h0 : ev.1 + 984 ≤ szW w) (h1 : szW w + 1 ≤ ev.2.1) (h2 : slW w + 3 ≤ ev.2.2.1) (hn : n < 1000) :
    ∃ w' : Wd, f_J3_add fu ev (mem ev w) (ev.1 + r) (some (ia ev q)) = some (1, mem ev w') ∧ LL ev w' r (n + 1) (fun i => if i = n then szW w else ad i) (fun i => if i = n then q else qs i) ∧ FrL r w n ad w' (n + 1) (fun i => if i = n then szW w else ad i) ∧ szW w' = szW w + 1 ∧ slW w' = slW w + 3 := by
  obtain ⟨w', e, z⟩ := ll_linkLast (fu := fu) (q := q) hr h h0 h1 h2 hn
  exact ⟨w', by simp only [b_J3_add_0, f_J3_add, hIs hr, e, Option.bind_some, bd2], z⟩
end XLL
