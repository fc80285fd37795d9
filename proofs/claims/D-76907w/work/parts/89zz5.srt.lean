/-! SIX NUMBERS IN ORDER: the sort of the list -/
def S6 (g : Nat → Nat) : Nat := g 0 + g 1 + g 2 + g 3 + g 4 + g 5
def PQ (q : Nat → Nat) : Prop := (∀ i : Nat, i < 6 → q i < 6) ∧ ∀ g : Nat → Nat, S6 (fun i => g (q i)) = S6 g
def SOq (b : Nat → Int64) (q : Nat → Nat) (n : Nat) : Prop := ∀ i j : Nat, i ≤ j → j < n → b (q i) ≤ b (q j)
def DSq (b : Nat → Int64) (q : Nat → Nat) (n : Nat) : Prop := ∀ i j : Nat, i ≤ j → j < n → b (q j) ≤ b (q i)
def insQ (q : Nat → Nat) (l s : Nat) : Nat → Nat := fun j => if j = l then q s else if l < j ∧ j ≤ s then q (j - 1) else q j
def revQ (q : Nat → Nat) (l h : Nat) : Nat → Nat := fun j => if l ≤ j ∧ j ≤ h then q (l + h - j) else q j
theorem insQ_b {q : Nat → Nat} {l s : Nat} (h : ∀ i : Nat, i < 6 → q i < 6) (hs : s < 6) : ∀ i : Nat, i < 6 → insQ q l s i < 6 := by
  intro i hi
  unfold insQ
  split
  · exact h s hs
  · split
    · exact h _ (by omega)
    · exact h _ hi
theorem revQ_b {q : Nat → Nat} {r : Nat} (h : ∀ i : Nat, i < 6 → q i < 6) (hr : r < 6) : ∀ i : Nat, i < 6 → revQ q 0 r i < 6 := by
  intro i hi
  unfold revQ
  split
  · exact h _ (by omega)
  · exact h _ hi
theorem PQ_ins {q : Nat → Nat} (h : PQ q) : ∀ l s : Nat, l ≤ s → s < 6 → PQ (insQ q l s) := by
  intro l s hl hs
  refine ⟨insQ_b h.1 hs, fun g => Eq.trans ?_ (h.2 g)⟩
  match s, l, hl, hs with
  | 0, 0, _, _ => show g (q 0) + g (q 1) + g (q 2) + g (q 3) + g (q 4) + g (q 5) = g (q 0) + g (q 1) + g (q 2) + g (q 3) + g (q 4) + g (q 5); omega
  | 1, 0, _, _ => show g (q 1) + g (q 0) + g (q 2) + g (q 3) + g (q 4) + g (q 5) = g (q 0) + g (q 1) + g (q 2) + g (q 3) + g (q 4) + g (q 5); omega
  | 1, 1, _, _ => show g (q 0) + g (q 1) + g (q 2) + g (q 3) + g (q 4) + g (q 5) = g (q 0) + g (q 1) + g (q 2) + g (q 3) + g (q 4) + g (q 5); omega
  | 2, 0, _, _ => show g (q 2) + g (q 0) + g (q 1) + g (q 3) + g (q 4) + g (q 5) = g (q 0) + g (q 1) + g (q 2) + g (q 3) + g (q 4) + g (q 5); omega
  | 2, 1, _, _ => show g (q 0) + g (q 2) + g (q 1) + g (q 3) + g (q 4) + g (q 5) = g (q 0) + g (q 1) + g (q 2) + g (q 3) + g (q 4) + g (q 5); omega
  | 2, 2, _, _ => show g (q 0) + g (q 1) + g (q 2) + g (q 3) + g (q 4) + g (q 5) = g (q 0) + g (q 1) + g (q 2) + g (q 3) + g (q 4) + g (q 5); omega
  | 3, 0, _, _ => show g (q 3) + g (q 0) + g (q 1) + g (q 2) + g (q 4) + g (q 5) = g (q 0) + g (q 1) + g (q 2) + g (q 3) + g (q 4) + g (q 5); omega
  | 3, 1, _, _ => show g (q 0) + g (q 3) + g (q 1) + g (q 2) + g (q 4) + g (q 5) = g (q 0) + g (q 1) + g (q 2) + g (q 3) + g (q 4) + g (q 5); omega
  | 3, 2, _, _ => show g (q 0) + g (q 1) + g (q 3) + g (q 2) + g (q 4) + g (q 5) = g (q 0) + g (q 1) + g (q 2) + g (q 3) + g (q 4) + g (q 5); omega
  | 3, 3, _, _ => show g (q 0) + g (q 1) + g (q 2) + g (q 3) + g (q 4) + g (q 5) = g (q 0) + g (q 1) + g (q 2) + g (q 3) + g (q 4) + g (q 5); omega
  | 4, 0, _, _ => show g (q 4) + g (q 0) + g (q 1) + g (q 2) + g (q 3) + g (q 5) = g (q 0) + g (q 1) + g (q 2) + g (q 3) + g (q 4) + g (q 5); omega
  | 4, 1, _, _ => show g (q 0) + g (q 4) + g (q 1) + g (q 2) + g (q 3) + g (q 5) = g (q 0) + g (q 1) + g (q 2) + g (q 3) + g (q 4) + g (q 5); omega
  | 4, 2, _, _ => show g (q 0) + g (q 1) + g (q 4) + g (q 2) + g (q 3) + g (q 5) = g (q 0) + g (q 1) + g (q 2) + g (q 3) + g (q 4) + g (q 5); omega
  | 4, 3, _, _ => show g (q 0) + g (q 1) + g (q 2) + g (q 4) + g (q 3) + g (q 5) = g (q 0) + g (q 1) + g (q 2) + g (q 3) + g (q 4) + g (q 5); omega
  | 4, 4, _, _ => show g (q 0) + g (q 1) + g (q 2) + g (q 3) + g (q 4) + g (q 5) = g (q 0) + g (q 1) + g (q 2) + g (q 3) + g (q 4) + g (q 5); omega
  | 5, 0, _, _ => show g (q 5) + g (q 0) + g (q 1) + g (q 2) + g (q 3) + g (q 4) = g (q 0) + g (q 1) + g (q 2) + g (q 3) + g (q 4) + g (q 5); omega
  | 5, 1, _, _ => show g (q 0) + g (q 5) + g (q 1) + g (q 2) + g (q 3) + g (q 4) = g (q 0) + g (q 1) + g (q 2) + g (q 3) + g (q 4) + g (q 5); omega
  | 5, 2, _, _ => show g (q 0) + g (q 1) + g (q 5) + g (q 2) + g (q 3) + g (q 4) = g (q 0) + g (q 1) + g (q 2) + g (q 3) + g (q 4) + g (q 5); omega
  | 5, 3, _, _ => show g (q 0) + g (q 1) + g (q 2) + g (q 5) + g (q 3) + g (q 4) = g (q 0) + g (q 1) + g (q 2) + g (q 3) + g (q 4) + g (q 5); omega
  | 5, 4, _, _ => show g (q 0) + g (q 1) + g (q 2) + g (q 3) + g (q 5) + g (q 4) = g (q 0) + g (q 1) + g (q 2) + g (q 3) + g (q 4) + g (q 5); omega
  | 5, 5, _, _ => show g (q 0) + g (q 1) + g (q 2) + g (q 3) + g (q 4) + g (q 5) = g (q 0) + g (q 1) + g (q 2) + g (q 3) + g (q 4) + g (q 5); omega
theorem PQ_rev {q : Nat → Nat} (h : PQ q) : ∀ r : Nat, r < 6 → PQ (revQ q 0 r) := by
  intro r hr
  refine ⟨revQ_b h.1 hr, fun g => Eq.trans ?_ (h.2 g)⟩
  match r, hr with
  | 0, _ => show g (q 0) + g (q 1) + g (q 2) + g (q 3) + g (q 4) + g (q 5) = g (q 0) + g (q 1) + g (q 2) + g (q 3) + g (q 4) + g (q 5); omega
  | 1, _ => show g (q 1) + g (q 0) + g (q 2) + g (q 3) + g (q 4) + g (q 5) = g (q 0) + g (q 1) + g (q 2) + g (q 3) + g (q 4) + g (q 5); omega
  | 2, _ => show g (q 2) + g (q 1) + g (q 0) + g (q 3) + g (q 4) + g (q 5) = g (q 0) + g (q 1) + g (q 2) + g (q 3) + g (q 4) + g (q 5); omega
  | 3, _ => show g (q 3) + g (q 2) + g (q 1) + g (q 0) + g (q 4) + g (q 5) = g (q 0) + g (q 1) + g (q 2) + g (q 3) + g (q 4) + g (q 5); omega
  | 4, _ => show g (q 4) + g (q 3) + g (q 2) + g (q 1) + g (q 0) + g (q 5) = g (q 0) + g (q 1) + g (q 2) + g (q 3) + g (q 4) + g (q 5); omega
  | 5, _ => show g (q 5) + g (q 4) + g (q 3) + g (q 2) + g (q 1) + g (q 0) = g (q 0) + g (q 1) + g (q 2) + g (q 3) + g (q 4) + g (q 5); omega
def oAr (e : Nat → Option Nat) : Option Ob := some (.inl (4, 10, .inr (.inr (.inr (.inr e)))))
def Lo (ev : Ev) (w : Wd) (A : Nat) (ad : Nat → Nat) (b : Nat → Int64) : Prop := ev.1 + 984 ≤ A ∧ ∀ i : Nat, i < 6 → ad i ≠ A ∧ (mem ev w).1 (ad i) = some (.inr (16, [.long (b i)]))
def En (e : Nat → Option Nat) (ad q : Nat → Nat) : Prop := ∀ j : Nat, j < 6 → e j = some (ad (q j))
section XSO
variable {ev : Ev} {w : Wd} {fu A i j k l s : Nat} {e : Nat → Option Nat} {ad q : Nat → Nat} {b : Nat → Int64} {x : Option Nat}
theorem mD_ne {a : Nat} {o : Option Ob} (h : a ≠ A) : (mem ev (wD w A o)).1 a = (mem ev w).1 a := by
  show (if a < ev.1 then ev.2.2.2.2 a else if a < ev.1 + 984 then fx ev (wD w A o) (a - ev.1) else va_up w.2.2.2.1 A o a) = if a < ev.1 then ev.2.2.2.2 a else if a < ev.1 + 984 then fx ev w (a - ev.1) else w.2.2.2.1 a
  have e2 : va_up w.2.2.2.1 A o a = w.2.2.2.1 a := by simp [va_up, h]
  rw [e2]
  rfl
theorem mD_eq {o : Option Ob} (h : ev.1 + 984 ≤ A) : (mem ev (wD w A o)).1 A = o := by
  rw [mem_dyn h]
  simp [wD, va_up]
theorem lo_at (h : Lo ev w A ad b) (hi : i < 6) : (mem ev (wD w A (oAr e))).1 (ad i) = some (.inr (16, [.long (b i)])) := (mD_ne (h.2 i hi).1).trans (h.2 i hi).2
theorem lo_is (h : Lo ev w A ad b) (hi : i < 6) : isC (mem ev (wD w A (oAr e))) (ad i) 16 = some () := by
  unfold isC
  rw [lo_at h hi]
  exact if_pos rfl
theorem lo_g (h : Lo ev w A ad b) (hi : i < 6) : gfJ (mem ev (wD w A (oAr e))) (ad i) 16 0 = some (b i) := by
  unfold gfJ gfV
  rw [lo_at h hi]
  rfl
theorem lo_ck (h : Lo ev w A ad b) (hi : i < 6) : ckC (mem ev (wD w A (oAr e))) (some (ad i)) "java/lang/Comparable" = some () := by
  unfold ckC
  simp only [lo_at h hi]
  rfl
theorem lo_ckL (h : Lo ev w A ad b) (hi : i < 6) : ckC (mem ev (wD w A (oAr e))) (some (ad i)) "java/lang/Long" = some () := by
  unfold ckC
  simp only [lo_at h hi]
  rfl
theorem lo_asg (h : Lo ev w A ad b) (hi : i < 6) : (some (ad i)).all (asg (mem ev (wD w A (oAr e))) 4) = true := by
  show asg _ 4 (ad i) = true
  unfold asg
  rw [lo_at h hi]
  show (decide ("java/lang/Long" = "java/lang/Object") || decide (("java/lang/Long", "java/lang/Object") ∈ xCa)) = true
  decide
theorem s_ld (hA : ev.1 + 984 ≤ A) (hk : k < 10) : aldA 4 (mem ev (wD w A (oAr e))) A (nI k) = some (e k) := by
  unfold aldA
  rw [mD_eq hA]
  show (if 4 = 4 ∧ ¬ (nI k < 0 ∨ 10 ≤ (nI k).toNatClampNeg) then some (e (nI k).toNatClampNeg) else none) = _
  rw [if_pos ⟨rfl, nI_in hk (by decide)⟩, nI_clamp (by omega)]
theorem s_st (hA : ev.1 + 984 ≤ A) (hk : k < 10) (hx : x.all (asg (mem ev (wD w A (oAr e))) 4) = true) : astA ev 4 (mem ev (wD w A (oAr e))) A (nI k) x = some (mem ev (wD w A (oAr (va_up e k x)))) := by
  unfold astA
  rw [mD_eq hA]
  show (if 4 = 4 ∧ ev.1 ≤ A ∧ x.all (asg (mem ev (wD w A (oAr e))) 4) = true ∧ ¬ (nI k < 0 ∨ 10 ≤ (nI k).toNatClampNeg) then some (va_up (mem ev (wD w A (oAr e))).1 A (some (.inl (4, 10, .inr (.inr (.inr (.inr (va_up e (nI k).toNatClampNeg x))))))), (mem ev (wD w A (oAr e))).2) else none) = _
  rw [if_pos ⟨rfl, by omega, hx, nI_in hk (by decide)⟩, nI_clamp (by omega), mem_upd hA, wD_wD]
  rfl
theorem s_len (hA : ev.1 + 984 ≤ A) : alen (mem ev (wD w A (oAr e))) A = some (10 : Int32) := by
  unfold alen
  rw [mD_eq hA]
  rfl
theorem s_cp (h : Lo ev w A ad b) (he : En e ad q) (hq : ∀ i : Nat, i < 6 → q i < 6) {n : Nat} (hn : l + n < 6) : cpyA ev (mem ev (wD w A (oAr e))) A (nI l) A (nI (l + 1)) (nI n) = some (mem ev (wD w A (oAr (va_cpy e e l (l + 1) n)))) := by
  unfold cpyA
  rw [mD_eq h.1]
  have c1 : ¬ nI l < 0 := nI_pos (by omega)
  have c2 : ¬ nI (l + 1) < 0 := nI_pos (by omega)
  have c3 : ¬ nI n < 0 := nI_pos (by omega)
  show (if _ then _ else _) = _
  rw [nI_clamp (n := l) (by omega), nI_clamp (n := l + 1) (by omega), nI_clamp (n := n) (by omega)]
  have hall : ((List.range n).all fun i => Option.all (asg (mem ev (wD w A (oAr e))) 4) (e (l + i))) = true := by
    rw [List.all_eq_true]
    intro i hi
    have hil := List.mem_range.mp hi
    rw [he (l + i) (by omega)]
    exact lo_asg h (hq _ (by omega))
  have hs : l + n ≤ 10 := by omega
  have hd : l + 1 + n ≤ 10 := by omega
  have hA := h.1
  rw [if_pos ⟨⟨rfl, rfl, by omega⟩, by simp only [c1, c2, c3, hs, hd]; decide, hall⟩, mem_upd h.1, wD_wD]
  rfl
theorem c_cmp (h : Lo ev w A ad b) (hi : i < 6) (hj : j < 6) : f_J31_compareTo fu ev (mem ev (wD w A (oAr e))) (ad i) (some (ad j)) = some (if b j ≤ b i then (if b i = b j then (0 : Int32) else 1) else -1, mem ev (wD w A (oAr e))) := by
  unfold f_J31_compareTo b_J31_compareTo_0
  rw [lo_ckL h hj, Option.bind_some, lo_is h hi, Option.bind_some]
  unfold f_J31_compareTo_2 b_J31_compareTo_2_0
  rw [lo_g h hi, Option.bind_some, Option.bind_some, lo_g h hj, Option.bind_some]
  unfold f_J31_compare b_J31_compare_0 b_J31_compare_10 b_J31_compare_6 b_J31_compare_16 b_J31_compare_20 b_J31_compare_21
  by_cases c : b j ≤ b i
  · rw [if_pos c, if_pos c]
    by_cases c2 : b i = b j
    · rw [if_pos c2, if_pos c2]
      rfl
    · rw [if_neg c2, if_neg c2]
      rfl
  · rw [if_neg c, if_neg c]
    rfl
theorem c_nn : ((0 : Int32) ≤ (if b j ≤ b i then (if b i = b j then (0 : Int32) else 1) else -1)) ↔ b j ≤ b i := by
  by_cases c : b j ≤ b i
  · rw [if_pos c]
    refine ⟨fun _ => c, fun _ => ?_⟩
    split <;> decide
  · rw [if_neg c]
    exact ⟨fun z => absurd z (by decide), fun z => absurd z c⟩
theorem c_ng : ((if b j ≤ b i then (if b i = b j then (0 : Int32) else 1) else -1) < (0 : Int32)) ↔ ¬ b j ≤ b i := by
  by_cases c : b j ≤ b i
  · rw [if_pos c]
    refine ⟨fun z => absurd z ?_, fun z => absurd c z⟩
    split <;> decide
  · rw [if_neg c]
    exact ⟨fun _ => c, fun _ => by decide⟩
theorem s_le {i j : Nat} (hi : i < 100) (hj : j < 100) : nI i ≤ nI j ↔ i ≤ j := by
  rw [Int32.le_iff_toInt_le, nI_toInt (by omega), nI_toInt (by omega)]
  omega
theorem s_p1 {i : Nat} (h : 0 < i) : nI i - (1 : Int32) = nI (i - 1) := by
  obtain ⟨k, rfl⟩ : ∃ k, i = k + 1 := ⟨i - 1, by omega⟩
  have e : nI (k + 1) = nI k + 1 := (nI_1 k).symm
  rw [e]
  exact Int32.add_sub_cancel _ _
theorem run_up (hL : Lo ev w A ad b) (hq : ∀ i : Nat, i < 6 → q i < 6) (he : En e ad q) : ∀ d g r : Nat, r + d = 6 → d < g → 1 ≤ r → SOq b q r → ∃ r' : Nat, r ≤ r' ∧ r' ≤ 6 ∧ SOq b q r' ∧ L_J42_countRunAndMakeAscending_89 fu ev g (mem ev (wD w A (oAr e))) A 0 6 (nI r) = some (nI r', mem ev (wD w A (oAr e))) := by
  intro d
  induction d with
  | zero =>
    intro g r hr hg h1 hs
    obtain ⟨g, rfl⟩ : ∃ g', g = g' + 1 := ⟨g - 1, by omega⟩
    obtain rfl : r = 6 := by omega
    refine ⟨6, by decide, by decide, hs, ?_⟩
    show b_J42_countRunAndMakeAscending_89 _ fu ev _ _ _ _ _ = _
    unfold b_J42_countRunAndMakeAscending_89 b_J42_countRunAndMakeAscending_119
    rw [if_pos (by decide)]
    rfl
  | succ d ih =>
    intro g r hr hg h1 hs
    obtain ⟨g, rfl⟩ : ∃ g', g = g' + 1 := ⟨g - 1, by omega⟩
    have n6 : ¬ (6 : Int32) ≤ nI r := fun z => absurd ((s_le (i := 6) (by decide) (by omega)).mp z) (by omega)
    by_cases c : b (q (r - 1)) ≤ b (q r)
    · obtain ⟨r', a1, a2, a3, a4⟩ := ih g (r + 1) (by omega) (by omega) (by omega) (by
        intro i j hij hj
        by_cases ej : j = r
        · subst ej
          by_cases ei : i = j
          · subst ei; exact Int64.le_refl _
          · exact Int64.le_trans (hs i (j - 1) (by omega) (by omega)) c
        · exact hs i j hij (by omega))
      refine ⟨r', by omega, a2, a3, ?_⟩
      rw [← a4]
      show b_J42_countRunAndMakeAscending_89 _ fu ev _ _ _ _ _ = _
      unfold b_J42_countRunAndMakeAscending_89 b_J42_countRunAndMakeAscending_94 b_J42_countRunAndMakeAscending_113
      rw [if_neg n6, s_ld hL.1 (by omega), Option.bind_some, he r (by omega), lo_ck hL (hq r (by omega)), Option.bind_some, s_p1 (by omega), s_ld hL.1 (by omega), Option.bind_some, Option.bind_some, lo_is hL (hq r (by omega)), Option.bind_some, he (r - 1) (by omega), c_cmp hL (hq r (by omega)) (hq (r - 1) (by omega))]
      show (if _ then _ else _) = _
      rw [if_neg (fun z => (c_ng.mp z) c), nI_1]
    · refine ⟨r, Nat.le_refl _, by omega, hs, ?_⟩
      show b_J42_countRunAndMakeAscending_89 _ fu ev _ _ _ _ _ = _
      unfold b_J42_countRunAndMakeAscending_89 b_J42_countRunAndMakeAscending_94 b_J42_countRunAndMakeAscending_119
      rw [if_neg n6, s_ld hL.1 (by omega), Option.bind_some, he r (by omega), lo_ck hL (hq r (by omega)), Option.bind_some, s_p1 (by omega), s_ld hL.1 (by omega), Option.bind_some, Option.bind_some, lo_is hL (hq r (by omega)), Option.bind_some, he (r - 1) (by omega), c_cmp hL (hq r (by omega)) (hq (r - 1) (by omega))]
      show (if _ then _ else _) = _
      rw [if_pos (c_ng.mpr c)]
      exact congrArg (fun z => some (z, mem ev (wD w A (oAr e)))) (Int32.sub_zero _)
theorem run_dn (hL : Lo ev w A ad b) (hq : ∀ i : Nat, i < 6 → q i < 6) (he : En e ad q) : ∀ d g r : Nat, r + d = 6 → d < g → 1 ≤ r → DSq b q r → ∃ r' : Nat, r ≤ r' ∧ r' ≤ 6 ∧ DSq b q r' ∧ L_J42_countRunAndMakeAscending_50 fu ev g (mem ev (wD w A (oAr e))) A 0 6 (nI r) = b_J42_countRunAndMakeAscending_80 fu ev (mem ev (wD w A (oAr e))) A 0 (nI r') := by
  intro d
  induction d with
  | zero =>
    intro g r hr hg h1 hs
    obtain ⟨g, rfl⟩ : ∃ g', g = g' + 1 := ⟨g - 1, by omega⟩
    obtain rfl : r = 6 := by omega
    refine ⟨6, by decide, by decide, hs, ?_⟩
    show b_J42_countRunAndMakeAscending_50 _ fu ev _ _ _ _ _ = _
    unfold b_J42_countRunAndMakeAscending_50
    rw [if_pos (by decide)]
  | succ d ih =>
    intro g r hr hg h1 hs
    obtain ⟨g, rfl⟩ : ∃ g', g = g' + 1 := ⟨g - 1, by omega⟩
    have n6 : ¬ (6 : Int32) ≤ nI r := fun z => absurd ((s_le (i := 6) (by decide) (by omega)).mp z) (by omega)
    by_cases c : b (q (r - 1)) ≤ b (q r)
    · refine ⟨r, Nat.le_refl _, by omega, hs, ?_⟩
      show b_J42_countRunAndMakeAscending_50 _ fu ev _ _ _ _ _ = _
      unfold b_J42_countRunAndMakeAscending_50 b_J42_countRunAndMakeAscending_55
      rw [if_neg n6, s_ld hL.1 (by omega), Option.bind_some, he r (by omega), lo_ck hL (hq r (by omega)), Option.bind_some, s_p1 (by omega), s_ld hL.1 (by omega), Option.bind_some, Option.bind_some, lo_is hL (hq r (by omega)), Option.bind_some, he (r - 1) (by omega), c_cmp hL (hq r (by omega)) (hq (r - 1) (by omega))]
      show (if _ then _ else _) = _
      rw [if_pos (c_nn.mpr c)]
    · obtain ⟨r', a1, a2, a3, a4⟩ := ih g (r + 1) (by omega) (by omega) (by omega) (by
        intro i j hij hj
        by_cases ej : j = r
        · subst ej
          by_cases ei : i = j
          · subst ei; exact Int64.le_refl _
          · exact Int64.le_trans (Int64.le_of_lt (Int64.not_le.mp c)) (hs i (j - 1) (by omega) (by omega))
        · exact hs i j hij (by omega))
      refine ⟨r', by omega, a2, a3, ?_⟩
      rw [← a4]
      show b_J42_countRunAndMakeAscending_50 _ fu ev _ _ _ _ _ = _
      unfold b_J42_countRunAndMakeAscending_50 b_J42_countRunAndMakeAscending_55 b_J42_countRunAndMakeAscending_74
      rw [if_neg n6, s_ld hL.1 (by omega), Option.bind_some, he r (by omega), lo_ck hL (hq r (by omega)), Option.bind_some, s_p1 (by omega), s_ld hL.1 (by omega), Option.bind_some, Option.bind_some, lo_is hL (hq r (by omega)), Option.bind_some, he (r - 1) (by omega), c_cmp hL (hq r (by omega)) (hq (r - 1) (by omega))]
      show (if _ then _ else _) = _
      rw [if_neg (fun z => c (c_nn.mp z)), nI_1]
end XSO
