/-! SIX NUMBERS IN ORDER: turning a run, binary insertion, the whole sort -/
section XSP3
variable {ev : Ev} {w : Wd} {fu A i j k l s : Nat} {e : Nat → Option Nat} {ad q : Nat → Nat} {b : Nat → Int64} {x : Option Nat}
theorem s_m1 {i : Nat} (h : 0 < i) : nI i + (-1 : Int32) = nI (i - 1) := by
  obtain ⟨k, rfl⟩ : ∃ k, i = k + 1 := ⟨i - 1, by omega⟩
  have e : nI (k + 1) = nI k + 1 := (nI_1 k).symm
  rw [e, Int32.add_assoc]
  exact Int32.add_zero _
theorem vup_at {f : Nat → Option Nat} {k : Nat} : va_up f k x k = x := by simp [va_up]
theorem vup_ne {f : Nat → Option Nat} {k j : Nat} (h : j ≠ k) : va_up f k x j = f j := by simp [va_up, h]
theorem rev_l (hL : Lo ev w A ad b) : ∀ d lo hi g : Nat, ∀ (e : Nat → Option Nat) (q : Nat → Nat), lo ≤ 6 → hi < 6 → hi < lo + 2 * d + 1 → d < g → (∀ i : Nat, i < 6 → q i < 6) → En e ad q → ∃ e' : Nat → Option Nat, En e' ad (revQ q lo hi) ∧ L_J42_reverseRange_3 fu ev g (mem ev (wD w A (oAr e))) (some A) (nI lo) (nI hi) = some ((), mem ev (wD w A (oAr e'))) := by
  intro d
  induction d with
  | zero =>
    intro lo hi g e q hlo h6 hd hg hq he
    obtain ⟨g, rfl⟩ : ∃ g', g = g' + 1 := ⟨g - 1, by omega⟩
    refine ⟨e, ?_, ?_⟩
    · intro j hj
      rw [he j hj]
      unfold revQ
      by_cases c : lo ≤ j ∧ j ≤ hi
      · rw [if_pos c, show lo + hi - j = j by omega]
      · rw [if_neg c]
    · show b_J42_reverseRange_3 _ fu ev _ _ _ _ = _
      unfold b_J42_reverseRange_3 b_J42_reverseRange_31
      rw [if_pos ((s_le (by omega) (by omega)).mpr (by omega))]
  | succ d ih =>
    intro lo hi g e q hlo h6 hd hg hq he
    obtain ⟨g, rfl⟩ : ∃ g', g = g' + 1 := ⟨g - 1, by omega⟩
    by_cases c : hi ≤ lo
    · refine ⟨e, ?_, ?_⟩
      · intro j hj
        rw [he j hj]
        unfold revQ
        by_cases c : lo ≤ j ∧ j ≤ hi
        · rw [if_pos c, show lo + hi - j = j by omega]
        · rw [if_neg c]
      · show b_J42_reverseRange_3 _ fu ev _ _ _ _ = _
        unfold b_J42_reverseRange_3 b_J42_reverseRange_31
        rw [if_pos ((s_le (by omega) (by omega)).mpr (by omega))]
    · have hq2 : ∀ i : Nat, i < 6 → (fun j => if j = lo then q hi else if j = hi then q lo else q j) i < 6 := by
        intro i hi'
        show (if i = lo then q hi else if i = hi then q lo else q i) < 6
        split
        · exact hq _ h6
        · split
          · exact hq _ (by omega)
          · exact hq _ hi'
      have he2 : En (va_up (va_up e lo (e hi)) hi (e lo)) ad (fun j => if j = lo then q hi else if j = hi then q lo else q j) := by
        intro j hj
        show _ = some (ad (if j = lo then q hi else if j = hi then q lo else q j))
        by_cases c1 : j = hi
        · rw [c1, vup_at, he lo (by omega), if_neg (by omega), if_pos rfl]
        · rw [vup_ne c1]
          by_cases c2 : j = lo
          · rw [c2, vup_at, he hi h6, if_pos rfl]
          · rw [vup_ne c2, he j hj, if_neg c2, if_neg c1]
      obtain ⟨e', a1, a2⟩ := ih (lo + 1) (hi - 1) g _ _ (by omega) (by omega) (by omega) (by omega) hq2 he2
      refine ⟨e', ?_, ?_⟩
      · intro j hj
        rw [a1 j hj]
        refine congrArg (fun z => some (ad z)) ?_
        show (if lo + 1 ≤ j ∧ j ≤ hi - 1 then (if lo + 1 + (hi - 1) - j = lo then q hi else if lo + 1 + (hi - 1) - j = hi then q lo else q (lo + 1 + (hi - 1) - j)) else (if j = lo then q hi else if j = hi then q lo else q j)) = if lo ≤ j ∧ j ≤ hi then q (lo + hi - j) else q j
        by_cases c1 : lo + 1 ≤ j ∧ j ≤ hi - 1
        · rw [if_pos c1, if_neg (by omega), if_neg (by omega), if_pos (by omega), show lo + 1 + (hi - 1) - j = lo + hi - j by omega]
        · rw [if_neg c1]
          by_cases c2 : j = lo
          · rw [if_pos c2, if_pos (by omega), show lo + hi - j = hi by omega]
          · rw [if_neg c2]
            by_cases c3 : j = hi
            · rw [if_pos c3, if_pos (by omega), show lo + hi - j = lo by omega]
            · rw [if_neg c3, if_neg (by omega)]
      · rw [← a2]
        show b_J42_reverseRange_3 _ fu ev _ _ _ _ = _
        unfold b_J42_reverseRange_3 b_J42_reverseRange_8
        rw [if_neg (fun z => c ((s_le (by omega) (by omega)).mp z)), Option.bind_some, s_ld hL.1 (by omega), Option.bind_some, s_ld hL.1 (by omega), Option.bind_some, s_st hL.1 (by omega) (by rw [he hi h6]; exact lo_asg hL (hq _ h6)), Option.bind_some, s_st hL.1 (by omega) (by rw [he lo (by omega)]; exact lo_asg hL (hq _ (by omega))), Option.bind_some, nI_1, s_m1 (by omega)]
theorem SO_rev {r : Nat} (h : DSq b q r) (hr : 0 < r) : SOq b (revQ q 0 (r - 1)) r := by
  intro i j hij hj
  show b (if 0 ≤ i ∧ i ≤ r - 1 then q (0 + (r - 1) - i) else q i) ≤ b (if 0 ≤ j ∧ j ≤ r - 1 then q (0 + (r - 1) - j) else q j)
  rw [if_pos (by omega), if_pos (by omega)]
  exact h _ _ (by omega) (by omega)
/-- the first run -/
theorem X_run (hE : EvOk ev) (hf : 10 ≤ fu) (hL : Lo ev w A ad b) (hP : PQ q) (he : En e ad q) : ∃ (r : Nat) (e' : Nat → Option Nat) (q' : Nat → Nat), 2 ≤ r ∧ r ≤ 6 ∧ PQ q' ∧ En e' ad q' ∧ SOq b q' r ∧ f_J42_countRunAndMakeAscending fu ev (mem ev (wD w A (oAr e))) (some A) 0 6 = some (nI r, mem ev (wD w A (oAr e'))) := by
  have g9 : gsI ev 9 = some 1 := by unfold gsI; rw [hE.1.2.2.2.2.2.2.2.2.2.1]
  have hq := hP.1
  have start : f_J42_countRunAndMakeAscending fu ev (mem ev (wD w A (oAr e))) (some A) 0 6 = if b (q 0) ≤ b (q 1) then L_J42_countRunAndMakeAscending_89 fu ev fu (mem ev (wD w A (oAr e))) A 0 6 (nI 2) else L_J42_countRunAndMakeAscending_50 fu ev fu (mem ev (wD w A (oAr e))) A 0 6 (nI 2) := by
    have ld0 : aldA 4 (mem ev (wD w A (oAr e))) A (0 : Int32) = some (e 0) := s_ld (k := 0) hL.1 (by decide)
    unfold f_J42_countRunAndMakeAscending b_J42_countRunAndMakeAscending_0
    rw [g9, Option.bind_some, if_neg (by decide)]
    unfold b_J42_countRunAndMakeAscending_19
    rw [if_neg (by decide)]
    unfold b_J42_countRunAndMakeAscending_30
    rw [Option.bind_some, show (0 : Int32) + 1 = nI 1 from by decide, s_ld hL.1 (by decide), Option.bind_some, he 1 (by decide), lo_ck hL (hq 1 (by decide)), Option.bind_some, ld0, Option.bind_some, Option.bind_some, lo_is hL (hq 1 (by decide)), Option.bind_some, he 0 (by decide), c_cmp hL (hq 1 (by decide)) (hq 0 (by decide)), b2s]
    by_cases c : b (q 0) ≤ b (q 1)
    · rw [if_pos (c_nn.mpr c), if_pos c]
      rfl
    · rw [if_neg (fun z => c (c_nn.mp z)), if_neg c]
      rfl
  rw [start]
  by_cases c : b (q 0) ≤ b (q 1)
  · rw [if_pos c]
    obtain ⟨r', a1, a2, a3, a4⟩ := run_up (fu := fu) hL hq he 4 fu 2 (by decide) (by omega) (by decide) (by
      intro i j hij hj
      have z : (i = 0 ∧ j = 0) ∨ (i = 0 ∧ j = 1) ∨ (i = 1 ∧ j = 1) := by omega
      rcases z with ⟨rfl, rfl⟩ | ⟨rfl, rfl⟩ | ⟨rfl, rfl⟩
      · exact Int64.le_refl _
      · exact c
      · exact Int64.le_refl _)
    exact ⟨r', e, q, a1, a2, hP, he, a3, a4⟩
  · rw [if_neg c]
    obtain ⟨r', a1, a2, a3, a4⟩ := run_dn (fu := fu) hL hq he 4 fu 2 (by decide) (by omega) (by decide) (by
      intro i j hij hj
      have z : (i = 0 ∧ j = 0) ∨ (i = 0 ∧ j = 1) ∨ (i = 1 ∧ j = 1) := by omega
      rcases z with ⟨rfl, rfl⟩ | ⟨rfl, rfl⟩ | ⟨rfl, rfl⟩
      · exact Int64.le_refl _
      · exact Int64.le_of_lt (Int64.not_le.mp c)
      · exact Int64.le_refl _)
    obtain ⟨e', b1, b2⟩ := rev_l (fu := fu) hL 3 0 (r' - 1) fu e q (by decide) (by omega) (by omega) (by omega) hq he
    refine ⟨r', e', revQ q 0 (r' - 1), a1, a2, PQ_rev hP _ (by omega), b1, SO_rev a3 (by omega), ?_⟩
    rw [a4]
    unfold b_J42_countRunAndMakeAscending_80 f_J42_reverseRange b_J42_reverseRange_0
    rw [s_m1 (by omega), show (0 : Int32) = nI 0 from rfl, b2]
    show some (nI r' - nI 0, _) = _
    exact congrArg (fun z => some (z, mem ev (wD w A (oAr e')))) (Int32.sub_zero _)
theorem hlf : ∀ l : Nat, l < 8 → ∀ r : Nat, r < 8 → (((nI l + nI r).toUInt32 >>> ((1 : Int32).toUInt32 &&& Int32.toUInt32 31)).toInt32) = nI ((l + r) / 2) := by decide
theorem bs_l (hL : Lo ev w A ad b) (hq : ∀ i : Nat, i < 6 → q i < 6) (he : En e ad q) (hs : s < 6) (hS : SOq b q s) {R : Mm → Option Nat → Int32 → Int32 → Int32 → Option (Unit × Mm)} : ∀ d l r g : Nat, r ≤ l + d → l ≤ r → r ≤ s → d < g → (∀ i : Nat, i < l → b (q i) ≤ b (q s)) → (∀ i : Nat, r ≤ i → i < s → b (q s) < b (q i)) → ∃ m : Nat, m ≤ s ∧ (∀ i : Nat, i < m → b (q i) ≤ b (q s)) ∧ (∀ i : Nat, m ≤ i → i < s → b (q s) < b (q i)) ∧ L_J42_binarySort_72 R fu ev g (mem ev (wD w A (oAr e))) A 0 6 (nI s) (some (ad (q s))) (nI l) (nI r) = b_J42_binarySort_118 R fu ev (mem ev (wD w A (oAr e))) A 0 6 (nI s) (some (ad (q s))) (nI m) (nI m) := by
  intro d
  induction d with
  | zero =>
    intro l r g hd hlr hrs hg hA hB
    obtain ⟨g, rfl⟩ : ∃ g', g = g' + 1 := ⟨g - 1, by omega⟩
    obtain rfl : r = l := by omega
    refine ⟨r, hrs, hA, hB, ?_⟩
    show b_J42_binarySort_72 _ _ fu ev _ _ _ _ _ _ _ _ = _
    unfold b_J42_binarySort_72
    rw [if_pos (Int32.le_refl _)]
  | succ d ih =>
    intro l r g hd hlr hrs hg hA hB
    obtain ⟨g, rfl⟩ : ∃ g', g = g' + 1 := ⟨g - 1, by omega⟩
    by_cases hc : r ≤ l
    · obtain rfl : r = l := by omega
      refine ⟨r, hrs, hA, hB, ?_⟩
      show b_J42_binarySort_72 _ _ fu ev _ _ _ _ _ _ _ _ = _
      unfold b_J42_binarySort_72
      rw [if_pos (Int32.le_refl _)]
    · have hm := hlf l (by omega) r (by omega)
      have hm6 : (l + r) / 2 < 6 := by omega
      by_cases c : b (q ((l + r) / 2)) ≤ b (q s)
      · obtain ⟨m, a1, a2, a3, a4⟩ := ih ((l + r) / 2 + 1) r g (by omega) (by omega) hrs (by omega) (fun i hi => Int64.le_trans (hS i ((l + r) / 2) (by omega) (by omega)) c) hB
        refine ⟨m, a1, a2, a3, ?_⟩
        rw [← a4]
        show b_J42_binarySort_72 _ _ fu ev _ _ _ _ _ _ _ _ = _
        unfold b_J42_binarySort_72 b_J42_binarySort_79 b_J42_binarySort_109 b_J42_binarySort_115
        rw [if_neg (fun z => hc ((s_le (by omega) (by omega)).mp z)), hm, s_ld hL.1 (by omega), Option.bind_some, Option.bind_some, lo_is hL (hq s hs), Option.bind_some, he _ hm6, c_cmp hL (hq s hs) (hq _ hm6)]
        show (if _ then _ else _) = _
        rw [if_pos (c_nn.mpr c), nI_1]
      · obtain ⟨m, a1, a2, a3, a4⟩ := ih l ((l + r) / 2) g (by omega) (by omega) (by omega) (by omega) hA (fun i h1 h2 => Int64.lt_of_lt_of_le (Int64.not_le.mp c) (hS _ i h1 h2))
        refine ⟨m, a1, a2, a3, ?_⟩
        rw [← a4]
        show b_J42_binarySort_72 _ _ fu ev _ _ _ _ _ _ _ _ = _
        unfold b_J42_binarySort_72 b_J42_binarySort_79 b_J42_binarySort_102 b_J42_binarySort_115
        rw [if_neg (fun z => hc ((s_le (by omega) (by omega)).mp z)), hm, s_ld hL.1 (by omega), Option.bind_some, Option.bind_some, lo_is hL (hq s hs), Option.bind_some, he _ hm6, c_cmp hL (hq s hs) (hq _ hm6)]
        show (if _ then _ else _) = _
        rw [if_neg (fun z => c (c_nn.mp z))]
theorem s_sub {a b : Nat} (h : b ≤ a) : nI a - nI b = nI (a - b) := by
  obtain ⟨k, rfl⟩ : ∃ k, a = k + b := ⟨a - b, by omega⟩
  rw [← nI_add, Nat.add_sub_cancel]
  exact Int32.add_sub_cancel _ _
/-- the shift behind the search -/
theorem shf_l (hE : EvOk ev) (hL : Lo ev w A ad b) (hq : ∀ i : Nat, i < 6 → q i < 6) (he : En e ad q) (hs : s < 6) {m : Nat} (hm : m ≤ s) {R : Mm → Option Nat → Int32 → Int32 → Int32 → Option (Unit × Mm)} : ∃ e' : Nat → Option Nat, En e' ad (insQ q m s) ∧ b_J42_binarySort_118 R fu ev (mem ev (wD w A (oAr e))) A 0 6 (nI s) (some (ad (q s))) (nI m) (nI m) = R (mem ev (wD w A (oAr e'))) (some A) 0 6 (nI (s + 1)) := by
  have g9 : gsI ev 9 = some 1 := by unfold gsI; rw [hE.1.2.2.2.2.2.2.2.2.2.1]
  unfold b_J42_binarySort_118
  rw [g9, Option.bind_some, if_neg (by decide)]
  unfold b_J42_binarySort_139
  rw [s_sub hm]
  by_cases c1 : s - m = 1
  · refine ⟨va_up (va_up e (m + 1) (e m)) m (some (ad (q s))), ?_, ?_⟩
    · intro j hj
      unfold insQ
      by_cases z : j = m
      · rw [z, vup_at, if_pos rfl]
      · rw [vup_ne z, if_neg z]
        by_cases z2 : j = m + 1
        · rw [z2, vup_at, if_pos (by omega), he m (by omega)]
          rfl
        · rw [vup_ne z2, if_neg (by omega), he j hj]
    · rw [if_pos (by rw [c1]; rfl)]
      unfold b_J42_binarySort_184 b_J42_binarySort_210
      rw [s_ld hL.1 (by omega), Option.bind_some, nI_1, s_st hL.1 (by omega) (by rw [he m (by omega)]; exact lo_asg hL (hq _ (by omega))), Option.bind_some, s_st hL.1 (by omega) (lo_asg hL (hq _ hs)), Option.bind_some, nI_1]
  · by_cases c2 : s - m = 2
    · refine ⟨va_up (va_up (va_up e (m + 2) (e (m + 1))) (m + 1) (e m)) m (some (ad (q s))), ?_, ?_⟩
      · intro j hj
        unfold insQ
        by_cases z : j = m
        · rw [z, vup_at, if_pos rfl]
        · rw [vup_ne z, if_neg z]
          by_cases z2 : j = m + 1
          · rw [z2, vup_at, if_pos (by omega), he m (by omega)]
            rfl
          · rw [vup_ne z2]
            by_cases z3 : j = m + 2
            · rw [z3, vup_at, if_pos (by omega), he (m + 1) (by omega)]
              rfl
            · rw [vup_ne z3, if_neg (by omega), he j hj]
      · rw [if_neg (by rw [c2]; decide), if_pos (by rw [c2]; rfl)]
        unfold b_J42_binarySort_172 b_J42_binarySort_184 b_J42_binarySort_210
        have e2 : nI m + (2 : Int32) = nI (m + 2) := nI_add m 2
        have v1 : va_up e (m + 2) (e (m + 1)) m = e m := vup_ne (by omega)
        rw [nI_1, s_ld hL.1 (by omega), Option.bind_some, e2, s_st hL.1 (by omega) (by rw [he (m + 1) (by omega)]; exact lo_asg hL (hq _ (by omega))), Option.bind_some, s_ld hL.1 (by omega), Option.bind_some, v1, s_st hL.1 (by omega) (by rw [he m (by omega)]; exact lo_asg hL (hq _ (by omega))), Option.bind_some, s_st hL.1 (by omega) (lo_asg hL (hq _ hs)), Option.bind_some, nI_1]
    · have n1 : ¬ nI (s - m) = (1 : Int32) := nI_ne (b := 1) (by omega) (by decide) c1
      have n2 : ¬ nI (s - m) = (2 : Int32) := nI_ne (b := 2) (by omega) (by decide) c2
      refine ⟨va_up (va_cpy e e m (m + 1) (s - m)) m (some (ad (q s))), ?_, ?_⟩
      · intro j hj
        unfold insQ
        by_cases z : j = m
        · rw [z, vup_at, if_pos rfl]
        · rw [vup_ne z, if_neg z]
          unfold va_cpy
          by_cases z2 : m < j ∧ j ≤ s
          · rw [if_pos (by omega), if_pos z2, he _ (by omega), show m + (j - (m + 1)) = j - 1 by omega]
          · rw [if_neg (by omega), if_neg z2, he j hj]
      · rw [if_neg n1, if_neg n2]
        unfold b_J42_binarySort_197 b_J42_binarySort_210
        rw [nI_1, s_cp hL he hq (by omega), Option.bind_some, s_st hL.1 (by omega) (lo_asg hL (hq _ hs)), Option.bind_some, nI_1]
theorem SO_ins {m : Nat} (hS : SOq b q s) (hm : m ≤ s) (h1 : ∀ i : Nat, i < m → b (q i) ≤ b (q s)) (h2 : ∀ i : Nat, m ≤ i → i < s → b (q s) < b (q i)) : SOq b (insQ q m s) (s + 1) := by
  intro i j hij hj
  unfold insQ
  by_cases ci : i = m
  · rw [if_pos ci]
    by_cases cj : j = m
    · rw [if_pos cj]; exact Int64.le_refl _
    · rw [if_neg cj, if_pos (by omega)]
      exact Int64.le_of_lt (h2 _ (by omega) (by omega))
  · rw [if_neg ci]
    by_cases cj : j = m
    · rw [if_pos cj, if_neg (by omega)]
      exact h1 i (by omega)
    · rw [if_neg cj]
      by_cases di : m < i ∧ i ≤ s
      · rw [if_pos di, if_pos (by omega)]
        exact hS _ _ (by omega) (by omega)
      · rw [if_neg di]
        by_cases dj : m < j ∧ j ≤ s
        · rw [if_pos dj]
          exact hS _ _ (by omega) (by omega)
        · rw [if_neg dj]
          exact hS _ _ hij (by omega)
theorem insq_l (hE : EvOk ev) (hf : 10 ≤ fu) (hL : Lo ev w A ad b) : ∀ d s g : Nat, ∀ (e : Nat → Option Nat) (q : Nat → Nat), s + d = 6 → d < g → PQ q → En e ad q → SOq b q s → ∃ (e' : Nat → Option Nat) (q' : Nat → Nat), PQ q' ∧ En e' ad q' ∧ SOq b q' 6 ∧ L_J42_binarySort_32 fu ev g (mem ev (wD w A (oAr e))) (some A) 0 6 (nI s) = some ((), mem ev (wD w A (oAr e'))) := by
  intro d
  induction d with
  | zero =>
    intro s g e q hs hg hP he hS
    obtain ⟨g, rfl⟩ : ∃ g', g = g' + 1 := ⟨g - 1, by omega⟩
    obtain rfl : s = 6 := by omega
    refine ⟨e, q, hP, he, hS, ?_⟩
    show b_J42_binarySort_32 _ fu ev _ _ _ _ _ = _
    unfold b_J42_binarySort_32 b_J42_binarySort_222
    rw [if_pos (by decide)]
  | succ d ih =>
    intro s g e q hs hg hP he hS
    obtain ⟨g, rfl⟩ : ∃ g', g = g' + 1 := ⟨g - 1, by omega⟩
    have g9 : gsI ev 9 = some 1 := by unfold gsI; rw [hE.1.2.2.2.2.2.2.2.2.2.1]
    have n6 : ¬ (6 : Int32) ≤ nI s := fun z => absurd ((s_le (i := 6) (by decide) (by omega)).mp z) (by omega)
    obtain ⟨m, a1, a2, a3, a4⟩ := bs_l (fu := fu) (R := L_J42_binarySort_32 fu ev g) hL hP.1 he (by omega) hS 6 0 s fu (by omega) (by omega) (Nat.le_refl _) (by omega) (fun i hi => absurd hi (by omega)) (fun i h1 h2 => absurd h2 (by omega))
    obtain ⟨e', b1, b2⟩ := shf_l (fu := fu) (R := L_J42_binarySort_32 fu ev g) hE hL hP.1 he (by omega) a1
    obtain ⟨e2, q2, c1, c2, c3, c4⟩ := ih (s + 1) g e' (insQ q m s) (by omega) (by omega) (PQ_ins hP m s a1 (by omega)) b1 (SO_ins hS a1 a2 a3)
    refine ⟨e2, q2, c1, c2, c3, ?_⟩
    rw [← c4, ← b2, ← a4]
    show b_J42_binarySort_32 _ fu ev _ _ _ _ _ = _
    unfold b_J42_binarySort_32 b_J42_binarySort_37
    rw [if_neg n6, Option.bind_some, s_ld hL.1 (by omega), Option.bind_some, he s (by omega), lo_ck hL (hP.1 s (by omega)), Option.bind_some, g9, Option.bind_some, if_neg (by decide)]
    rfl
/-- the whole sort -/
theorem X_sort (hE : EvOk ev) (hf : 10 ≤ fu) (hL : Lo ev w A ad b) (hP : PQ q) (he : En e ad q) : ∃ (e' : Nat → Option Nat) (q' : Nat → Nat), PQ q' ∧ En e' ad q' ∧ SOq b q' 6 ∧ f_J20_sort fu ev (mem ev (wD w A (oAr e))) (some A) 0 6 none = some ((), mem ev (wD w A (oAr e'))) := by
  have g9 : gsI ev 9 = some 1 := by unfold gsI; rw [hE.1.2.2.2.2.2.2.2.2.2.1]
  have g7 : gsI ev 7 = some 0 := by unfold gsI; rw [hE.1.2.2.2.2.2.2.2.1]
  obtain ⟨r, e1, q1, r2, r6, p1, en1, s1, x1⟩ := X_run (fu := fu) hE hf hL hP he
  obtain ⟨e', q', p2, en2, s2, x2⟩ := insq_l (fu := fu) hE hf hL (6 - r) r fu e1 q1 (by omega) (by omega) p1 en1 s1
  refine ⟨e', q', p2, en2, s2, ?_⟩
  have nr : ¬ nI r = (0 : Int32) := nI_ne (b := 0) (by omega) (by decide) (by omega)
  have bs : f_J42_binarySort fu ev (mem ev (wD w A (oAr e1))) (some A) 0 6 (nI r) = some ((), mem ev (wD w A (oAr e'))) := by
    unfold f_J42_binarySort b_J42_binarySort_0
    rw [g9, Option.bind_some, if_neg (by decide)]
    unfold b_J42_binarySort_24
    rw [if_neg nr]
    exact x2
  have srt : f_J42_sort fu ev (mem ev (wD w A (oAr e))) (some A) 0 6 none 0 0 = some ((), mem ev (wD w A (oAr e'))) := by
    unfold f_J42_sort b_J42_sort_0
    rw [g9, Option.bind_some, if_neg (by decide)]
    unfold b_J42_sort_33
    rw [if_pos (by decide)]
    unfold b_J42_sort_45
    rw [if_neg (by decide)]
    unfold b_J42_sort_52
    rw [x1, b2s, Int32.zero_add, bs]
    rfl
  have rc : f_J20_rangeCheck fu ev (mem ev (wD w A (oAr e))) 10 0 6 = some ((), mem ev (wD w A (oAr e))) := rfl
  unfold f_J20_sort b_J20_sort_0
  rw [if_pos rfl]
  unfold b_J20_sort_4 f_J20_sort_2 b_J20_sort_2_0
  rw [Option.bind_some, s_len hL.1, Option.bind_some, rc, b2s, g7, Option.bind_some, if_pos rfl]
  unfold b_J20_sort_2_22
  rw [srt]
  rfl
end XSP3
