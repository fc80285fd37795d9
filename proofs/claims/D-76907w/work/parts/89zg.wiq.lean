/-! LATTICES WITHIN: the operations within and holds -/
def lkF (x y : Nat → Int64) : Nat → Nat → Bool
  | 0, _ => true
  | d + 1, i => decide (x i = y i) && lkF x y d (i + 1)
def nwC (f : Nat → Nat → Int64) (k : Nat) : Nat → Nat → Bool
  | 0, _ => true
  | d + 1, i => !likeV (f i) (f k) && nwC f k d (i + 1)
def unC (f : Nat → Nat → Int64) : Nat → Nat → Int32 → Int32
  | 0, _, n => n
  | d + 1, k, n => unC f d (k + 1) (n + if nwC f k k 0 = true then 1 else 0)
def hoC (f : Nat → Nat → Int64) (g : Nat → Int64) : Nat → Nat → Int32 → Int32
  | 0, _, n => n
  | d + 1, k, n => hoC f g d (k + 1) (n + if likeV (f k) g = true then 1 else 0)
section XWQ
variable {ev : Ev} {w w0 w' : Wd} {fu k n i j L a b c N M T : Nat} {x y v : Nat → Int64} {f : Nat → Nat → Int64} {es : List (Nat × Nat × Nat × Nat × Nat × Nat)} {m u z : Int32} {Kp : Option Nat}
theorem lkF_eq : lkF x y 6 0 = likeV x y := by
  simp only [lkF, likeV, Bool.and_true]
theorem like_comm : likeV x y = likeV y x := by
  unfold likeV
  simp only [eq_comm (a := x _) (b := y _)]
theorem lkF_ext {x' y' : Nat → Int64} : ∀ d i : Nat, (∀ j : Nat, i ≤ j → j < i + d → x j = x' j) → (∀ j : Nat, i ≤ j → j < i + d → y j = y' j) → lkF x y d i = lkF x' y' d i := by
  intro d
  induction d with
  | zero => intro i _ _; rfl
  | succ d ih =>
    intro i h1 h2
    unfold lkF
    rw [h1 i (by omega) (by omega), h2 i (by omega) (by omega), ih (i + 1) (fun j a b => h1 j (by omega) (by omega)) (fun j a b => h2 j (by omega) (by omega))]
/-! the class -/
theorem cu_i {R4 : Mm → Nat → Int32 → Int32 → Option (Int32 × Mm)} (hf : 7 ≤ fu) (hk : k < 91) (hw : ∀ j : Nat, j ≤ k → cv w (27 + j) = f j) : ∀ (d g i : Nat), i + d = k → d + 1 < g → L_X0_unlike_17 R4 fu ev g (mem ev w) ev.1 m (nI k) 1 (nI i) = R4 (mem ev w) ev.1 (m + if nwC f k d i = true then 1 else 0) (nI (k + 1)) := by
  intro d
  induction d with
  | zero =>
    intro g i hi hg
    obtain ⟨g, rfl⟩ : ∃ g', g = g' + 1 := ⟨g - 1, by omega⟩
    obtain rfl : i = k := by omega
    show b_X0_unlike_17 _ _ fu ev _ _ _ _ _ _ = _
    unfold b_X0_unlike_17
    rw [if_pos (nI_le (Nat.le_refl _) (by omega))]
    simp only [b_X0_unlike_58, b_X0_unlike_63, b_X0_unlike_68, nwC, if_true, show ¬ (1 : Int32) = 0 by decide, if_false, nI_1]
  | succ d ih =>
    intro g i hi hg
    obtain ⟨g, rfl⟩ : ∃ g', g = g' + 2 := ⟨g - 2, by omega⟩
    have i1 := ih (g + 1) (i + 1) (by omega) (by omega)
    have li := X1_isLike (ev := ev) (w := w) (fu := fu) (c := 27 + i) (c2 := 27 + k) (by omega) (by omega) hf
    rw [hw i (by omega), hw k (by omega)] at li
    show b_X0_unlike_17 _ _ fu ev _ _ _ _ _ _ = _
    unfold b_X0_unlike_17
    rw [if_neg (nI_ge (by omega) (by omega))]
    rw [show nwC f k (d + 1) i = (!likeV (f i) (f k) && nwC f k d (i + 1)) from rfl]
    cases hq : likeV (f i) (f k) with
    | false =>
      rw [hq] at li
      simp only [Bool.false_eq_true, if_false] at li
      simp only [b_X0_unlike_23, b_X0_unlike_27, b_X0_unlike_46, b_X0_unlike_51, xf13, xsubs (show i < 91 by omega), xsubs hk, cis (show 27 + i < 118 by omega), li, show ¬ (1 : Int32) = 0 by decide, if_false, if_true, Option.bind_some, bd2, nI_1, i1, Bool.not_false, Bool.true_and]
    | true =>
      rw [hq] at li
      simp only [if_true] at li
      simp only [b_X0_unlike_23, b_X0_unlike_27, b_X0_unlike_50, b_X0_unlike_51, xf13, xsubs (show i < 91 by omega), xsubs hk, cis (show 27 + i < 118 by omega), li, show ¬ (1 : Int32) = 0 by decide, if_false, if_true, Option.bind_some, bd2, nI_1, Bool.not_true, Bool.false_and, Bool.false_eq_true]
      show b_X0_unlike_17 _ _ fu ev _ _ _ _ _ _ = _
      simp only [b_X0_unlike_17, b_X0_unlike_23, b_X0_unlike_58, b_X0_unlike_67, b_X0_unlike_68, if_true, nI_1]
      split <;> rfl
theorem cu_k (hf : 93 ≤ fu) (hL : L ≤ 91) (h14 : w.2.1 0 14 = nI L) (hw : ∀ j : Nat, j < L → cv w (27 + j) = f j) : ∀ (d g k : Nat) (m : Int32), k + d = L → d < g → L_X0_unlike_4 fu ev g (mem ev w) ev.1 m (nI k) = some (unC f d k m, mem ev w) := by
  intro d
  induction d with
  | zero =>
    intro g k m hk hg
    obtain ⟨g, rfl⟩ : ∃ g', g = g' + 1 := ⟨g - 1, by omega⟩
    show b_X0_unlike_4 _ fu ev _ _ _ _ = _
    unfold b_X0_unlike_4 b_X0_unlike_76
    rw [xi14, Option.bind_some, h14, if_pos (nI_le (by omega) (by omega))]
    rfl
  | succ d ih =>
    intro g k m hk hg
    obtain ⟨g, rfl⟩ : ∃ g', g = g' + 1 := ⟨g - 1, by omega⟩
    show b_X0_unlike_4 _ fu ev _ _ _ _ = _
    unfold b_X0_unlike_4 b_X0_unlike_12
    rw [xi14, Option.bind_some, h14, if_neg (nI_ge (by omega) (by omega))]
    have e := cu_i (ev := ev) (R4 := L_X0_unlike_4 fu ev g) (fu := fu) (m := m) (f := f) (by omega) (show k < 91 by omega) (fun j hj => hw j (by omega)) k fu 0 (by omega) (by omega)
    rw [nI_0] at e
    rw [e, ih g (k + 1) _ (by omega) (by omega)]
    rfl
theorem ch_k (hf : 93 ≤ fu) (hL : L ≤ 91) (h14 : w.2.1 0 14 = nI L) (hw : ∀ j : Nat, j < L → cv w (27 + j) = f j) (hy : cv w 1 = y) : ∀ (d g k : Nat) (m : Int32), k + d = L → d < g → L_X0_holds_56 fu ev g (mem ev w) ev.1 m (nI k) = some (hoC f y d k m, mem ev w) := by
  intro d
  induction d with
  | zero =>
    intro g k m hk hg
    obtain ⟨g, rfl⟩ : ∃ g', g = g' + 1 := ⟨g - 1, by omega⟩
    show b_X0_holds_56 _ fu ev _ _ _ _ = _
    unfold b_X0_holds_56 b_X0_holds_98
    rw [xi14, Option.bind_some, h14, if_pos (nI_le (by omega) (by omega))]
    rfl
  | succ d ih =>
    intro g k m hk hg
    obtain ⟨g, rfl⟩ : ∃ g', g = g' + 1 := ⟨g - 1, by omega⟩
    have li := X1_isLike (ev := ev) (w := w) (fu := fu) (c := 27 + k) (c2 := 1) (by omega) (by decide) (by omega)
    rw [hw k (by omega), hy] at li
    show b_X0_holds_56 _ fu ev _ _ _ _ = _
    unfold b_X0_holds_56
    rw [xi14, Option.bind_some, h14, if_neg (nI_ge (by omega) (by omega)), show hoC f y (d + 1) k m = hoC f y d (k + 1) (m + if likeV (f k) y = true then 1 else 0) from rfl, ← ih g (k + 1) _ (by omega) (by omega)]
    cases hq : likeV (f k) y <;> rw [hq] at li <;> simp only [Bool.false_eq_true, if_false, if_true] at li <;> simp only [b_X0_holds_65, b_X0_holds_84, b_X0_holds_88, b_X0_holds_89, xf13, xf3, xsubs (show k < 91 by omega), cis (show 27 + k < 118 by omega), li, show ¬ (1 : Int32) = 0 by decide, if_false, if_true, Option.bind_some, bd2, nI_1, Bool.false_eq_true]
/-! the model -/
theorem ld974 (ha : a < 91) (hi : i < 6) : aldJ (mem ev w) (ev.1 + 974) ((6 : Int32) * nI a + nI i) = some (w.1 974 (6 * a + i)) := by
  rw [ix6]
  exact rdJ (N := 546) rfl (by decide) (by decide) (by omega)
theorem ma_i (ha : a < 91) (hb : b < 91) : ∀ (d g i : Nat), i + d = 6 → d < g → L_X2_areFound_2 fu ev g (mem ev w) (ev.1 + 966) (nI a) (nI b) (nI i) = some (if lkF (fun i => w.1 974 (6 * a + i)) (fun i => w.1 974 (6 * b + i)) d i = true then 1 else 0, mem ev w) := by
  intro d
  induction d with
  | zero =>
    intro g i hi hg
    obtain ⟨g, rfl⟩ : ∃ g', g = g' + 1 := ⟨g - 1, by omega⟩
    obtain rfl : i = 6 := by omega
    rfl
  | succ d ih =>
    intro g i hi hg
    obtain ⟨g, rfl⟩ : ∃ g', g = g' + 1 := ⟨g - 1, by omega⟩
    have i1 := ih g (i + 1) (by omega) (by omega)
    show b_X2_areFound_2 _ fu ev _ _ _ _ _ = _
    unfold b_X2_areFound_2
    rw [if_neg (show ¬ (6 : Int32) ≤ nI i from nI_ge (b := 6) (by omega) (by decide))]
    rw [show lkF (fun i => w.1 974 (6 * a + i)) (fun i => w.1 974 (6 * b + i)) (d + 1) i = (decide (w.1 974 (6 * a + i) = w.1 974 (6 * b + i)) && lkF (fun i => w.1 974 (6 * a + i)) (fun i => w.1 974 (6 * b + i)) d (i + 1)) from rfl]
    by_cases h : w.1 974 (6 * a + i) = w.1 974 (6 * b + i) <;> simp only [b_X2_areFound_8, b_X2_areFound_34, b_X2_areFound_36, mf17, ld974 ha (show i < 6 by omega), ld974 hb (show i < 6 by omega), Option.bind_some, nI_1, i1, h, if_true, if_false, decide_true, decide_false, Bool.true_and, Bool.false_and, Bool.false_eq_true]
theorem X2_are (hf : 7 ≤ fu) (ha : a < L) (hb : b < L) (hL : L ≤ 91) (hw : ∀ j : Nat, j < L → ∀ i : Nat, i < 6 → w.1 974 (6 * j + i) = f j i) : f_X2_areFound fu ev (mem ev w) (ev.1 + 966) (nI a) (nI b) = some (if likeV (f b) (f a) = true then 1 else 0, mem ev w) := by
  have e := ma_i (ev := ev) (w := w) (fu := fu) (show a < 91 by omega) (show b < 91 by omega) 6 fu 0 (by decide) (by omega)
  rw [lkF_ext (x' := f a) (y' := f b) 6 0 (fun j _ h => hw a ha j (by omega)) (fun j _ h => hw b hb j (by omega)), lkF_eq, like_comm, nI_0] at e
  exact e
theorem mu_i {R4 : Mm → Nat → Int32 → Int32 → Int32 → Option (Int32 × Mm)} (hf : 7 ≤ fu) (hk : k < L) (hL : L ≤ 91) (hw : ∀ j : Nat, j < L → ∀ i : Nat, i < 6 → w.1 974 (6 * j + i) = f j i) : ∀ (d g i : Nat) (q : Bool), i + d = k → d < g → L_X2_unlike_15 R4 fu ev g (mem ev w) (ev.1 + 966) (nI L) m (nI k) (if q = true then 1 else 0) (nI i) = R4 (mem ev w) (ev.1 + 966) (nI L) (m + if (q && nwC f k d i) = true then 1 else 0) (nI (k + 1)) := by
  intro d
  induction d with
  | zero =>
    intro g i q hi hg
    obtain ⟨g, rfl⟩ : ∃ g', g = g' + 1 := ⟨g - 1, by omega⟩
    obtain rfl : i = k := by omega
    show b_X2_unlike_15 _ _ fu ev _ _ _ _ _ _ _ = _
    unfold b_X2_unlike_15
    rw [if_pos (nI_le (Nat.le_refl _) (by omega))]
    cases q <;> simp only [b_X2_unlike_47, b_X2_unlike_53, b_X2_unlike_57, b_X2_unlike_58, nwC, if_true, show ¬ (1 : Int32) = 0 by decide, if_false, nI_1, Bool.false_eq_true, Bool.and_true]
  | succ d ih =>
    intro g i q hi hg
    obtain ⟨g, rfl⟩ : ∃ g', g = g' + 1 := ⟨g - 1, by omega⟩
    have ar := X2_are (ev := ev) (w := w) (fu := fu) (a := k) (b := i) hf hk (by omega) hL hw
    show b_X2_unlike_15 _ _ fu ev _ _ _ _ _ _ _ = _
    unfold b_X2_unlike_15
    rw [if_neg (nI_ge (by omega) (by omega))]
    rw [show nwC f k (d + 1) i = (!likeV (f i) (f k) && nwC f k d (i + 1)) from rfl]
    have i1 := ih g (i + 1) (q && !likeV (f i) (f k)) (by omega) (by omega)
    rw [Bool.and_assoc] at i1
    rw [← i1]
    cases hq : likeV (f i) (f k) <;> rw [hq] at ar <;> simp only [Bool.false_eq_true, if_false, if_true] at ar <;> cases q <;> simp only [b_X2_unlike_21, b_X2_unlike_33, b_X2_unlike_37, b_X2_unlike_38, mis, ar, show ¬ (1 : Int32) = 0 by decide, if_true, if_false, Bool.not_false, Bool.not_true, Bool.and_true, Bool.and_false, Bool.false_and, Bool.true_and, Bool.false_eq_true, Option.bind_some, bd2, nI_1] <;> rfl
theorem mu_k (hf : 93 ≤ fu) (hL : L ≤ 91) (hw : ∀ j : Nat, j < L → ∀ i : Nat, i < 6 → w.1 974 (6 * j + i) = f j i) : ∀ (d g k : Nat) (m : Int32), k + d = L → d < g → L_X2_unlike_4 fu ev g (mem ev w) (ev.1 + 966) (nI L) m (nI k) = some (unC f d k m, mem ev w) := by
  intro d
  induction d with
  | zero =>
    intro g k m hk hg
    obtain ⟨g, rfl⟩ : ∃ g', g = g' + 1 := ⟨g - 1, by omega⟩
    show b_X2_unlike_4 _ fu ev _ _ _ _ _ = _
    unfold b_X2_unlike_4 b_X2_unlike_66
    rw [if_pos (nI_le (by omega) (by omega))]
    rfl
  | succ d ih =>
    intro g k m hk hg
    obtain ⟨g, rfl⟩ : ∃ g', g = g' + 1 := ⟨g - 1, by omega⟩
    show b_X2_unlike_4 _ fu ev _ _ _ _ _ = _
    unfold b_X2_unlike_4 b_X2_unlike_9
    rw [if_neg (nI_ge (by omega) (by omega))]
    have e := mu_i (ev := ev) (R4 := L_X2_unlike_4 fu ev g) (fu := fu) (m := m) (f := f) (by omega) (show k < L by omega) hL hw k fu 0 true (by omega) (by omega)
    rw [nI_0, Bool.true_and] at e
    rw [show unC f (d + 1) k m = unC f d (k + 1) (m + if nwC f k k 0 = true then 1 else 0) from rfl, ← ih g (k + 1) _ (by omega) (by omega), ← e]
    rfl
theorem mh_i {R52 : Mm → Nat → Int32 → Int32 → Int32 → Option (Int32 × Mm)} (hk : k < 91) (hy : sl w 6 = y) : ∀ (d g i : Nat) (q : Bool), i + d = 6 → d < g → L_X2_holds_65 R52 fu ev g (mem ev w) (ev.1 + 966) u m (nI k) (if q = true then 1 else 0) (nI i) = R52 (mem ev w) (ev.1 + 966) u (m + if (q && lkF (fun i => w.1 974 (6 * k + i)) y d i) = true then 1 else 0) (nI (k + 1)) := by
  intro d
  induction d with
  | zero =>
    intro g i q hi hg
    obtain ⟨g, rfl⟩ : ∃ g', g = g' + 1 := ⟨g - 1, by omega⟩
    obtain rfl : i = 6 := by omega
    show b_X2_holds_65 _ _ fu ev _ _ _ _ _ _ _ = _
    unfold b_X2_holds_65
    rw [if_pos (by decide)]
    cases q <;> simp only [b_X2_holds_113, b_X2_holds_120, b_X2_holds_124, b_X2_holds_125, lkF, if_true, show ¬ (1 : Int32) = 0 by decide, if_false, nI_1, Bool.false_eq_true, Bool.and_true]
  | succ d ih =>
    intro g i q hi hg
    obtain ⟨g, rfl⟩ : ∃ g', g = g' + 1 := ⟨g - 1, by omega⟩
    have e := X2_n6 (ev := ev) (w := w) (fu := fu) (i := i) (by omega)
    rw [hy] at e
    show b_X2_holds_65 _ _ fu ev _ _ _ _ _ _ _ = _
    unfold b_X2_holds_65
    rw [if_neg (show ¬ (6 : Int32) ≤ nI i from nI_ge (b := 6) (by omega) (by decide))]
    rw [show lkF (fun i => w.1 974 (6 * k + i)) y (d + 1) i = (decide (w.1 974 (6 * k + i) = y i) && lkF (fun i => w.1 974 (6 * k + i)) y d (i + 1)) from rfl]
    have i1 := ih g (i + 1) (q && decide (w.1 974 (6 * k + i) = y i)) (by omega) (by omega)
    rw [Bool.and_assoc] at i1
    rw [← i1]
    by_cases h : w.1 974 (6 * k + i) = y i <;> cases q <;> simp only [b_X2_holds_72, b_X2_holds_99, b_X2_holds_103, b_X2_holds_104, mis, mf17, ld974 hk (show i < 6 by omega), e, h, show ¬ (1 : Int32) = 0 by decide, if_true, if_false, decide_true, decide_false, Bool.and_true, Bool.and_false, Bool.false_and, Bool.true_and, Bool.false_eq_true, Option.bind_some, bd2, nI_1] <;> rfl
theorem mh_k (hf : 93 ≤ fu) (hL : L ≤ 91) (hw : ∀ j : Nat, j < L → ∀ i : Nat, i < 6 → w.1 974 (6 * j + i) = f j i) (hy : sl w 6 = y) : ∀ (d g k : Nat) (m : Int32), k + d = L → d < g → L_X2_holds_52 fu ev g (mem ev w) (ev.1 + 966) (nI L) m (nI k) = some (hoC f y d k m, mem ev w) := by
  intro d
  induction d with
  | zero =>
    intro g k m hk hg
    obtain ⟨g, rfl⟩ : ∃ g', g = g' + 1 := ⟨g - 1, by omega⟩
    show b_X2_holds_52 _ fu ev _ _ _ _ _ = _
    unfold b_X2_holds_52 b_X2_holds_134
    rw [if_pos (nI_le (by omega) (by omega))]
    rfl
  | succ d ih =>
    intro g k m hk hg
    obtain ⟨g, rfl⟩ : ∃ g', g = g' + 1 := ⟨g - 1, by omega⟩
    show b_X2_holds_52 _ fu ev _ _ _ _ _ = _
    unfold b_X2_holds_52 b_X2_holds_59
    rw [if_neg (nI_ge (by omega) (by omega))]
    have e := mh_i (ev := ev) (R52 := L_X2_holds_52 fu ev g) (fu := fu) (m := m) (u := nI L) (show k < 91 by omega) hy 6 fu 0 true (by omega) (by omega)
    rw [nI_0, Bool.true_and, lkF_ext (x' := f k) (y' := y) 6 0 (fun j _ h => hw k (by omega) j (by omega)) (fun _ _ _ => rfl), lkF_eq] at e
    rw [show hoC f y (d + 1) k m = hoC f y d (k + 1) (m + if likeV (f k) y = true then 1 else 0) from rfl, ← ih g (k + 1) _ (by omega) (by omega), ← e]
    rfl
end XWQ
