/-! FOUR VECTORS (model): rows 975 (vectors) and 976 (products) -/
def setF (w : Wd) (f t : Nat → Int64) : Wd := (fun q i => if q = 975 ∧ i < 12 then f i else if q = 976 ∧ i < 6 then t i else w.1 q i, w.2)
def oneN : Nat → Nat
  | 0 => 1
  | 1 => 0
  | 2 => 0
  | 3 => 0
  | 4 => 1
  | _ => 2
def othN : Nat → Nat
  | 0 => 2
  | 1 => 2
  | 2 => 1
  | _ => 3
def twF (v f : Nat → Int64) (p q : Nat) : Int64 := 0 + f (3 * p) * f (3 * q) * (2 * v 0) + f (3 * p) * f (3 * q + 1) * v 5 + f (3 * p) * f (3 * q + 2) * v 4 + f (3 * p + 1) * f (3 * q) * v 5 + f (3 * p + 1) * f (3 * q + 1) * (2 * v 1) + f (3 * p + 1) * f (3 * q + 2) * v 3 + f (3 * p + 2) * f (3 * q) * v 4 + f (3 * p + 2) * f (3 * q + 1) * v 3 + f (3 * p + 2) * f (3 * q + 2) * (2 * v 2)
def twB (v f : Nat → Int64) (k : Nat) : Int64 := twF v f (oneN k) (othN k)
def goF (f : Nat → Int64) (k : Nat) : Nat → Int64 := fun j => if j / 3 = oneN k then -f j else if j / 3 = othN k then f j else f j + f (3 * oneN k + j % 3)
theorem b2s {α β : Type} {v : α} {σ : Mm} {f : α → Mm → Option β} : bd2 (some (v, σ)) f = f v σ := rfl
section XFM
variable {ev : Ev} {w : Wd} {fu k i K : Nat} {f t f' t' : Nat → Int64} {x : Int64} {σ : Mm} {n1 : Int32}
theorem u_ld (h : i < 12) : aldJ (mem ev (setF w f t)) (ev.1 + 975) (nI i) = some (f i) := by
  rw [rdJ (N := 12) rfl (by decide) (by decide) h]
  show some (if 975 = 975 ∧ i < 12 then f i else _) = _
  rw [if_pos ⟨rfl, h⟩]
theorem t_ld (h : i < 6) : aldJ (mem ev (setF w f t)) (ev.1 + 976) (nI i) = some (t i) := by
  rw [rdJ (N := 6) rfl (by decide) (by decide) h]
  show some (if 976 = 975 ∧ i < 12 then f i else if 976 = 976 ∧ i < 6 then t i else _) = _
  rw [if_neg (by omega), if_pos ⟨rfl, h⟩]
theorem u_st (h : i < 12) : astJ ev (mem ev (setF w f t)) (ev.1 + 975) (nI i) x = some (mem ev (setF w (upV f i x) t)) := by
  rw [wrJ (N := 12) rfl (by decide) (by decide) h]
  congr 2
  refine Prod.ext (funext fun q => funext fun j => ?_) rfl
  show (if q = 975 ∧ j = i then x else if q = 975 ∧ j < 12 then f j else if q = 976 ∧ j < 6 then t j else w.1 q j) = if q = 975 ∧ j < 12 then (if j = i then x else f j) else if q = 976 ∧ j < 6 then t j else w.1 q j
  by_cases e : q = 975 ∧ j = i
  · rw [if_pos e, if_pos ⟨e.1, by omega⟩, if_pos e.2]
  · rw [if_neg e]
    by_cases e2 : q = 975 ∧ j < 12
    · rw [if_pos e2, if_pos e2, if_neg (fun z => e ⟨e2.1, z⟩)]
    · rw [if_neg e2, if_neg e2]
theorem t_st (h : i < 6) : astJ ev (mem ev (setF w f t)) (ev.1 + 976) (nI i) x = some (mem ev (setF w f (upV t i x))) := by
  rw [wrJ (N := 6) rfl (by decide) (by decide) h]
  congr 2
  refine Prod.ext (funext fun q => funext fun j => ?_) rfl
  show (if q = 976 ∧ j = i then x else if q = 975 ∧ j < 12 then f j else if q = 976 ∧ j < 6 then t j else w.1 q j) = if q = 975 ∧ j < 12 then f j else if q = 976 ∧ j < 6 then (if j = i then x else t j) else w.1 q j
  by_cases e : q = 976 ∧ j = i
  · rw [if_pos e, if_neg (by omega), if_pos ⟨e.1, by omega⟩, if_pos e.2]
  · rw [if_neg e]
    by_cases e1 : q = 975 ∧ j < 12
    · rw [if_pos e1, if_pos e1]
    · rw [if_neg e1, if_neg e1]
      by_cases e2 : q = 976 ∧ j < 6
      · rw [if_pos e2, if_pos e2, if_neg (fun z => e ⟨e2.1, z⟩)]
      · rw [if_neg e2, if_neg e2]
theorem F_ext (h : ∀ i : Nat, i < 12 → f i = f' i) (h2 : ∀ i : Nat, i < 6 → t i = t' i) : setF w f t = setF w f' t' := by
  refine Prod.ext (funext fun q => funext fun j => ?_) rfl
  show (if q = 975 ∧ j < 12 then f j else if q = 976 ∧ j < 6 then t j else w.1 q j) = if q = 975 ∧ j < 12 then f' j else if q = 976 ∧ j < 6 then t' j else w.1 q j
  by_cases e : q = 975 ∧ j < 12
  · rw [if_pos e, if_pos e, h j e.2]
  · rw [if_neg e, if_neg e]
    by_cases e2 : q = 976 ∧ j < 6
    · rw [if_pos e2, if_pos e2, h2 j e2.2]
    · rw [if_neg e2, if_neg e2]
theorem sl_F : sl (setF w f t) K = sl w K := by
  have e : ∀ q j : Nat, q ≠ 975 → q ≠ 976 → (setF w f t).1 q j = w.1 q j := fun q j h h2 => by
    show (if q = 975 ∧ j < 12 then f j else if q = 976 ∧ j < 6 then t j else w.1 q j) = _
    rw [if_neg (fun z => h z.1), if_neg (fun z => h2 z.1)]
  funext j
  simp only [sl]
  rw [e 967 _ (by decide) (by decide), e 968 _ (by decide) (by decide)]
theorem u_ld0 : aldJ (mem ev (setF w f t)) (ev.1 + 975) (0 : Int32) = some (f 0) := u_ld (i := 0) (by decide)
theorem u_st0 : astJ ev (mem ev (setF w f t)) (ev.1 + 975) (0 : Int32) x = some (mem ev (setF w (upV f 0 x) t)) := u_st (i := 0) (by decide)
theorem u_ld1 : aldJ (mem ev (setF w f t)) (ev.1 + 975) (1 : Int32) = some (f 1) := u_ld (i := 1) (by decide)
theorem u_st1 : astJ ev (mem ev (setF w f t)) (ev.1 + 975) (1 : Int32) x = some (mem ev (setF w (upV f 1 x) t)) := u_st (i := 1) (by decide)
theorem u_ld2 : aldJ (mem ev (setF w f t)) (ev.1 + 975) (2 : Int32) = some (f 2) := u_ld (i := 2) (by decide)
theorem u_st2 : astJ ev (mem ev (setF w f t)) (ev.1 + 975) (2 : Int32) x = some (mem ev (setF w (upV f 2 x) t)) := u_st (i := 2) (by decide)
theorem u_ld3 : aldJ (mem ev (setF w f t)) (ev.1 + 975) (3 : Int32) = some (f 3) := u_ld (i := 3) (by decide)
theorem u_st3 : astJ ev (mem ev (setF w f t)) (ev.1 + 975) (3 : Int32) x = some (mem ev (setF w (upV f 3 x) t)) := u_st (i := 3) (by decide)
theorem u_ld4 : aldJ (mem ev (setF w f t)) (ev.1 + 975) (4 : Int32) = some (f 4) := u_ld (i := 4) (by decide)
theorem u_st4 : astJ ev (mem ev (setF w f t)) (ev.1 + 975) (4 : Int32) x = some (mem ev (setF w (upV f 4 x) t)) := u_st (i := 4) (by decide)
theorem u_ld5 : aldJ (mem ev (setF w f t)) (ev.1 + 975) (5 : Int32) = some (f 5) := u_ld (i := 5) (by decide)
theorem u_st5 : astJ ev (mem ev (setF w f t)) (ev.1 + 975) (5 : Int32) x = some (mem ev (setF w (upV f 5 x) t)) := u_st (i := 5) (by decide)
theorem u_ld6 : aldJ (mem ev (setF w f t)) (ev.1 + 975) (6 : Int32) = some (f 6) := u_ld (i := 6) (by decide)
theorem u_st6 : astJ ev (mem ev (setF w f t)) (ev.1 + 975) (6 : Int32) x = some (mem ev (setF w (upV f 6 x) t)) := u_st (i := 6) (by decide)
theorem u_ld7 : aldJ (mem ev (setF w f t)) (ev.1 + 975) (7 : Int32) = some (f 7) := u_ld (i := 7) (by decide)
theorem u_st7 : astJ ev (mem ev (setF w f t)) (ev.1 + 975) (7 : Int32) x = some (mem ev (setF w (upV f 7 x) t)) := u_st (i := 7) (by decide)
theorem u_ld8 : aldJ (mem ev (setF w f t)) (ev.1 + 975) (8 : Int32) = some (f 8) := u_ld (i := 8) (by decide)
theorem u_st8 : astJ ev (mem ev (setF w f t)) (ev.1 + 975) (8 : Int32) x = some (mem ev (setF w (upV f 8 x) t)) := u_st (i := 8) (by decide)
theorem u_ld9 : aldJ (mem ev (setF w f t)) (ev.1 + 975) (9 : Int32) = some (f 9) := u_ld (i := 9) (by decide)
theorem u_st9 : astJ ev (mem ev (setF w f t)) (ev.1 + 975) (9 : Int32) x = some (mem ev (setF w (upV f 9 x) t)) := u_st (i := 9) (by decide)
theorem u_ld10 : aldJ (mem ev (setF w f t)) (ev.1 + 975) (10 : Int32) = some (f 10) := u_ld (i := 10) (by decide)
theorem u_st10 : astJ ev (mem ev (setF w f t)) (ev.1 + 975) (10 : Int32) x = some (mem ev (setF w (upV f 10 x) t)) := u_st (i := 10) (by decide)
theorem u_ld11 : aldJ (mem ev (setF w f t)) (ev.1 + 975) (11 : Int32) = some (f 11) := u_ld (i := 11) (by decide)
theorem u_st11 : astJ ev (mem ev (setF w f t)) (ev.1 + 975) (11 : Int32) x = some (mem ev (setF w (upV f 11 x) t)) := u_st (i := 11) (by decide)
theorem i3 {p i : Nat} : (3 : Int32) * nI p + nI i = nI (3 * p + i) := by rw [show (3 : Int32) = nI 3 from rfl, pk_mul, nI_add]
theorem tw_in0 (hf : 4 ≤ fu) (h : K < 26) {p q : Nat} (hp : p < 4) (hq : q < 4) {R : Mm → Nat → Int32 → Int32 → Int32 → Int64 → Int32 → Option (Int64 × Mm)} {s : Int64} : L_X2_twiceOf_15 R fu ev fu (mem ev (setF w f t)) (ev.1 + 966) (nI K) (nI p) (nI q) s (nI 0) (nI 0) = R (mem ev (setF w f t)) (ev.1 + 966) (nI K) (nI p) (nI q) (s + f (3 * p + 0) * f (3 * q + 0) * (2 * sl w K 0) + f (3 * p + 0) * f (3 * q + 1) * sl w K 5 + f (3 * p + 0) * f (3 * q + 2) * sl w K 4) (nI 1) := by
  obtain ⟨g, hg⟩ : ∃ g, fu = g + 4 := ⟨fu - 4, by omega⟩
  have hL : ∀ x4 x7, L_X2_twiceOf_15 R fu ev fu (mem ev (setF w f t)) (ev.1 + 966) (nI K) (nI p) (nI q) x4 (nI 0) x7 = L_X2_twiceOf_15 R fu ev (g + 4) (mem ev (setF w f t)) (ev.1 + 966) (nI K) (nI p) (nI q) x4 (nI 0) x7 := fun _ _ => by rw [← hg]
  rw [hL]
  have b0 : f_X2_by fu ev (mem ev (setF w f t)) (ev.1 + 966) (nI K) (nI 0) (nI 0) = some ((2 * sl w K 0), mem ev (setF w f t)) := by
    have := X2_by_00 (ev := ev) (fu := fu) (w := setF w f t) h
    rw [sl_F] at this
    exact this
  have b1 : f_X2_by fu ev (mem ev (setF w f t)) (ev.1 + 966) (nI K) (nI 0) (nI 1) = some (sl w K 5, mem ev (setF w f t)) := by
    have := X2_by_01 (ev := ev) (fu := fu) (w := setF w f t) h
    rw [sl_F] at this
    exact this
  have b2 : f_X2_by fu ev (mem ev (setF w f t)) (ev.1 + 966) (nI K) (nI 0) (nI 2) = some (sl w K 4, mem ev (setF w f t)) := by
    have := X2_by_02 (ev := ev) (fu := fu) (w := setF w f t) h
    rw [sl_F] at this
    exact this
  show b_X2_twiceOf_15 _ _ fu ev _ _ _ _ _ _ _ _ = _
  unfold b_X2_twiceOf_15 b_X2_twiceOf_21
  rw [if_neg (show ¬ (3 : Int32) ≤ nI 0 by decide), mf18, Option.bind_some, Option.bind_some, i3, u_ld (by omega), Option.bind_some, Option.bind_some, Option.bind_some, i3, u_ld (by omega), Option.bind_some, mis, Option.bind_some, b0]
  show L_X2_twiceOf_15 R fu ev (g + 3) (mem ev (setF w f t)) (ev.1 + 966) (nI K) (nI p) (nI q) _ _ (nI 0 + 1) = _
  rw [nI_1]
  show b_X2_twiceOf_15 _ _ fu ev _ _ _ _ _ _ _ _ = _
  unfold b_X2_twiceOf_15 b_X2_twiceOf_21
  rw [if_neg (show ¬ (3 : Int32) ≤ nI 1 by decide), mf18, Option.bind_some, Option.bind_some, i3, u_ld (by omega), Option.bind_some, Option.bind_some, Option.bind_some, i3, u_ld (by omega), Option.bind_some, mis, Option.bind_some, b1]
  show L_X2_twiceOf_15 R fu ev (g + 2) (mem ev (setF w f t)) (ev.1 + 966) (nI K) (nI p) (nI q) _ _ (nI 1 + 1) = _
  rw [nI_1]
  show b_X2_twiceOf_15 _ _ fu ev _ _ _ _ _ _ _ _ = _
  unfold b_X2_twiceOf_15 b_X2_twiceOf_21
  rw [if_neg (show ¬ (3 : Int32) ≤ nI 2 by decide), mf18, Option.bind_some, Option.bind_some, i3, u_ld (by omega), Option.bind_some, Option.bind_some, Option.bind_some, i3, u_ld (by omega), Option.bind_some, mis, Option.bind_some, b2]
  show L_X2_twiceOf_15 R fu ev (g + 1) (mem ev (setF w f t)) (ev.1 + 966) (nI K) (nI p) (nI q) _ _ (nI 2 + 1) = _
  rw [nI_1]
  show b_X2_twiceOf_15 _ _ fu ev _ _ _ _ _ _ _ _ = _
  unfold b_X2_twiceOf_15 b_X2_twiceOf_65
  rw [if_pos (by decide), nI_1]
theorem tw_in1 (hf : 4 ≤ fu) (h : K < 26) {p q : Nat} (hp : p < 4) (hq : q < 4) {R : Mm → Nat → Int32 → Int32 → Int32 → Int64 → Int32 → Option (Int64 × Mm)} {s : Int64} : L_X2_twiceOf_15 R fu ev fu (mem ev (setF w f t)) (ev.1 + 966) (nI K) (nI p) (nI q) s (nI 1) (nI 0) = R (mem ev (setF w f t)) (ev.1 + 966) (nI K) (nI p) (nI q) (s + f (3 * p + 1) * f (3 * q + 0) * sl w K 5 + f (3 * p + 1) * f (3 * q + 1) * (2 * sl w K 1) + f (3 * p + 1) * f (3 * q + 2) * sl w K 3) (nI 2) := by
  obtain ⟨g, hg⟩ : ∃ g, fu = g + 4 := ⟨fu - 4, by omega⟩
  have hL : ∀ x4 x7, L_X2_twiceOf_15 R fu ev fu (mem ev (setF w f t)) (ev.1 + 966) (nI K) (nI p) (nI q) x4 (nI 1) x7 = L_X2_twiceOf_15 R fu ev (g + 4) (mem ev (setF w f t)) (ev.1 + 966) (nI K) (nI p) (nI q) x4 (nI 1) x7 := fun _ _ => by rw [← hg]
  rw [hL]
  have b0 : f_X2_by fu ev (mem ev (setF w f t)) (ev.1 + 966) (nI K) (nI 1) (nI 0) = some (sl w K 5, mem ev (setF w f t)) := by
    have := X2_by_10 (ev := ev) (fu := fu) (w := setF w f t) h
    rw [sl_F] at this
    exact this
  have b1 : f_X2_by fu ev (mem ev (setF w f t)) (ev.1 + 966) (nI K) (nI 1) (nI 1) = some ((2 * sl w K 1), mem ev (setF w f t)) := by
    have := X2_by_11 (ev := ev) (fu := fu) (w := setF w f t) h
    rw [sl_F] at this
    exact this
  have b2 : f_X2_by fu ev (mem ev (setF w f t)) (ev.1 + 966) (nI K) (nI 1) (nI 2) = some (sl w K 3, mem ev (setF w f t)) := by
    have := X2_by_12 (ev := ev) (fu := fu) (w := setF w f t) h
    rw [sl_F] at this
    exact this
  show b_X2_twiceOf_15 _ _ fu ev _ _ _ _ _ _ _ _ = _
  unfold b_X2_twiceOf_15 b_X2_twiceOf_21
  rw [if_neg (show ¬ (3 : Int32) ≤ nI 0 by decide), mf18, Option.bind_some, Option.bind_some, i3, u_ld (by omega), Option.bind_some, Option.bind_some, Option.bind_some, i3, u_ld (by omega), Option.bind_some, mis, Option.bind_some, b0]
  show L_X2_twiceOf_15 R fu ev (g + 3) (mem ev (setF w f t)) (ev.1 + 966) (nI K) (nI p) (nI q) _ _ (nI 0 + 1) = _
  rw [nI_1]
  show b_X2_twiceOf_15 _ _ fu ev _ _ _ _ _ _ _ _ = _
  unfold b_X2_twiceOf_15 b_X2_twiceOf_21
  rw [if_neg (show ¬ (3 : Int32) ≤ nI 1 by decide), mf18, Option.bind_some, Option.bind_some, i3, u_ld (by omega), Option.bind_some, Option.bind_some, Option.bind_some, i3, u_ld (by omega), Option.bind_some, mis, Option.bind_some, b1]
  show L_X2_twiceOf_15 R fu ev (g + 2) (mem ev (setF w f t)) (ev.1 + 966) (nI K) (nI p) (nI q) _ _ (nI 1 + 1) = _
  rw [nI_1]
  show b_X2_twiceOf_15 _ _ fu ev _ _ _ _ _ _ _ _ = _
  unfold b_X2_twiceOf_15 b_X2_twiceOf_21
  rw [if_neg (show ¬ (3 : Int32) ≤ nI 2 by decide), mf18, Option.bind_some, Option.bind_some, i3, u_ld (by omega), Option.bind_some, Option.bind_some, Option.bind_some, i3, u_ld (by omega), Option.bind_some, mis, Option.bind_some, b2]
  show L_X2_twiceOf_15 R fu ev (g + 1) (mem ev (setF w f t)) (ev.1 + 966) (nI K) (nI p) (nI q) _ _ (nI 2 + 1) = _
  rw [nI_1]
  show b_X2_twiceOf_15 _ _ fu ev _ _ _ _ _ _ _ _ = _
  unfold b_X2_twiceOf_15 b_X2_twiceOf_65
  rw [if_pos (by decide), nI_1]
theorem tw_in2 (hf : 4 ≤ fu) (h : K < 26) {p q : Nat} (hp : p < 4) (hq : q < 4) {R : Mm → Nat → Int32 → Int32 → Int32 → Int64 → Int32 → Option (Int64 × Mm)} {s : Int64} : L_X2_twiceOf_15 R fu ev fu (mem ev (setF w f t)) (ev.1 + 966) (nI K) (nI p) (nI q) s (nI 2) (nI 0) = R (mem ev (setF w f t)) (ev.1 + 966) (nI K) (nI p) (nI q) (s + f (3 * p + 2) * f (3 * q + 0) * sl w K 4 + f (3 * p + 2) * f (3 * q + 1) * sl w K 3 + f (3 * p + 2) * f (3 * q + 2) * (2 * sl w K 2)) (nI 3) := by
  obtain ⟨g, hg⟩ : ∃ g, fu = g + 4 := ⟨fu - 4, by omega⟩
  have hL : ∀ x4 x7, L_X2_twiceOf_15 R fu ev fu (mem ev (setF w f t)) (ev.1 + 966) (nI K) (nI p) (nI q) x4 (nI 2) x7 = L_X2_twiceOf_15 R fu ev (g + 4) (mem ev (setF w f t)) (ev.1 + 966) (nI K) (nI p) (nI q) x4 (nI 2) x7 := fun _ _ => by rw [← hg]
  rw [hL]
  have b0 : f_X2_by fu ev (mem ev (setF w f t)) (ev.1 + 966) (nI K) (nI 2) (nI 0) = some (sl w K 4, mem ev (setF w f t)) := by
    have := X2_by_20 (ev := ev) (fu := fu) (w := setF w f t) h
    rw [sl_F] at this
    exact this
  have b1 : f_X2_by fu ev (mem ev (setF w f t)) (ev.1 + 966) (nI K) (nI 2) (nI 1) = some (sl w K 3, mem ev (setF w f t)) := by
    have := X2_by_21 (ev := ev) (fu := fu) (w := setF w f t) h
    rw [sl_F] at this
    exact this
  have b2 : f_X2_by fu ev (mem ev (setF w f t)) (ev.1 + 966) (nI K) (nI 2) (nI 2) = some ((2 * sl w K 2), mem ev (setF w f t)) := by
    have := X2_by_22 (ev := ev) (fu := fu) (w := setF w f t) h
    rw [sl_F] at this
    exact this
  show b_X2_twiceOf_15 _ _ fu ev _ _ _ _ _ _ _ _ = _
  unfold b_X2_twiceOf_15 b_X2_twiceOf_21
  rw [if_neg (show ¬ (3 : Int32) ≤ nI 0 by decide), mf18, Option.bind_some, Option.bind_some, i3, u_ld (by omega), Option.bind_some, Option.bind_some, Option.bind_some, i3, u_ld (by omega), Option.bind_some, mis, Option.bind_some, b0]
  show L_X2_twiceOf_15 R fu ev (g + 3) (mem ev (setF w f t)) (ev.1 + 966) (nI K) (nI p) (nI q) _ _ (nI 0 + 1) = _
  rw [nI_1]
  show b_X2_twiceOf_15 _ _ fu ev _ _ _ _ _ _ _ _ = _
  unfold b_X2_twiceOf_15 b_X2_twiceOf_21
  rw [if_neg (show ¬ (3 : Int32) ≤ nI 1 by decide), mf18, Option.bind_some, Option.bind_some, i3, u_ld (by omega), Option.bind_some, Option.bind_some, Option.bind_some, i3, u_ld (by omega), Option.bind_some, mis, Option.bind_some, b1]
  show L_X2_twiceOf_15 R fu ev (g + 2) (mem ev (setF w f t)) (ev.1 + 966) (nI K) (nI p) (nI q) _ _ (nI 1 + 1) = _
  rw [nI_1]
  show b_X2_twiceOf_15 _ _ fu ev _ _ _ _ _ _ _ _ = _
  unfold b_X2_twiceOf_15 b_X2_twiceOf_21
  rw [if_neg (show ¬ (3 : Int32) ≤ nI 2 by decide), mf18, Option.bind_some, Option.bind_some, i3, u_ld (by omega), Option.bind_some, Option.bind_some, Option.bind_some, i3, u_ld (by omega), Option.bind_some, mis, Option.bind_some, b2]
  show L_X2_twiceOf_15 R fu ev (g + 1) (mem ev (setF w f t)) (ev.1 + 966) (nI K) (nI p) (nI q) _ _ (nI 2 + 1) = _
  rw [nI_1]
  show b_X2_twiceOf_15 _ _ fu ev _ _ _ _ _ _ _ _ = _
  unfold b_X2_twiceOf_15 b_X2_twiceOf_65
  rw [if_pos (by decide), nI_1]
theorem X2_twice_k (hf : 4 ≤ fu) (h : K < 26) (hk : k < 6) : f_X2_twiceOf fu ev (mem ev (setF w f t)) (ev.1 + 966) (nI K) (nI (oneN k)) (nI (othN k)) = some (twB (sl w K) f k, mem ev (setF w f t)) := by
  obtain ⟨p, hp⟩ : ∃ p, p = oneN k := ⟨_, rfl⟩
  obtain ⟨q, hq⟩ : ∃ q, q = othN k := ⟨_, rfl⟩
  have p4 : p < 4 := by rw [hp]; unfold oneN; split <;> omega
  have q4 : q < 4 := by rw [hq]; unfold othN; split <;> omega
  unfold twB
  rw [← hp, ← hq]
  obtain ⟨g, hg⟩ : ∃ g, fu = g + 4 := ⟨fu - 4, by omega⟩
  have hL : ∀ σ x0 x1 x2 x3 x4 x5, L_X2_twiceOf_6 fu ev fu σ x0 x1 x2 x3 x4 x5 = L_X2_twiceOf_6 fu ev (g + 4) σ x0 x1 x2 x3 x4 x5 := fun _ _ _ _ _ _ _ => by rw [← hg]
  unfold f_X2_twiceOf b_X2_twiceOf_0
  rw [hL]
  show b_X2_twiceOf_6 _ fu ev _ _ _ _ _ _ (nI 0) = _
  unfold b_X2_twiceOf_6 b_X2_twiceOf_12
  rw [if_neg (show ¬ (3 : Int32) ≤ nI 0 by decide), show (0 : Int32) = nI 0 from rfl, tw_in0 hf h p4 q4]
  show b_X2_twiceOf_6 _ fu ev _ _ _ _ _ _ (nI 1) = _
  unfold b_X2_twiceOf_6 b_X2_twiceOf_12
  rw [if_neg (show ¬ (3 : Int32) ≤ nI 1 by decide), show (0 : Int32) = nI 0 from rfl, tw_in1 hf h p4 q4]
  show b_X2_twiceOf_6 _ fu ev _ _ _ _ _ _ (nI 2) = _
  unfold b_X2_twiceOf_6 b_X2_twiceOf_12
  rw [if_neg (show ¬ (3 : Int32) ≤ nI 2 by decide), show (0 : Int32) = nI 0 from rfl, tw_in2 hf h p4 q4]
  show b_X2_twiceOf_6 _ fu ev _ _ _ _ _ _ _ = _
  unfold b_X2_twiceOf_6 b_X2_twiceOf_71
  rw [if_pos (by decide)]
  rfl
theorem X2_one_k (hk : k < 6) : f_X2_one fu ev σ (nI k) = some (nI (oneN k), σ) := by
  match k, hk with
  | 0, _ => rfl
  | 1, _ => rfl
  | 2, _ => rfl
  | 3, _ => rfl
  | 4, _ => rfl
  | 5, _ => rfl
theorem X2_oth_k (hk : k < 6) : f_X2_other fu ev σ (nI k) = some (nI (othN k), σ) := by
  match k, hk with
  | 0, _ => rfl
  | 1, _ => rfl
  | 2, _ => rfl
  | 3, _ => rfl
  | 4, _ => rfl
  | 5, _ => rfl
theorem gre_l (hf : 4 ≤ fu) (h : K < 26) : ∀ d g k m : Nat, ∀ t : Nat → Int64, k + d = 6 → d < g → m ≤ k → m < 6 → (m < k ∨ k = 0) → (∀ j : Nat, j < k → t j = twB (sl w K) f j) → L_X2_greatest_4 fu ev g (mem ev (setF w f t)) (ev.1 + 966) (nI K) (nI m) (nI k) = some (nI (shF (twB (sl w K) f) d k m), mem ev (setF w f (twB (sl w K) f))) := by
  intro d
  induction d with
  | zero =>
    intro g k m t hk hg hm hm6 hmk ht
    obtain ⟨g, rfl⟩ : ∃ g', g = g' + 1 := ⟨g - 1, by omega⟩
    obtain rfl : k = 6 := by omega
    show b_X2_greatest_4 _ fu ev _ _ _ _ _ = _
    unfold b_X2_greatest_4 b_X2_greatest_57
    rw [if_pos (by decide), F_ext (w := w) (fun _ _ => rfl) (fun i hi => ht i hi)]
    rfl
  | succ d ih =>
    intro g k m t hk hg hm hm6 hmk ht
    obtain ⟨g, rfl⟩ : ∃ g', g = g' + 1 := ⟨g - 1, by omega⟩
    have k6 : k < 6 := by omega
    have n6 : ¬ (6 : Int32) ≤ nI k := by
      match k, k6 with
      | 0, _ => decide
      | 1, _ => decide
      | 2, _ => decide
      | 3, _ => decide
      | 4, _ => decide
      | 5, _ => decide
    have ht' : ∀ j : Nat, j < k + 1 → upV t k (twB (sl w K) f k) j = twB (sl w K) f j := by
      intro j hj
      show (if j = k then _ else t j) = _
      by_cases e : j = k
      · rw [if_pos e, e]
      · rw [if_neg e]; exact ht j (by omega)
    have em : upV t k (twB (sl w K) f k) m = twB (sl w K) f m := by
      rcases hmk with z | z
      · exact ht' m (by omega)
      · have : m = k := by omega
        rw [this]; exact ht' k (by omega)
    have ek := ht' k (by omega)
    show b_X2_greatest_4 _ fu ev _ _ _ _ _ = _
    unfold b_X2_greatest_4 b_X2_greatest_10 b_X2_greatest_49 b_X2_greatest_45 b_X2_greatest_50
    rw [if_neg n6, mf19, Option.bind_some, X2_one_k k6]
    rw [b2s, X2_oth_k k6, b2s, mis, Option.bind_some, X2_twice_k hf h k6, b2s, Option.bind_some, t_st k6, Option.bind_some, mf19, Option.bind_some, Option.bind_some, t_ld k6, Option.bind_some, Option.bind_some, Option.bind_some, t_ld hm6, Option.bind_some, ek, em, nI_1]
    have hs : shF (twB (sl w K) f) (d + 1) k m = shF (twB (sl w K) f) d (k + 1) (if twB (sl w K) f k ≤ twB (sl w K) f m then m else k) := rfl
    rw [hs]
    by_cases c : twB (sl w K) f k ≤ twB (sl w K) f m
    · rw [if_pos c, if_pos c]
      exact ih g (k + 1) m _ (by omega) (by omega) (by omega) hm6 (Or.inl (by omega)) ht'
    · rw [if_neg c, if_neg c]
      exact ih g (k + 1) k _ (by omega) (by omega) (by omega) k6 (Or.inl (by omega)) ht'
theorem X2_greatest_t (hf : 8 ≤ fu) (h : K < 26) : f_X2_greatest fu ev (mem ev (setF w f t)) (ev.1 + 966) (nI K) = some (nI (shF (twB (sl w K) f) 5 1 0), mem ev (setF w f (twB (sl w K) f))) := by
  have e := gre_l (w := w) (f := f) (ev := ev) (fu := fu) (by omega) h 6 fu 0 0 t (by decide) (by omega) (by decide) (by decide) (Or.inr rfl) (fun j hj => absurd hj (by omega))
  have hs : shF (twB (sl w K) f) 6 0 0 = shF (twB (sl w K) f) 5 1 0 := by
    show shF (twB (sl w K) f) 5 1 (if twB (sl w K) f 0 ≤ twB (sl w K) f 0 then 0 else 0) = _
    rw [ite_self]
  rw [hs] at e
  exact e
theorem go_in {p q u : Nat} (hf : 4 ≤ fu) (hp : p < 4) (hu : u < 4) {R : Mm → Nat → Int32 → Int32 → Int32 → Option (Int32 × Mm)} {R2 : Mm → Nat → Int32 → Int32 → Int32 → Int32 → Int32 → Option (Int32 × Mm)} {x1 x2 : Int32} (hup : u ≠ p) (huq : u ≠ q) (hq : q < 4) : L_X2_blunts_86 R R2 fu ev fu (mem ev (setF w f t)) (ev.1 + 966) x1 x2 (nI p) (nI q) (nI u) (nI 0) = R2 (mem ev (setF w (fun j => if j / 3 = u then f j + f (3 * p + j % 3) else f j) t)) (ev.1 + 966) x1 x2 (nI p) (nI q) (nI (u + 1)) := by
  obtain ⟨g, hg⟩ : ∃ g, fu = g + 4 := ⟨fu - 4, by omega⟩
  have hL : ∀ σ, L_X2_blunts_86 R R2 fu ev fu σ (ev.1 + 966) x1 x2 (nI p) (nI q) (nI u) (nI 0) = L_X2_blunts_86 R R2 fu ev (g + 4) σ (ev.1 + 966) x1 x2 (nI p) (nI q) (nI u) (nI 0) := fun _ => by rw [← hg]
  have n1 : ¬ nI u = nI p := nI_ne (by omega) (by omega) hup
  have n2 : ¬ nI u = nI q := nI_ne (by omega) (by omega) huq
  have v1 : ∀ (h : Nat → Int64) (x : Int64) (i j : Nat), i < 3 → j < 3 → upV h (3 * u + i) x (3 * p + j) = h (3 * p + j) := fun h x i j hi hj => by
    show (if 3 * p + j = 3 * u + i then x else _) = _
    rw [if_neg (by omega)]
  have v2 : ∀ (h : Nat → Int64) (x : Int64) (i j : Nat), i ≠ j → upV h (3 * u + i) x (3 * u + j) = h (3 * u + j) := fun h x i j hi => by
    show (if 3 * u + j = 3 * u + i then x else _) = _
    rw [if_neg (by omega)]
  rw [hL]
  show b_X2_blunts_86 _ _ _ fu ev _ _ _ _ _ _ _ (nI 0) = _
  unfold b_X2_blunts_86 b_X2_blunts_92 b_X2_blunts_99 b_X2_blunts_106
  rw [if_neg (show ¬ (3 : Int32) ≤ nI 0 by decide), if_neg n1, if_neg n2, mf18, Option.bind_some, Option.bind_some, i3, u_ld (by omega), Option.bind_some, Option.bind_some, Option.bind_some, i3, u_ld (by omega), Option.bind_some, u_st (by omega), Option.bind_some, nI_1]
  show b_X2_blunts_86 _ _ _ fu ev _ _ _ _ _ _ _ (nI 1) = _
  unfold b_X2_blunts_86 b_X2_blunts_92 b_X2_blunts_99 b_X2_blunts_106
  rw [if_neg (show ¬ (3 : Int32) ≤ nI 1 by decide), if_neg n1, if_neg n2, mf18, Option.bind_some, Option.bind_some, i3, u_ld (by omega), Option.bind_some, Option.bind_some, Option.bind_some, i3, u_ld (by omega), Option.bind_some, u_st (by omega), Option.bind_some, nI_1]
  show b_X2_blunts_86 _ _ _ fu ev _ _ _ _ _ _ _ (nI 2) = _
  unfold b_X2_blunts_86 b_X2_blunts_92 b_X2_blunts_99 b_X2_blunts_106
  rw [if_neg (show ¬ (3 : Int32) ≤ nI 2 by decide), if_neg n1, if_neg n2, mf18, Option.bind_some, Option.bind_some, i3, u_ld (by omega), Option.bind_some, Option.bind_some, Option.bind_some, i3, u_ld (by omega), Option.bind_some, u_st (by omega), Option.bind_some, nI_1]
  show b_X2_blunts_86 _ _ _ fu ev _ _ _ _ _ _ _ (nI 3) = _
  unfold b_X2_blunts_86 b_X2_blunts_139
  rw [if_pos (show (3 : Int32) ≤ nI 3 by decide), nI_1]
  refine congrArg (fun y => R2 (mem ev y) (ev.1 + 966) x1 x2 (nI p) (nI q) (nI (u + 1))) (F_ext (fun i hi => ?_) (fun _ _ => rfl))
  rw [v2 _ _ 0 1 (by decide), v1 _ _ 0 1 (by decide) (by decide), v2 _ _ 1 2 (by decide), v2 _ _ 0 2 (by decide), v1 _ _ 1 2 (by decide) (by decide), v1 _ _ 0 2 (by decide) (by decide)]
  by_cases c : i / 3 = u
  · have e : i = 3 * u + i % 3 := by omega
    have m3 : i % 3 < 3 := by omega
    obtain ⟨m, hm⟩ : ∃ m, m = i % 3 := ⟨_, rfl⟩
    show _ = if i / 3 = u then f i + f (3 * p + i % 3) else f i
    rw [if_pos c, ← hm, e, ← hm]
    rw [← hm] at m3
    match m, m3 with
    | 0, _ => rw [v2 _ _ 2 0 (by decide), v2 _ _ 1 0 (by decide)]; exact if_pos rfl
    | 1, _ => rw [v2 _ _ 2 1 (by decide)]; exact if_pos rfl
    | 2, _ => exact if_pos rfl
  · show (if i = 3 * u + 2 then _ else if i = 3 * u + 1 then _ else if i = 3 * u + 0 then _ else f i) = if i / 3 = u then f i + f (3 * p + i % 3) else f i
    rw [if_neg c, if_neg (by omega), if_neg (by omega), if_neg (by omega)]
theorem go_sk {p q u : Nat} (hf : 4 ≤ fu) (h : u = p ∨ u = q) {R : Mm → Nat → Int32 → Int32 → Int32 → Option (Int32 × Mm)} {R2 : Mm → Nat → Int32 → Int32 → Int32 → Int32 → Int32 → Option (Int32 × Mm)} {x1 x2 : Int32} : L_X2_blunts_86 R R2 fu ev fu (mem ev (setF w f t)) (ev.1 + 966) x1 x2 (nI p) (nI q) (nI u) (nI 0) = R2 (mem ev (setF w f t)) (ev.1 + 966) x1 x2 (nI p) (nI q) (nI (u + 1)) := by
  obtain ⟨g, hg⟩ : ∃ g, fu = g + 1 := ⟨fu - 1, by omega⟩
  have hL : ∀ σ, L_X2_blunts_86 R R2 fu ev fu σ (ev.1 + 966) x1 x2 (nI p) (nI q) (nI u) (nI 0) = L_X2_blunts_86 R R2 fu ev (g + 1) σ (ev.1 + 966) x1 x2 (nI p) (nI q) (nI u) (nI 0) := fun _ => by rw [← hg]
  rw [hL]
  show b_X2_blunts_86 _ _ _ fu ev _ _ _ _ _ _ _ (nI 0) = _
  unfold b_X2_blunts_86 b_X2_blunts_92 b_X2_blunts_99 b_X2_blunts_139
  rw [if_neg (show ¬ (3 : Int32) ≤ nI 0 by decide), nI_1]
  by_cases c : nI u = nI p
  · rw [if_pos c]
  · rw [if_neg c]
    rcases h with rfl | rfl
    · exact absurd rfl c
    · rw [if_pos rfl]
theorem go_ng {p : Nat} (hf : 4 ≤ fu) (hp : p < 4) {R : Mm → Nat → Int32 → Int32 → Int32 → Option (Int32 × Mm)} {x1 x2 : Int32} : L_X2_blunts_148 R fu ev fu (mem ev (setF w f t)) (ev.1 + 966) x1 x2 (nI p) (nI 0) = b_X2_blunts_185 R fu ev (mem ev (setF w (fun j => if j / 3 = p then -f j else f j) t)) (ev.1 + 966) x1 x2 := by
  obtain ⟨g, hg⟩ : ∃ g, fu = g + 4 := ⟨fu - 4, by omega⟩
  have hL : ∀ σ, L_X2_blunts_148 R fu ev fu σ (ev.1 + 966) x1 x2 (nI p) (nI 0) = L_X2_blunts_148 R fu ev (g + 4) σ (ev.1 + 966) x1 x2 (nI p) (nI 0) := fun _ => by rw [← hg]
  have v2 : ∀ (h : Nat → Int64) (x : Int64) (i j : Nat), i ≠ j → upV h (3 * p + i) x (3 * p + j) = h (3 * p + j) := fun h x i j hi => by
    show (if 3 * p + j = 3 * p + i then x else _) = _
    rw [if_neg (by omega)]
  rw [hL]
  show b_X2_blunts_148 _ _ fu ev _ _ _ _ _ (nI 0) = _
  unfold b_X2_blunts_148 b_X2_blunts_154
  rw [if_neg (show ¬ (3 : Int32) ≤ nI 0 by decide), mf18, Option.bind_some, Option.bind_some, Option.bind_some, i3, u_ld (by omega), Option.bind_some, Option.bind_some, u_st (by omega), Option.bind_some, nI_1]
  show b_X2_blunts_148 _ _ fu ev _ _ _ _ _ (nI 1) = _
  unfold b_X2_blunts_148 b_X2_blunts_154
  rw [if_neg (show ¬ (3 : Int32) ≤ nI 1 by decide), mf18, Option.bind_some, Option.bind_some, Option.bind_some, i3, u_ld (by omega), Option.bind_some, Option.bind_some, u_st (by omega), Option.bind_some, nI_1]
  show b_X2_blunts_148 _ _ fu ev _ _ _ _ _ (nI 2) = _
  unfold b_X2_blunts_148 b_X2_blunts_154
  rw [if_neg (show ¬ (3 : Int32) ≤ nI 2 by decide), mf18, Option.bind_some, Option.bind_some, Option.bind_some, i3, u_ld (by omega), Option.bind_some, Option.bind_some, u_st (by omega), Option.bind_some, nI_1]
  show b_X2_blunts_148 _ _ fu ev _ _ _ _ _ (nI 3) = _
  unfold b_X2_blunts_148
  rw [if_pos (show (3 : Int32) ≤ nI 3 by decide)]
  refine congrArg (fun y => b_X2_blunts_185 R fu ev (mem ev y) (ev.1 + 966) x1 x2) (F_ext (fun i hi => ?_) (fun _ _ => rfl))
  rw [v2 _ _ 0 1 (by decide), v2 _ _ 1 2 (by decide), v2 _ _ 0 2 (by decide)]
  by_cases c : i / 3 = p
  · have e : i = 3 * p + i % 3 := by omega
    have m3 : i % 3 < 3 := by omega
    obtain ⟨m, hm⟩ : ∃ m, m = i % 3 := ⟨_, rfl⟩
    show _ = if i / 3 = p then -f i else f i
    rw [if_pos c, e, ← hm]
    rw [← hm] at m3
    match m, m3 with
    | 0, _ => rw [v2 _ _ 2 0 (by decide), v2 _ _ 1 0 (by decide)]; exact if_pos rfl
    | 1, _ => rw [v2 _ _ 2 1 (by decide)]; exact if_pos rfl
    | 2, _ => exact if_pos rfl
  · show (if i = 3 * p + 2 then _ else if i = 3 * p + 1 then _ else if i = 3 * p + 0 then _ else f i) = if i / 3 = p then -f i else f i
    rw [if_neg c, if_neg (by omega), if_neg (by omega), if_neg (by omega)]
theorem X2_go_0 (hf : 5 ≤ fu) {R : Mm → Nat → Int32 → Int32 → Int32 → Option (Int32 × Mm)} {x1 x2 : Int32} : b_X2_blunts_62 R fu ev (mem ev (setF w f t)) (ev.1 + 966) x1 x2 (0 : Int32) = b_X2_blunts_185 R fu ev (mem ev (setF w (goF f 0) t)) (ev.1 + 966) x1 x2 := by
  obtain ⟨g, hg⟩ : ∃ g, fu = g + 5 := ⟨fu - 5, by omega⟩
  have hL : ∀ σ, L_X2_blunts_77 R fu ev fu σ (ev.1 + 966) x1 x2 (nI 1) (nI 2) (nI 0) = L_X2_blunts_77 R fu ev (g + 5) σ (ev.1 + 966) x1 x2 (nI 1) (nI 2) (nI 0) := fun _ => by rw [← hg]
  show L_X2_blunts_77 R fu ev fu (mem ev (setF w f t)) (ev.1 + 966) x1 x2 (nI 1) (nI 2) (nI 0) = _
  rw [hL]
  show b_X2_blunts_77 _ _ fu ev _ _ _ _ _ _ (nI 0) = _
  unfold b_X2_blunts_77 b_X2_blunts_83
  rw [if_neg (show ¬ (4 : Int32) ≤ nI 0 by decide), show (0 : Int32) = nI 0 from rfl, go_in (by omega) (by decide) (by decide) (by decide) (by decide) (by decide)]
  show b_X2_blunts_77 _ _ fu ev _ _ _ _ _ _ (nI 1) = _
  unfold b_X2_blunts_77 b_X2_blunts_83
  rw [if_neg (show ¬ (4 : Int32) ≤ nI 1 by decide), show (0 : Int32) = nI 0 from rfl, go_sk (by omega) (by decide)]
  show b_X2_blunts_77 _ _ fu ev _ _ _ _ _ _ (nI 2) = _
  unfold b_X2_blunts_77 b_X2_blunts_83
  rw [if_neg (show ¬ (4 : Int32) ≤ nI 2 by decide), show (0 : Int32) = nI 0 from rfl, go_sk (by omega) (by decide)]
  show b_X2_blunts_77 _ _ fu ev _ _ _ _ _ _ (nI 3) = _
  unfold b_X2_blunts_77 b_X2_blunts_83
  rw [if_neg (show ¬ (4 : Int32) ≤ nI 3 by decide), show (0 : Int32) = nI 0 from rfl, go_in (by omega) (by decide) (by decide) (by decide) (by decide) (by decide)]
  show b_X2_blunts_77 _ _ fu ev _ _ _ _ _ _ (nI 4) = _
  unfold b_X2_blunts_77 b_X2_blunts_145
  rw [if_pos (show (4 : Int32) ≤ nI 4 by decide), show (0 : Int32) = nI 0 from rfl, go_ng (by omega) (by decide)]
  refine congrArg (fun y => b_X2_blunts_185 R fu ev (mem ev y) (ev.1 + 966) x1 x2) (F_ext (fun i hi => ?_) (fun _ _ => rfl))
  match i, hi with
  | 0, _ => rfl
  | 1, _ => rfl
  | 2, _ => rfl
  | 3, _ => rfl
  | 4, _ => rfl
  | 5, _ => rfl
  | 6, _ => rfl
  | 7, _ => rfl
  | 8, _ => rfl
  | 9, _ => rfl
  | 10, _ => rfl
  | 11, _ => rfl
theorem X2_go_1 (hf : 5 ≤ fu) {R : Mm → Nat → Int32 → Int32 → Int32 → Option (Int32 × Mm)} {x1 x2 : Int32} : b_X2_blunts_62 R fu ev (mem ev (setF w f t)) (ev.1 + 966) x1 x2 (1 : Int32) = b_X2_blunts_185 R fu ev (mem ev (setF w (goF f 1) t)) (ev.1 + 966) x1 x2 := by
  obtain ⟨g, hg⟩ : ∃ g, fu = g + 5 := ⟨fu - 5, by omega⟩
  have hL : ∀ σ, L_X2_blunts_77 R fu ev fu σ (ev.1 + 966) x1 x2 (nI 0) (nI 2) (nI 0) = L_X2_blunts_77 R fu ev (g + 5) σ (ev.1 + 966) x1 x2 (nI 0) (nI 2) (nI 0) := fun _ => by rw [← hg]
  show L_X2_blunts_77 R fu ev fu (mem ev (setF w f t)) (ev.1 + 966) x1 x2 (nI 0) (nI 2) (nI 0) = _
  rw [hL]
  show b_X2_blunts_77 _ _ fu ev _ _ _ _ _ _ (nI 0) = _
  unfold b_X2_blunts_77 b_X2_blunts_83
  rw [if_neg (show ¬ (4 : Int32) ≤ nI 0 by decide), show (0 : Int32) = nI 0 from rfl, go_sk (by omega) (by decide)]
  show b_X2_blunts_77 _ _ fu ev _ _ _ _ _ _ (nI 1) = _
  unfold b_X2_blunts_77 b_X2_blunts_83
  rw [if_neg (show ¬ (4 : Int32) ≤ nI 1 by decide), show (0 : Int32) = nI 0 from rfl, go_in (by omega) (by decide) (by decide) (by decide) (by decide) (by decide)]
  show b_X2_blunts_77 _ _ fu ev _ _ _ _ _ _ (nI 2) = _
  unfold b_X2_blunts_77 b_X2_blunts_83
  rw [if_neg (show ¬ (4 : Int32) ≤ nI 2 by decide), show (0 : Int32) = nI 0 from rfl, go_sk (by omega) (by decide)]
  show b_X2_blunts_77 _ _ fu ev _ _ _ _ _ _ (nI 3) = _
  unfold b_X2_blunts_77 b_X2_blunts_83
  rw [if_neg (show ¬ (4 : Int32) ≤ nI 3 by decide), show (0 : Int32) = nI 0 from rfl, go_in (by omega) (by decide) (by decide) (by decide) (by decide) (by decide)]
  show b_X2_blunts_77 _ _ fu ev _ _ _ _ _ _ (nI 4) = _
  unfold b_X2_blunts_77 b_X2_blunts_145
  rw [if_pos (show (4 : Int32) ≤ nI 4 by decide), show (0 : Int32) = nI 0 from rfl, go_ng (by omega) (by decide)]
  refine congrArg (fun y => b_X2_blunts_185 R fu ev (mem ev y) (ev.1 + 966) x1 x2) (F_ext (fun i hi => ?_) (fun _ _ => rfl))
  match i, hi with
  | 0, _ => rfl
  | 1, _ => rfl
  | 2, _ => rfl
  | 3, _ => rfl
  | 4, _ => rfl
  | 5, _ => rfl
  | 6, _ => rfl
  | 7, _ => rfl
  | 8, _ => rfl
  | 9, _ => rfl
  | 10, _ => rfl
  | 11, _ => rfl
theorem X2_go_2 (hf : 5 ≤ fu) {R : Mm → Nat → Int32 → Int32 → Int32 → Option (Int32 × Mm)} {x1 x2 : Int32} : b_X2_blunts_62 R fu ev (mem ev (setF w f t)) (ev.1 + 966) x1 x2 (2 : Int32) = b_X2_blunts_185 R fu ev (mem ev (setF w (goF f 2) t)) (ev.1 + 966) x1 x2 := by
  obtain ⟨g, hg⟩ : ∃ g, fu = g + 5 := ⟨fu - 5, by omega⟩
  have hL : ∀ σ, L_X2_blunts_77 R fu ev fu σ (ev.1 + 966) x1 x2 (nI 0) (nI 1) (nI 0) = L_X2_blunts_77 R fu ev (g + 5) σ (ev.1 + 966) x1 x2 (nI 0) (nI 1) (nI 0) := fun _ => by rw [← hg]
  show L_X2_blunts_77 R fu ev fu (mem ev (setF w f t)) (ev.1 + 966) x1 x2 (nI 0) (nI 1) (nI 0) = _
  rw [hL]
  show b_X2_blunts_77 _ _ fu ev _ _ _ _ _ _ (nI 0) = _
  unfold b_X2_blunts_77 b_X2_blunts_83
  rw [if_neg (show ¬ (4 : Int32) ≤ nI 0 by decide), show (0 : Int32) = nI 0 from rfl, go_sk (by omega) (by decide)]
  show b_X2_blunts_77 _ _ fu ev _ _ _ _ _ _ (nI 1) = _
  unfold b_X2_blunts_77 b_X2_blunts_83
  rw [if_neg (show ¬ (4 : Int32) ≤ nI 1 by decide), show (0 : Int32) = nI 0 from rfl, go_sk (by omega) (by decide)]
  show b_X2_blunts_77 _ _ fu ev _ _ _ _ _ _ (nI 2) = _
  unfold b_X2_blunts_77 b_X2_blunts_83
  rw [if_neg (show ¬ (4 : Int32) ≤ nI 2 by decide), show (0 : Int32) = nI 0 from rfl, go_in (by omega) (by decide) (by decide) (by decide) (by decide) (by decide)]
  show b_X2_blunts_77 _ _ fu ev _ _ _ _ _ _ (nI 3) = _
  unfold b_X2_blunts_77 b_X2_blunts_83
  rw [if_neg (show ¬ (4 : Int32) ≤ nI 3 by decide), show (0 : Int32) = nI 0 from rfl, go_in (by omega) (by decide) (by decide) (by decide) (by decide) (by decide)]
  show b_X2_blunts_77 _ _ fu ev _ _ _ _ _ _ (nI 4) = _
  unfold b_X2_blunts_77 b_X2_blunts_145
  rw [if_pos (show (4 : Int32) ≤ nI 4 by decide), show (0 : Int32) = nI 0 from rfl, go_ng (by omega) (by decide)]
  refine congrArg (fun y => b_X2_blunts_185 R fu ev (mem ev y) (ev.1 + 966) x1 x2) (F_ext (fun i hi => ?_) (fun _ _ => rfl))
  match i, hi with
  | 0, _ => rfl
  | 1, _ => rfl
  | 2, _ => rfl
  | 3, _ => rfl
  | 4, _ => rfl
  | 5, _ => rfl
  | 6, _ => rfl
  | 7, _ => rfl
  | 8, _ => rfl
  | 9, _ => rfl
  | 10, _ => rfl
  | 11, _ => rfl
theorem X2_go_3 (hf : 5 ≤ fu) {R : Mm → Nat → Int32 → Int32 → Int32 → Option (Int32 × Mm)} {x1 x2 : Int32} : b_X2_blunts_62 R fu ev (mem ev (setF w f t)) (ev.1 + 966) x1 x2 (3 : Int32) = b_X2_blunts_185 R fu ev (mem ev (setF w (goF f 3) t)) (ev.1 + 966) x1 x2 := by
  obtain ⟨g, hg⟩ : ∃ g, fu = g + 5 := ⟨fu - 5, by omega⟩
  have hL : ∀ σ, L_X2_blunts_77 R fu ev fu σ (ev.1 + 966) x1 x2 (nI 0) (nI 3) (nI 0) = L_X2_blunts_77 R fu ev (g + 5) σ (ev.1 + 966) x1 x2 (nI 0) (nI 3) (nI 0) := fun _ => by rw [← hg]
  show L_X2_blunts_77 R fu ev fu (mem ev (setF w f t)) (ev.1 + 966) x1 x2 (nI 0) (nI 3) (nI 0) = _
  rw [hL]
  show b_X2_blunts_77 _ _ fu ev _ _ _ _ _ _ (nI 0) = _
  unfold b_X2_blunts_77 b_X2_blunts_83
  rw [if_neg (show ¬ (4 : Int32) ≤ nI 0 by decide), show (0 : Int32) = nI 0 from rfl, go_sk (by omega) (by decide)]
  show b_X2_blunts_77 _ _ fu ev _ _ _ _ _ _ (nI 1) = _
  unfold b_X2_blunts_77 b_X2_blunts_83
  rw [if_neg (show ¬ (4 : Int32) ≤ nI 1 by decide), show (0 : Int32) = nI 0 from rfl, go_in (by omega) (by decide) (by decide) (by decide) (by decide) (by decide)]
  show b_X2_blunts_77 _ _ fu ev _ _ _ _ _ _ (nI 2) = _
  unfold b_X2_blunts_77 b_X2_blunts_83
  rw [if_neg (show ¬ (4 : Int32) ≤ nI 2 by decide), show (0 : Int32) = nI 0 from rfl, go_in (by omega) (by decide) (by decide) (by decide) (by decide) (by decide)]
  show b_X2_blunts_77 _ _ fu ev _ _ _ _ _ _ (nI 3) = _
  unfold b_X2_blunts_77 b_X2_blunts_83
  rw [if_neg (show ¬ (4 : Int32) ≤ nI 3 by decide), show (0 : Int32) = nI 0 from rfl, go_sk (by omega) (by decide)]
  show b_X2_blunts_77 _ _ fu ev _ _ _ _ _ _ (nI 4) = _
  unfold b_X2_blunts_77 b_X2_blunts_145
  rw [if_pos (show (4 : Int32) ≤ nI 4 by decide), show (0 : Int32) = nI 0 from rfl, go_ng (by omega) (by decide)]
  refine congrArg (fun y => b_X2_blunts_185 R fu ev (mem ev y) (ev.1 + 966) x1 x2) (F_ext (fun i hi => ?_) (fun _ _ => rfl))
  match i, hi with
  | 0, _ => rfl
  | 1, _ => rfl
  | 2, _ => rfl
  | 3, _ => rfl
  | 4, _ => rfl
  | 5, _ => rfl
  | 6, _ => rfl
  | 7, _ => rfl
  | 8, _ => rfl
  | 9, _ => rfl
  | 10, _ => rfl
  | 11, _ => rfl
theorem X2_go_4 (hf : 5 ≤ fu) {R : Mm → Nat → Int32 → Int32 → Int32 → Option (Int32 × Mm)} {x1 x2 : Int32} : b_X2_blunts_62 R fu ev (mem ev (setF w f t)) (ev.1 + 966) x1 x2 (4 : Int32) = b_X2_blunts_185 R fu ev (mem ev (setF w (goF f 4) t)) (ev.1 + 966) x1 x2 := by
  obtain ⟨g, hg⟩ : ∃ g, fu = g + 5 := ⟨fu - 5, by omega⟩
  have hL : ∀ σ, L_X2_blunts_77 R fu ev fu σ (ev.1 + 966) x1 x2 (nI 1) (nI 3) (nI 0) = L_X2_blunts_77 R fu ev (g + 5) σ (ev.1 + 966) x1 x2 (nI 1) (nI 3) (nI 0) := fun _ => by rw [← hg]
  show L_X2_blunts_77 R fu ev fu (mem ev (setF w f t)) (ev.1 + 966) x1 x2 (nI 1) (nI 3) (nI 0) = _
  rw [hL]
  show b_X2_blunts_77 _ _ fu ev _ _ _ _ _ _ (nI 0) = _
  unfold b_X2_blunts_77 b_X2_blunts_83
  rw [if_neg (show ¬ (4 : Int32) ≤ nI 0 by decide), show (0 : Int32) = nI 0 from rfl, go_in (by omega) (by decide) (by decide) (by decide) (by decide) (by decide)]
  show b_X2_blunts_77 _ _ fu ev _ _ _ _ _ _ (nI 1) = _
  unfold b_X2_blunts_77 b_X2_blunts_83
  rw [if_neg (show ¬ (4 : Int32) ≤ nI 1 by decide), show (0 : Int32) = nI 0 from rfl, go_sk (by omega) (by decide)]
  show b_X2_blunts_77 _ _ fu ev _ _ _ _ _ _ (nI 2) = _
  unfold b_X2_blunts_77 b_X2_blunts_83
  rw [if_neg (show ¬ (4 : Int32) ≤ nI 2 by decide), show (0 : Int32) = nI 0 from rfl, go_in (by omega) (by decide) (by decide) (by decide) (by decide) (by decide)]
  show b_X2_blunts_77 _ _ fu ev _ _ _ _ _ _ (nI 3) = _
  unfold b_X2_blunts_77 b_X2_blunts_83
  rw [if_neg (show ¬ (4 : Int32) ≤ nI 3 by decide), show (0 : Int32) = nI 0 from rfl, go_sk (by omega) (by decide)]
  show b_X2_blunts_77 _ _ fu ev _ _ _ _ _ _ (nI 4) = _
  unfold b_X2_blunts_77 b_X2_blunts_145
  rw [if_pos (show (4 : Int32) ≤ nI 4 by decide), show (0 : Int32) = nI 0 from rfl, go_ng (by omega) (by decide)]
  refine congrArg (fun y => b_X2_blunts_185 R fu ev (mem ev y) (ev.1 + 966) x1 x2) (F_ext (fun i hi => ?_) (fun _ _ => rfl))
  match i, hi with
  | 0, _ => rfl
  | 1, _ => rfl
  | 2, _ => rfl
  | 3, _ => rfl
  | 4, _ => rfl
  | 5, _ => rfl
  | 6, _ => rfl
  | 7, _ => rfl
  | 8, _ => rfl
  | 9, _ => rfl
  | 10, _ => rfl
  | 11, _ => rfl
theorem X2_go_5 (hf : 5 ≤ fu) {R : Mm → Nat → Int32 → Int32 → Int32 → Option (Int32 × Mm)} {x1 x2 : Int32} : b_X2_blunts_62 R fu ev (mem ev (setF w f t)) (ev.1 + 966) x1 x2 (5 : Int32) = b_X2_blunts_185 R fu ev (mem ev (setF w (goF f 5) t)) (ev.1 + 966) x1 x2 := by
  obtain ⟨g, hg⟩ : ∃ g, fu = g + 5 := ⟨fu - 5, by omega⟩
  have hL : ∀ σ, L_X2_blunts_77 R fu ev fu σ (ev.1 + 966) x1 x2 (nI 2) (nI 3) (nI 0) = L_X2_blunts_77 R fu ev (g + 5) σ (ev.1 + 966) x1 x2 (nI 2) (nI 3) (nI 0) := fun _ => by rw [← hg]
  show L_X2_blunts_77 R fu ev fu (mem ev (setF w f t)) (ev.1 + 966) x1 x2 (nI 2) (nI 3) (nI 0) = _
  rw [hL]
  show b_X2_blunts_77 _ _ fu ev _ _ _ _ _ _ (nI 0) = _
  unfold b_X2_blunts_77 b_X2_blunts_83
  rw [if_neg (show ¬ (4 : Int32) ≤ nI 0 by decide), show (0 : Int32) = nI 0 from rfl, go_in (by omega) (by decide) (by decide) (by decide) (by decide) (by decide)]
  show b_X2_blunts_77 _ _ fu ev _ _ _ _ _ _ (nI 1) = _
  unfold b_X2_blunts_77 b_X2_blunts_83
  rw [if_neg (show ¬ (4 : Int32) ≤ nI 1 by decide), show (0 : Int32) = nI 0 from rfl, go_in (by omega) (by decide) (by decide) (by decide) (by decide) (by decide)]
  show b_X2_blunts_77 _ _ fu ev _ _ _ _ _ _ (nI 2) = _
  unfold b_X2_blunts_77 b_X2_blunts_83
  rw [if_neg (show ¬ (4 : Int32) ≤ nI 2 by decide), show (0 : Int32) = nI 0 from rfl, go_sk (by omega) (by decide)]
  show b_X2_blunts_77 _ _ fu ev _ _ _ _ _ _ (nI 3) = _
  unfold b_X2_blunts_77 b_X2_blunts_83
  rw [if_neg (show ¬ (4 : Int32) ≤ nI 3 by decide), show (0 : Int32) = nI 0 from rfl, go_sk (by omega) (by decide)]
  show b_X2_blunts_77 _ _ fu ev _ _ _ _ _ _ (nI 4) = _
  unfold b_X2_blunts_77 b_X2_blunts_145
  rw [if_pos (show (4 : Int32) ≤ nI 4 by decide), show (0 : Int32) = nI 0 from rfl, go_ng (by omega) (by decide)]
  refine congrArg (fun y => b_X2_blunts_185 R fu ev (mem ev y) (ev.1 + 966) x1 x2) (F_ext (fun i hi => ?_) (fun _ _ => rfl))
  match i, hi with
  | 0, _ => rfl
  | 1, _ => rfl
  | 2, _ => rfl
  | 3, _ => rfl
  | 4, _ => rfl
  | 5, _ => rfl
  | 6, _ => rfl
  | 7, _ => rfl
  | 8, _ => rfl
  | 9, _ => rfl
  | 10, _ => rfl
  | 11, _ => rfl
theorem X2_go_k (hf : 5 ≤ fu) (hk : k < 6) {R : Mm → Nat → Int32 → Int32 → Int32 → Option (Int32 × Mm)} {x1 x2 : Int32} : b_X2_blunts_62 R fu ev (mem ev (setF w f t)) (ev.1 + 966) x1 x2 (nI k) = b_X2_blunts_185 R fu ev (mem ev (setF w (goF f k) t)) (ev.1 + 966) x1 x2 := by
  match k, hk with
  | 0, _ => exact X2_go_0 hf
  | 1, _ => exact X2_go_1 hf
  | 2, _ => exact X2_go_2 hf
  | 3, _ => exact X2_go_3 hf
  | 4, _ => exact X2_go_4 hf
  | 5, _ => exact X2_go_5 hf
end XFM
