/-! THE CONSTRUCTORS: what is to be made -/
def w0 (ev : Ev) (s : Nat) : Wd := (fun _ _ => 0, fun q i => if (q = 0 ∧ i = 24) ∨ q = 982 then -1 else 0, fun q i => if q = 0 ∧ i = 19 then some (xst ev 100) else if q = 26 ∧ i < 12 then some (ev.1 + cr (15 + i)) else none, fun _ => none, ev.1 + 984, s)
abbrev aR (κ n : Nat) (e : Nat → Option Nat) : Option Ob := some (.inl (κ, n, .inr (.inr (.inr (.inr e)))))
/-- seven of the places are not yet whole -/
def TT (ev : Ev) (l0 : List Value) (e1 e26 e36 e42 : Nat → Option Nat) (l9 : List Value) (e8 : Nat → Int32) (r : Nat) : Option Ob :=
  if r = 0 then some (.inr (0, l0)) else if r = 1 then aR 5 6 e1 else if r = 26 then aR 5 12 e26 else if r = 36 then aR 5 91 e36 else if r = 42 then aR 5 6 e42 else if r = 966 then some (.inr (2, l9)) else if r = 982 then some (.inl (0, 4, .inl e8)) else fx ev (w0 ev 0) r
section XTT
variable {ev : Ev} {t : Nat → Option Ob} {n s r k N κ fu c : Nat} {X X' : Option Ob} {l l0 l0' l9 l9' : List Value} {e1 e26 e36 e42 e' : Nat → Option Nat} {e8 e8' : Nat → Int32}
theorem TT_x (h0 : r ≠ 0) (h1 : r ≠ 1) (h2 : r ≠ 26) (h3 : r ≠ 36) (h4 : r ≠ 42) (h5 : r ≠ 966) (h6 : r ≠ 982) : TT ev l0 e1 e26 e36 e42 l9 e8 r = fx ev (w0 ev 0) r := by
  unfold TT
  rw [if_neg h0, if_neg h1, if_neg h2, if_neg h3, if_neg h4, if_neg h5, if_neg h6]
theorem Rn_same (hr : r < n) (h : X = t r) : va_up (Rn t n) r X = Rn t n := by
  funext q
  show (if q = r then X else if q < n then t q else none) = if q < n then t q else none
  by_cases c : q = r
  · rw [if_pos c, c, if_pos hr, h]
  · rw [if_neg c]
theorem Rn_to {t' : Nat → Option Ob} (hr : r < n) (h : X = t' r) (h2 : ∀ q : Nat, q ≠ r → t' q = t q) : va_up (Rn t n) r X = Rn t' n := by
  funext q
  show (if q = r then X else if q < n then t q else none) = if q < n then t' q else none
  by_cases c : q = r
  · rw [if_pos c, c, if_pos hr, h]
  · rw [if_neg c, h2 q c]
theorem Rn_new' {t' : Nat → Option Ob} (h : X = t' n) (h2 : ∀ q : Nat, q < n → t' q = t q) : va_up (Rn t n) n X = Rn t' (n + 1) := by
  funext q
  show (if q = n then X else if q < n then t q else none) = if q < n + 1 then t' q else none
  by_cases c : q = n
  · rw [if_pos c, if_pos (by omega), c, h]
  · rw [if_neg c]
    by_cases c2 : q < n
    · rw [if_pos c2, if_pos (by omega), h2 q c2]
    · rw [if_neg c2, if_neg (by omega)]
theorem u0 (hn : 0 < n) : va_up (Rn (TT ev l0 e1 e26 e36 e42 l9 e8) n) 0 (some (.inr (0, l0'))) = Rn (TT ev l0' e1 e26 e36 e42 l9 e8) n := Rn_to hn rfl (fun q hq => by unfold TT; rw [if_neg hq, if_neg hq])
theorem u1 (hn : 1 < n) : va_up (Rn (TT ev l0 e1 e26 e36 e42 l9 e8) n) 1 (aR 5 6 e') = Rn (TT ev l0 e' e26 e36 e42 l9 e8) n := Rn_to hn rfl (fun q hq => by unfold TT; simp only [if_neg hq])
theorem u26 (hn : 26 < n) : va_up (Rn (TT ev l0 e1 e26 e36 e42 l9 e8) n) 26 (aR 5 12 e') = Rn (TT ev l0 e1 e' e36 e42 l9 e8) n := Rn_to hn rfl (fun q hq => by unfold TT; simp only [if_neg hq])
theorem u36 (hn : 36 < n) : va_up (Rn (TT ev l0 e1 e26 e36 e42 l9 e8) n) 36 (aR 5 91 e') = Rn (TT ev l0 e1 e26 e' e42 l9 e8) n := Rn_to hn rfl (fun q hq => by unfold TT; simp only [if_neg hq])
theorem u42 (hn : 42 < n) : va_up (Rn (TT ev l0 e1 e26 e36 e42 l9 e8) n) 42 (aR 5 6 e') = Rn (TT ev l0 e1 e26 e36 e' l9 e8) n := Rn_to hn rfl (fun q hq => by unfold TT; simp only [if_neg hq])
theorem u966 (hn : 966 < n) : va_up (Rn (TT ev l0 e1 e26 e36 e42 l9 e8) n) 966 (some (.inr (2, l9'))) = Rn (TT ev l0 e1 e26 e36 e42 l9' e8) n := Rn_to hn rfl (fun q hq => by unfold TT; simp only [if_neg hq])
theorem u982 (hn : 982 < n) : va_up (Rn (TT ev l0 e1 e26 e36 e42 l9 e8) n) 982 (some (.inl (0, 4, .inl e8'))) = Rn (TT ev l0 e1 e26 e36 e42 l9 e8') n := Rn_to hn rfl (fun q hq => by unfold TT; simp only [if_neg hq])
theorem zJ (hd : ds r = (1, κ, N)) : fx ev (w0 ev 0) r = some (.inl (1, N, .inr (.inl fun _ => 0))) := by
  unfold fx
  rw [hd]
  refine congrArg (fun q => some (Sum.inl (1, N, Sum.inr (Sum.inl q)))) (funext fun i => ?_)
  show (if i < N then (0 : Int64) else 0) = 0
  split <;> rfl
theorem zI (hd : ds r = (2, κ, N)) (h8 : r ≠ 982) : fx ev (w0 ev 0) r = some (.inl (κ, N, .inl fun _ => 0)) := by
  unfold fx
  rw [hd]
  refine congrArg (fun q => some (Sum.inl (κ, N, Sum.inl q))) (funext fun i => ?_)
  show (if i < N then (if (r = 0 ∧ i = 24) ∨ r = 982 then (-1 : Int32) else 0) else 0) = 0
  have h0 : r ≠ 0 := fun z => by
    rw [z, show ds 0 = (4, 0, 25) from rfl] at hd
    injection hd with y1 _
    exact absurd y1 (by decide)
  rw [if_neg (show ¬ ((r = 0 ∧ i = 24) ∨ r = 982) from fun z => z.elim (fun y => h0 y.1) h8)]
  split <;> rfl
theorem zA (hd : ds r = (3, κ, N)) (hm : ∀ k : Nat, mu r k = true) (h26 : r ≠ 26) : fx ev (w0 ev 0) r = aR κ N (fun _ => none) := by
  unfold fx
  rw [hd]
  refine congrArg (aR κ N) (funext fun i => ?_)
  have h0 : r ≠ 0 := fun z => by
    rw [z, show ds 0 = (4, 0, 25) from rfl] at hd
    injection hd with y1 _
    exact absurd y1 (by decide)
  show (if i < N then rf ev (w0 ev 0) r i else none) = none
  unfold rf
  rw [if_pos (hm i)]
  show (if i < N then (if r = 0 ∧ i = 19 then some (xst ev 100) else if r = 26 ∧ i < 12 then some (ev.1 + cr (15 + i)) else none) else none) = none
  rw [if_neg (show ¬ (r = 0 ∧ i = 19) from fun z => h0 z.1), if_neg (show ¬ (r = 26 ∧ i < 12) from fun z => h26 z.1)]
  split <;> rfl
/-- the cells of the pool -/
theorem zC (hc : c < 118) : CellT ev (TT ev l0 e1 e26 e36 e42 l9 e8) (cr c) := by
  have h := cr_ne hc
  have h2 := cr_lt hc
  have nx : ∀ q : Nat, q < 8 → TT ev l0 e1 e26 e36 e42 l9 e8 (cr c + q) = fx ev (w0 ev 0) (cr c + q) := fun q hq => TT_x (by omega) (by omega) (by omega) (by omega) (by omega) (by omega) (by omega)
  have n0 : TT ev l0 e1 e26 e36 e42 l9 e8 (cr c) = fx ev (w0 ev 0) (cr c) := nx 0 (by decide)
  refine ⟨?_, ?_, ?_, ?_, ?_, ?_, ?_, ?_⟩
  · rw [n0]
    unfold fx
    have d0 : ds (cr c) = (4, 1, 4) := dsC (q := 0) hc (by decide)
    rw [d0]
    have r0 : ∀ k : Nat, rf ev (w0 ev 0) (cr c) k = some (ev.1 + ([cr c + 1, cr c + 2, cr c + 3, cr c + 7] : List Nat).getD k 0) := fun k => by
      unfold rf
      rw [if_neg (by rw [muC0 hc]; decide), cAC hc]
    show some (Sum.inr (1, [va_rf (rf ev (w0 ev 0) (cr c) 0), va_rf (rf ev (w0 ev 0) (cr c) 1), va_rf (rf ev (w0 ev 0) (cr c) 2), va_rf (rf ev (w0 ev 0) (cr c) 3)])) = _
    rw [r0, r0, r0, r0]
    rfl
  · rw [nx 1 (by decide)]; exact zJ (dsC hc (by decide))
  · rw [nx 2 (by decide)]; exact zJ (dsC hc (by decide))
  · rw [nx 3 (by decide)]
    unfold fx
    have d3 : ds (cr c + 3) = (3, 6, 3) := dsC hc (by decide)
    rw [d3]
    refine congrArg (fun q => some (Sum.inl (6, 3, Sum.inr (Sum.inr (Sum.inr (Sum.inr q)))))) (funext fun i => ?_)
    show (if i < 3 then rf ev (w0 ev 0) (cr c + 3) i else none) = if i < 3 then some (ev.1 + (cr c + 3) + 1 + i) else none
    have e : rf ev (w0 ev 0) (cr c + 3) i = some (ev.1 + (cr c + 3) + 1 + i) := by
      unfold rf
      rw [if_neg (by rw [muC hc (by decide)]; decide), cAC3 hc, show ev.1 + (cr c + 4 + i) = ev.1 + (cr c + 3) + 1 + i by omega]
    rw [e]
  · rw [nx 4 (by decide)]; exact zJ (dsC hc (by decide))
  · rw [nx 5 (by decide)]; exact zJ (dsC hc (by decide))
  · rw [nx 6 (by decide)]; exact zJ (dsC hc (by decide))
  · rw [nx 7 (by decide)]; exact zI (dsC hc (by decide)) (by omega)
/-- the second object's and the first object's fields -/
theorem p0 {y : Nat} (hn : 0 < n) (hk : k < l0.length) : pfA ev (rm ev (Rn (TT ev l0 e1 e26 e36 e42 l9 e8) n) n s) ev.1 0 k (some y) = some (rm ev (Rn (TT ev (l0.set k (.ref y)) e1 e26 e36 e42 l9 e8) n) n s) := by
  have := rm_pV (ev := ev) (R := Rn (TT ev l0 e1 e26 e36 e42 l9 e8) n) (n := n) (s := s) (r := 0) (ci := 0) (l := l0) (k := k) (v := .ref y) (if_pos hn) hk
  rw [u0 hn] at this
  exact this
theorem p966 {y : Nat} (hn : 966 < n) (hk : k < l9.length) : pfA ev (rm ev (Rn (TT ev l0 e1 e26 e36 e42 l9 e8) n) n s) (ev.1 + 966) 2 k (some y) = some (rm ev (Rn (TT ev l0 e1 e26 e36 e42 (l9.set k (.ref y)) e8) n) n s) := by
  have := rm_pV (ev := ev) (R := Rn (TT ev l0 e1 e26 e36 e42 l9 e8) n) (n := n) (s := s) (r := 966) (ci := 2) (l := l9) (k := k) (v := .ref y) (if_pos hn) hk
  rw [u966 hn] at this
  exact this
end XTT
