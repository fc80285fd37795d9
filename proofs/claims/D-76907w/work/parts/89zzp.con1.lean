/-! THE CONSTRUCTORS: the first object's cells -/
def fE (ev : Ev) (c st i : Nat) : Nat → Option Nat := fun k => if k < i then some (ev.1 + cr (c + st * k)) else none
section XK1
variable {ev : Ev} {R t : Nat → Option Ob} {n s fu k r N κ c st i : Nat} {l9 : List Value} {e e1 e26 e36 e42 : Nat → Option Nat} {e8 : Nat → Int32} {x : Option Nat}
theorem fE_0 : fE ev c st 0 = fun _ => none := by
  funext k
  exact if_neg (by omega)
theorem fE_up : va_up (fE ev c st i) i (some (ev.1 + cr (c + st * i))) = fE ev c st (i + 1) := by
  funext k
  show (if k = i then some (ev.1 + cr (c + st * i)) else if k < i then some (ev.1 + cr (c + st * k)) else none) = if k < i + 1 then some (ev.1 + cr (c + st * k)) else none
  by_cases h : k = i
  · rw [if_pos h, if_pos (by omega), h]
  · rw [if_neg h]
    by_cases h2 : k < i
    · rw [if_pos h2, if_pos (by omega)]
    · rw [if_neg h2, if_neg (by omega)]
theorem rm_astA (hr : R r = aR κ N e) (hk : k < N) (hN : N < 1000) (hb : x.all (asg (rm ev R n s) κ) = true) : astA ev κ (rm ev R n s) (ev.1 + r) (nI k) x = some (rm ev (va_up R r (aR κ N (va_up e k x))) n s) := by
  unfold astA
  rw [rm_at, hr]
  show (if κ = κ ∧ ev.1 ≤ ev.1 + r ∧ x.all (asg (rm ev R n s) κ) = true ∧ ¬ (nI k < 0 ∨ N ≤ (nI k).toNatClampNeg) then some (va_up (rm ev R n s).1 (ev.1 + r) (aR κ N (va_up e (nI k).toNatClampNeg x)), (rm ev R n s).2) else none) = _
  rw [if_pos ⟨rfl, Nat.le_add_right _ _, hb, nI_in hk (by omega)⟩, nI_clamp (by omega)]
  exact congrArg some (rm_up (n' := n) (s' := s))
theorem rm_asg {q : Nat} (hq : q < n) (ht : CellT ev t q) : (some (ev.1 + q)).all (asg (rm ev (Rn t n) n s) 5) = true := by
  show asg _ 5 (ev.1 + q) = true
  unfold asg
  have e : Rn t n q = t q := if_pos hq
  rw [rm_at, e, ht.1]
  show (decide ("CellReducer$Cell" = "CellReducer$Cell") || decide (("CellReducer$Cell", "CellReducer$Cell") ∈ xCa)) = true
  decide
theorem rm_g0 {l : List Value} {y : Nat} (hn : 0 < n) (hk : l[k]? = some (.ref y)) : gfA (rm ev (Rn (TT ev l e1 e26 e36 e42 l9 e8) n) n s) ev.1 0 k = some (some y) := by
  have := rm_gV (ev := ev) (R := Rn (TT ev l e1 e26 e36 e42 l9 e8) n) (n := n) (s := s) (r := 0) (ci := 0) (l := l) (k := k) (if_pos hn)
  unfold gfA
  have e : gfV (rm ev (Rn (TT ev l e1 e26 e36 e42 l9 e8) n) n s) ev.1 0 k = l[k]? := this
  rw [e, hk]
theorem con_193 (h1 : ev.1 + 1000 ≤ ev.2.1) (h2 : s + 400 ≤ ev.2.2.1) : ∀ d i g : Nat, i + d = 6 → d < g → L_X0_init_193 fu ev g (rm ev (Rn (TT ev (l0F ev) (fE ev 3 2 i) e26 e36 (fE ev 4 2 i) l9 e8) (46 + 16 * i)) (46 + 16 * i) (s + 50 * i)) ev.1 (nI i) = b_X0_init_231 fu ev (rm ev (Rn (TT ev (l0F ev) (fE ev 3 2 6) e26 e36 (fE ev 4 2 6) l9 e8) 142) 142 (s + 300)) ev.1 := by
  intro d
  induction d with
  | zero =>
    intro i g hi hg
    obtain ⟨g, rfl⟩ : ∃ g', g = g' + 1 := ⟨g - 1, by omega⟩
    obtain rfl : i = 6 := by omega
    show b_X0_init_193 _ fu ev _ _ _ = _
    unfold b_X0_init_193
    rw [if_pos (by decide)]
  | succ d ih =>
    intro i g hi hg
    obtain ⟨g, rfl⟩ : ∃ g', g = g' + 1 := ⟨g - 1, by omega⟩
    have n6 : ¬ (6 : Int32) ≤ nI i := fun z => absurd ((s_le (i := 6) (by decide) (by omega)).mp z) (by omega)
    have c1 : 46 + 16 * i = cr (3 + 2 * i) := by unfold cr; rw [if_neg (by omega)]; omega
    have c2 : 46 + 16 * i + 8 = cr (4 + 2 * i) := by unfold cr; rw [if_neg (by omega)]; omega
    have z1 : CellT ev (TT ev (l0F ev) (fE ev 3 2 i) e26 e36 (fE ev 4 2 i) l9 e8) (46 + 16 * i) := by rw [c1]; exact zC (by omega)
    have z2 : CellT ev (TT ev (l0F ev) (fE ev 3 2 (i + 1)) e26 e36 (fE ev 4 2 i) l9 e8) (46 + 16 * i + 8) := by rw [c2]; exact zC (by omega)
    obtain ⟨y1, a1, a2⟩ := r_cell (fu := fu) (s := s + 50 * i) z1 (by omega) (by omega)
    obtain ⟨y2, b1, b2⟩ := r_cell (fu := fu) (s := s + 50 * i + 25) z2 (by omega) (by omega)
    have s1 := rm_astA (ev := ev) (R := Rn (TT ev (l0F ev) (fE ev 3 2 i) e26 e36 (fE ev 4 2 i) l9 e8) (46 + 16 * i + 8)) (n := 46 + 16 * i + 8) (s := s + 50 * i + 25) (r := 1) (κ := 5) (N := 6) (e := fE ev 3 2 i) (k := i) (x := some (ev.1 + (46 + 16 * i))) (if_pos (by omega)) (by omega) (by decide) (rm_asg (by omega) z1)
    rw [u1 (by omega)] at s1
    have e1' : va_up (fE ev 3 2 i) i (some (ev.1 + (46 + 16 * i))) = fE ev 3 2 (i + 1) := by rw [c1]; exact fE_up
    rw [e1'] at s1
    have s2 := rm_astA (ev := ev) (R := Rn (TT ev (l0F ev) (fE ev 3 2 (i + 1)) e26 e36 (fE ev 4 2 i) l9 e8) (46 + 16 * i + 8 + 8)) (n := 46 + 16 * i + 8 + 8) (s := s + 50 * i + 25 + 25) (r := 42) (κ := 5) (N := 6) (e := fE ev 4 2 i) (k := i) (x := some (ev.1 + (46 + 16 * i + 8))) (if_pos (by omega)) (by omega) (by decide) (rm_asg (by omega) z2)
    rw [u42 (by omega)] at s2
    have e2' : va_up (fE ev 4 2 i) i (some (ev.1 + (46 + 16 * i + 8))) = fE ev 4 2 (i + 1) := by rw [c2]; exact fE_up
    rw [e2'] at s2
    have i1 := ih (i + 1) g (by omega) (by omega)
    rw [show 46 + 16 * (i + 1) = 46 + 16 * i + 8 + 8 by omega, show s + 50 * (i + 1) = s + 50 * i + 25 + 25 by omega] at i1
    rw [← i1]
    show b_X0_init_193 _ fu ev _ _ _ = _
    unfold b_X0_init_193 b_X0_init_199
    rw [if_neg n6, rm_g0 (k := 0) (y := ev.1 + 1) (by omega) rfl, Option.bind_some, a1, b2s, a2, b2s, Option.bind_some, s1, Option.bind_some, rm_g0 (k := 21) (y := ev.1 + 42) (by omega) rfl, Option.bind_some, b1, b2s, b2, b2s, Option.bind_some, s2, Option.bind_some, nI_1]
theorem con_233 (h1 : ev.1 + 1000 ≤ ev.2.1) (h2 : s + 400 ≤ ev.2.2.1) : ∀ d i g : Nat, i + d = 12 → d < g → L_X0_init_233 fu ev g (rm ev (Rn (TT ev (l0F ev) e1 (fE ev 15 1 i) e36 e42 l9 e8) (142 + 8 * i)) (142 + 8 * i) (s + 25 * i)) ev.1 (nI i) = b_X0_init_258 fu ev (rm ev (Rn (TT ev (l0F ev) e1 (fE ev 15 1 12) e36 e42 l9 e8) 238) 238 (s + 300)) ev.1 := by
  intro d
  induction d with
  | zero =>
    intro i g hi hg
    obtain ⟨g, rfl⟩ : ∃ g', g = g' + 1 := ⟨g - 1, by omega⟩
    obtain rfl : i = 12 := by omega
    show b_X0_init_233 _ fu ev _ _ _ = _
    unfold b_X0_init_233
    rw [if_pos (by decide)]
  | succ d ih =>
    intro i g hi hg
    obtain ⟨g, rfl⟩ : ∃ g', g = g' + 1 := ⟨g - 1, by omega⟩
    have n12 : ¬ (12 : Int32) ≤ nI i := fun z => absurd ((s_le (i := 12) (by decide) (by omega)).mp z) (by omega)
    have c1 : 142 + 8 * i = cr (15 + 1 * i) := by unfold cr; rw [if_neg (by omega)]; omega
    have z1 : CellT ev (TT ev (l0F ev) e1 (fE ev 15 1 i) e36 e42 l9 e8) (142 + 8 * i) := by rw [c1]; exact zC (by omega)
    obtain ⟨y1, a1, a2⟩ := r_cell (fu := fu) (s := s + 25 * i) z1 (by omega) (by omega)
    have s1 := rm_astA (ev := ev) (R := Rn (TT ev (l0F ev) e1 (fE ev 15 1 i) e36 e42 l9 e8) (142 + 8 * i + 8)) (n := 142 + 8 * i + 8) (s := s + 25 * i + 25) (r := 26) (κ := 5) (N := 12) (e := fE ev 15 1 i) (k := i) (x := some (ev.1 + (142 + 8 * i))) (if_pos (by omega)) (by omega) (by decide) (rm_asg (by omega) z1)
    rw [u26 (by omega)] at s1
    have e1' : va_up (fE ev 15 1 i) i (some (ev.1 + (142 + 8 * i))) = fE ev 15 1 (i + 1) := by rw [c1]; exact fE_up
    rw [e1'] at s1
    have i1 := ih (i + 1) g (by omega) (by omega)
    rw [show 142 + 8 * (i + 1) = 142 + 8 * i + 8 by omega, show s + 25 * (i + 1) = s + 25 * i + 25 by omega] at i1
    rw [← i1]
    show b_X0_init_233 _ fu ev _ _ _ = _
    unfold b_X0_init_233 b_X0_init_239
    rw [if_neg n12, rm_g0 (k := 6) (y := ev.1 + 26) (by omega) rfl, Option.bind_some, a1, b2s, a2, b2s, Option.bind_some, s1, Option.bind_some, nI_1]
theorem con_260 (h1 : ev.1 + 1000 ≤ ev.2.1) (h2 : s + 2300 ≤ ev.2.2.1) : ∀ d i g : Nat, i + d = 91 → d < g → L_X0_init_260 fu ev g (rm ev (Rn (TT ev (l0F ev) e1 e26 (fE ev 27 1 i) e42 l9 e8) (238 + 8 * i)) (238 + 8 * i) (s + 25 * i)) ev.1 (nI i) = some ((), rm ev (Rn (TT ev (l0F ev) e1 e26 (fE ev 27 1 91) e42 l9 e8) 966) 966 (s + 2275)) := by
  intro d
  induction d with
  | zero =>
    intro i g hi hg
    obtain ⟨g, rfl⟩ : ∃ g', g = g' + 1 := ⟨g - 1, by omega⟩
    obtain rfl : i = 91 := by omega
    show b_X0_init_260 _ fu ev _ _ _ = _
    unfold b_X0_init_260
    rw [if_pos (by decide)]
    rfl
  | succ d ih =>
    intro i g hi hg
    obtain ⟨g, rfl⟩ : ∃ g', g = g' + 1 := ⟨g - 1, by omega⟩
    have n91 : ¬ (91 : Int32) ≤ nI i := fun z => absurd ((s_le (i := 91) (by decide) (by omega)).mp z) (by omega)
    have c1 : 238 + 8 * i = cr (27 + 1 * i) := by unfold cr; rw [if_neg (by omega)]; omega
    have z1 : CellT ev (TT ev (l0F ev) e1 e26 (fE ev 27 1 i) e42 l9 e8) (238 + 8 * i) := by rw [c1]; exact zC (by omega)
    obtain ⟨y1, a1, a2⟩ := r_cell (fu := fu) (s := s + 25 * i) z1 (by omega) (by omega)
    have s1 := rm_astA (ev := ev) (R := Rn (TT ev (l0F ev) e1 e26 (fE ev 27 1 i) e42 l9 e8) (238 + 8 * i + 8)) (n := 238 + 8 * i + 8) (s := s + 25 * i + 25) (r := 36) (κ := 5) (N := 91) (e := fE ev 27 1 i) (k := i) (x := some (ev.1 + (238 + 8 * i))) (if_pos (by omega)) (by omega) (by decide) (rm_asg (by omega) z1)
    rw [u36 (by omega)] at s1
    have e1' : va_up (fE ev 27 1 i) i (some (ev.1 + (238 + 8 * i))) = fE ev 27 1 (i + 1) := by rw [c1]; exact fE_up
    rw [e1'] at s1
    have i1 := ih (i + 1) g (by omega) (by omega)
    rw [show 238 + 8 * (i + 1) = 238 + 8 * i + 8 by omega, show s + 25 * (i + 1) = s + 25 * i + 25 by omega] at i1
    rw [← i1]
    show b_X0_init_260 _ fu ev _ _ _ = _
    unfold b_X0_init_260 b_X0_init_266
    rw [if_neg n91, rm_g0 (k := 13) (y := ev.1 + 36) (by omega) rfl, Option.bind_some, a1, b2s, a2, b2s, Option.bind_some, s1, Option.bind_some, nI_1]
/-- the first constructor -/
theorem X0_con (hE : EvOk ev) (hf : 100 ≤ fu) (h1 : ev.1 + 1000 ≤ ev.2.1) (h2 : s + 5000 ≤ ev.2.2.1) : f_X0_init fu ev (rm ev (Rn (TT ev l0A (fun _ => none) (fun _ => none) (fun _ => none) (fun _ => none) l9 e8) 1) 1 s) ev.1 = some ((), rm ev (Rn (TT ev (l0F ev) (fE ev 3 2 6) (fE ev 15 1 12) (fE ev 27 1 91) (fE ev 4 2 6) l9 e8) 966) 966 (s + 3675)) := by
  rw [X0_con_a hE h1 (by omega)]
  have a := con_193 (ev := ev) (fu := fu) (s := s + 800) (e26 := fun _ => none) (e36 := fun _ => none) (l9 := l9) (e8 := e8) h1 (by omega) 6 0 fu (by decide) (by omega)
  rw [fE_0, fE_0] at a
  refine Eq.trans a ?_
  unfold b_X0_init_231
  have b := con_233 (ev := ev) (fu := fu) (s := s + 800 + 300) (e1 := fE ev 3 2 6) (e36 := fun _ => none) (e42 := fE ev 4 2 6) (l9 := l9) (e8 := e8) h1 (by omega) 12 0 fu (by decide) (by omega)
  rw [fE_0] at b
  refine Eq.trans b ?_
  unfold b_X0_init_258
  have c := con_260 (ev := ev) (fu := fu) (s := s + 800 + 300 + 300) (e1 := fE ev 3 2 6) (e26 := fE ev 15 1 12) (e42 := fE ev 4 2 6) (l9 := l9) (e8 := e8) h1 (by omega) 91 0 fu (by decide) (by omega)
  rw [fE_0] at c
  exact c
end XK1
