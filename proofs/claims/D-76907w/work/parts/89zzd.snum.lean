/-! THE PAPER: letters and numbers go into the text -/
/-- a number of k digits -/
def Dg (m k : Nat) : Prop := (k = 1 ∧ m < 10) ∨ (k = 2 ∧ 10 ≤ m ∧ m < 100) ∨ (k = 3 ∧ 100 ≤ m ∧ m < 1000) ∨ (k = 4 ∧ 1000 ≤ m ∧ m < 10000) ∨ (k = 5 ∧ 10000 ≤ m ∧ m < 100000) ∨ (k = 6 ∧ 100000 ≤ m ∧ m < 1000000)
theorem Dg_ex {m : Nat} (h : m < 1000000) : ∃ k : Nat, Dg m k := by
  unfold Dg
  by_cases c1 : m < 10
  · exact ⟨1, by omega⟩
  by_cases c2 : m < 100
  · exact ⟨2, by omega⟩
  by_cases c3 : m < 1000
  · exact ⟨3, by omega⟩
  by_cases c4 : m < 10000
  · exact ⟨4, by omega⟩
  by_cases c5 : m < 100000
  · exact ⟨5, by omega⟩
  · exact ⟨6, by omega⟩
def wrF (f : Nat → Int32) (p m k : Nat) : Nat → Int32 := fun i => if p ≤ i + k ∧ i < p then nI (48 + m / 10 ^ (p - 1 - i) % 10) else f i
theorem wr_1 {f : Nat → Int32} {p m : Nat} (hp : 0 < p) : (fun j => if j = p - 1 then nI (48 + m % 10) else f j) = wrF f p m 1 := by
  funext j
  unfold wrF
  by_cases c : j = p - 1
  · rw [if_pos c, if_pos (by omega), show p - 1 - j = 0 by omega, Nat.pow_zero, Nat.div_one]
  · rw [if_neg c, if_neg (by omega)]
theorem wr_2 {f : Nat → Int32} {p m : Nat} (hp : 1 < p) : (fun j => if j = p - 1 - 1 then nI (48 + m / 10 % 10) else if j = p - 1 then nI (48 + m % 10) else f j) = wrF f p m 2 := by
  funext j
  unfold wrF
  by_cases c : j = p - 1 - 1
  · rw [if_pos c, if_pos (by omega), show p - 1 - j = 1 by omega, Nat.pow_one]
  · rw [if_neg c]
    by_cases c2 : j = p - 1
    · rw [if_pos c2, if_pos (by omega), show p - 1 - j = 0 by omega, Nat.pow_zero, Nat.div_one]
    · rw [if_neg c2, if_neg (by omega)]
theorem wr_wr {f : Nat → Int32} {p m k : Nat} (hp : k + 2 ≤ p) : wrF (wrF f p m 2) (p - 1 - 1) (m / 100) k = wrF f p m (k + 2) := by
  funext j
  unfold wrF
  by_cases c : p - 1 - 1 ≤ j + k ∧ j < p - 1 - 1
  · rw [if_pos c, if_pos (by omega), show p - 1 - j = 2 + (p - 1 - 1 - 1 - j) by omega, Nat.pow_add, ← Nat.div_div_eq_div_mul]
  · rw [if_neg c]
    by_cases c2 : p ≤ j + 2 ∧ j < p
    · rw [if_pos c2, if_pos (by omega)]
    · rw [if_neg c2, if_neg (by omega)]
section XSN
variable {ev : Ev} {w w' w'' : Wd} {fu lo S V cap n k i m c p : Nat} {f : Nat → Int32} {x : Int32} {σ : Mm}
theorem ng_i (h : m < 2 ^ 31) : (-(nI m)).toInt = -(m : Int) := by
  rw [Int32.toInt_neg, nI_toInt h]
  exact Int.bmod_eq_of_le (by omega) (by omega)
theorem ng_div (h : m < 2 ^ 31) : -(nI m) / (100 : Int32) = -(nI (m / 100)) := by
  apply Int32.toInt_inj.mp
  rw [Int32.toInt_div, ng_i h, ng_i (by omega), show (100 : Int32).toInt = 100 from by decide, Int.neg_tdiv, Int.tdiv_eq_ediv_of_nonneg (by omega)]
  rw [Int.bmod_eq_of_le (by omega) (by omega)]
  omega
theorem ng_rem (h : m < 2 ^ 31) : -(nI m) / (100 : Int32) * (100 : Int32) - -(nI m) = nI (m % 100) := by
  have e : nI m = nI (m / 100) * 100 + nI (m % 100) := by
    rw [show (100 : Int32) = nI 100 from rfl, pk_mul, nI_add]
    exact congrArg nI (by omega)
  rw [ng_div h]
  generalize nI (m / 100) = q at *
  rw [e]
  grind
theorem ones (hE : EvOk ev) (hm : m < 100) : gsA ev 4 = some (some (xst ev 4)) ∧ aldI 3 (mem ev w) (xst ev 4) (nI m) = some (nI (48 + m % 10)) := by
  obtain ⟨⟨-, -, -, -, s4, -⟩, -, -, -, -, c4, -, -, -, -, -, -, hlt⟩ := hE
  refine ⟨by unfold gsA; rw [s4], ?_⟩
  unfold aldI
  rw [mem_old (hlt _ _ c4), c4]
  show (if 3 = 3 ∧ ¬ (nI m < 0 ∨ 100 ≤ (nI m).toNatClampNeg) then some (if (nI m).toNatClampNeg < 100 then nI (48 + (nI m).toNatClampNeg % 10) else 0) else none) = _
  rw [if_pos ⟨rfl, nI_in hm (by decide)⟩, nI_clamp (by omega), if_pos hm]
theorem tens (hE : EvOk ev) (hm : m < 100) : gsA ev 5 = some (some (xst ev 5)) ∧ aldI 3 (mem ev w) (xst ev 5) (nI m) = some (nI (48 + m / 10 % 10)) := by
  obtain ⟨⟨-, -, -, -, -, s5, -⟩, -, -, -, -, -, c5, -, -, -, -, -, hlt⟩ := hE
  refine ⟨by unfold gsA; rw [s5], ?_⟩
  unfold aldI
  rw [mem_old (hlt _ _ c5), c5]
  show (if 3 = 3 ∧ ¬ (nI m < 0 ∨ 100 ≤ (nI m).toNatClampNeg) then some (if (nI m).toNatClampNeg < 100 then nI (48 + (nI m).toNatClampNeg / 10) else 0) else none) = _
  rw [if_pos ⟨rfl, nI_in hm (by decide)⟩, nI_clamp (by omega), if_pos hm, show m / 10 % 10 = m / 10 by omega]
theorem d127 {a : Nat} (h : a < 128) : 0 ≤ (nI a).toInt ∧ (nI a).toInt ≤ 127 := by
  rw [nI_toInt (by omega)]
  omega
theorem ng_lt (h : m < 2 ^ 31) : ((-100 : Int32) < -(nI m)) ↔ m < 100 := by
  rw [Int32.lt_iff_toInt_lt, ng_i h, show (-100 : Int32).toInt = -100 from by decide]
  omega
theorem ng_9 (h : m < 2 ^ 31) : ((-9 : Int32) ≤ -(nI m)) ↔ m < 10 := by
  rw [Int32.le_iff_toInt_le, ng_i h, show (-9 : Int32).toInt = -9 from by decide]
  omega
/-- the last one or two digits -/
theorem gc_b (hE : EvOk ev) (hV : ev.1 + 984 ≤ V) (hd : dyn w V = oBy cap f) (hc : cap < 1000) (hm : m < 100) (hk : (k = 1 ∧ m < 10) ∨ (k = 2 ∧ 10 ≤ m)) (hkp : k ≤ p) (hp : p ≤ cap) {x8 : Int32} : b_J31_getChars_143 fu ev (mem ev w) (some V) (nI p) x8 (-(nI m)) = b_J31_getChars_178 fu ev (mem ev (wD w V (oBy cap (wrF f p m k)))) V (nI (p - k)) x8 := by
  obtain ⟨o1, o2⟩ := ones (w := w) hE hm
  have p1 : nI p + (-1 : Int32) = nI (p - 1) := s_m1 (by omega)
  have st := by_st (ev := ev) (w := w) (p := p - 1) (x := nI (48 + m % 10)) hV hd (by omega) hc (d127 (by omega)).1 (d127 (by omega)).2
  unfold b_J31_getChars_143
  rw [o1, Option.bind_some, Option.bind_some, Int32.neg_neg, o2, Option.bind_some, Option.bind_some, p1, st, Option.bind_some]
  rcases hk with ⟨rfl, h10⟩ | ⟨rfl, h10⟩
  · rw [if_pos ((ng_9 (by omega)).mpr h10), wr_1 (by omega)]
  · rw [if_neg (fun z => absurd ((ng_9 (by omega)).mp z) (by omega))]
    obtain ⟨t1, t2⟩ := tens (w := wD w V (oBy cap (fun j => if j = p - 1 then nI (48 + m % 10) else f j))) hE hm
    have st2 := by_st (ev := ev) (w := wD w V (oBy cap (fun j => if j = p - 1 then nI (48 + m % 10) else f j))) (p := p - 1 - 1) (x := nI (48 + m / 10 % 10)) hV dn_wD (by omega) hc (d127 (by omega)).1 (d127 (by omega)).2
    unfold b_J31_getChars_164
    rw [t1, Option.bind_some, Option.bind_some, Int32.neg_neg, t2, Option.bind_some, s_m1 (by omega), st2, Option.bind_some, wD_wD, wr_2 (by omega), show p - 1 - 1 = p - 2 by omega]
theorem gc_l (hE : EvOk ev) (hV : ev.1 + 984 ≤ V) (hc : cap < 1000) {x8 : Int32} : ∀ (d g m k p : Nat) (f : Nat → Int32) (w : Wd), d < g → (d = 0 → m < 100) → (d = 1 → m < 10000) → d ≤ 2 → Dg m k → k ≤ p → p ≤ cap → dyn w V = oBy cap f → L_J31_getChars_86 fu ev g (mem ev w) (some V) (nI p) x8 (-(nI m)) = b_J31_getChars_178 fu ev (mem ev (wD w V (oBy cap (wrF f p m k)))) V (nI (p - k)) x8 := by
  intro d
  induction d with
  | zero =>
    intro g m k p f w hg h0 h1 h2 hD hk hp hd
    obtain ⟨g, rfl⟩ : ∃ g', g = g' + 1 := ⟨g - 1, by omega⟩
    have hm := h0 rfl
    show b_J31_getChars_86 _ fu ev _ _ _ _ _ = _
    unfold b_J31_getChars_86
    rw [if_pos ((ng_lt (by omega)).mpr hm)]
    exact gc_b hE hV hd hc hm (by unfold Dg at hD; omega) hk hp
  | succ d ih =>
    intro g m k p f w hg h0 h1 h2 hD hk hp hd
    obtain ⟨g, rfl⟩ : ∃ g', g = g' + 1 := ⟨g - 1, by omega⟩
    have m6 : m < 1000000 := by unfold Dg at hD; omega
    by_cases hm : m < 100
    · show b_J31_getChars_86 _ fu ev _ _ _ _ _ = _
      unfold b_J31_getChars_86
      rw [if_pos ((ng_lt (by omega)).mpr hm)]
      exact gc_b hE hV hd hc hm (by unfold Dg at hD; omega) hk hp
    · have hk3 : 3 ≤ k := by unfold Dg at hD; omega
      have hD2 : Dg (m / 100) (k - 2) := by unfold Dg at hD ⊢; omega
      obtain ⟨o1, o2⟩ := ones (m := m % 100) (w := w) hE (by omega)
      have p1 : nI p + (-1 : Int32) = nI (p - 1) := s_m1 (by omega)
      have p2 : nI (p - 1) + (-1 : Int32) = nI (p - 1 - 1) := s_m1 (by omega)
      have st := by_st (ev := ev) (w := w) (p := p - 1) (x := nI (48 + m % 100 % 10)) hV hd (by omega) hc (d127 (by omega)).1 (d127 (by omega)).2
      obtain ⟨t1, t2⟩ := tens (m := m % 100) (w := wD w V (oBy cap (fun j => if j = p - 1 then nI (48 + m % 100 % 10) else f j))) hE (by omega)
      have st2 := by_st (ev := ev) (w := wD w V (oBy cap (fun j => if j = p - 1 then nI (48 + m % 100 % 10) else f j))) (p := p - 1 - 1) (x := nI (48 + m % 100 / 10 % 10)) hV dn_wD (by omega) hc (d127 (by omega)).1 (d127 (by omega)).2
      rw [wD_wD] at st2
      have i1 := ih g (m / 100) (k - 2) (p - 1 - 1) _ (wD w V (oBy cap (wrF f p m 2))) (by omega) (fun z => by have := h1 (by omega); omega) (fun z => by omega) (by omega) hD2 (by omega) (by omega) dn_wD
      rw [wD_wD, wr_wr (by omega), show k - 2 + 2 = k by omega, show p - 1 - 1 - (k - 2) = p - k by omega] at i1
      rw [← i1]
      show b_J31_getChars_86 _ fu ev _ _ _ _ _ = _
      unfold b_J31_getChars_86
      rw [if_neg (fun z => hm ((ng_lt (by omega)).mp z))]
      unfold b_J31_getChars_93
      rw [o1, Option.bind_some, Option.bind_some, ng_rem (by omega), o2, Option.bind_some, Option.bind_some, p1, st, Option.bind_some, t1, Option.bind_some, Option.bind_some, t2, Option.bind_some, p2, st2, Option.bind_some, ng_div (by omega), show m % 100 % 10 = m % 10 by omega, show m % 100 / 10 % 10 = m / 10 % 10 by omega, wr_2 (by omega)]
end XSN
