/-! FOUR VECTORS (class): the loop -/
def goB (b : Nat → Int64) : Nat → Int64 := blG b (shF b 5 1 0)
def itB : Nat → (Nat → Int64) → Nat → Int64
  | 0, b => b
  | n + 1, b => itB n (goB b)
def EndB (b : Nat → Int64) (N : Nat) : Prop := (∀ i : Nat, i < N → ¬ itB i b (shF (itB i b) 5 1 0) ≤ 0) ∧ itB N b (shF (itB N b) 5 1 0) ≤ 0
section XRU
variable {ev : Ev} {w : Wd} {fu : Nat} {x2 : Int32}
theorem blu_l (hf : 7 ≤ fu) : ∀ (N g t : Nat) (b : Nat → Int64), EndB b N → N < g → L_X0_blunt_113 fu ev g (mem ev (setY w b)) ev.1 x2 (nI t) (nI (shF b 5 1 0)) = b_X0_blunt_143 fu ev (mem ev (setY w (itB N b))) ev.1 x2 (nI (t + N)) := by
  intro N
  induction N with
  | zero =>
    intro g t b hE hg
    obtain ⟨g, rfl⟩ : ∃ g', g = g' + 1 := ⟨g - 1, by omega⟩
    have h6 : shF b 5 1 0 < 6 := shF_lt 5 1 0 (by decide) (by decide)
    have e : b (shF b 5 1 0) ≤ 0 := hE.2
    show b_X0_blunt_113 _ fu ev _ _ _ _ _ = _
    unfold b_X0_blunt_113
    rw [xf15, Option.bind_some, Option.bind_some, y_ld h6, Option.bind_some, if_pos e]
    rfl
  | succ N ih =>
    intro g t b hE hg
    obtain ⟨g, rfl⟩ : ∃ g', g = g' + 1 := ⟨g - 1, by omega⟩
    have h6 : shF b 5 1 0 < 6 := shF_lt 5 1 0 (by decide) (by decide)
    have e : ¬ b (shF b 5 1 0) ≤ 0 := hE.1 0 (by omega)
    have i1 := ih g (t + 1) (goB b) ⟨fun i hi => hE.1 (i + 1) (by omega), hE.2⟩ (by omega)
    rw [show t + (N + 1) = t + 1 + N by omega, show itB (N + 1) b = itB N (goB b) from rfl, ← i1]
    show b_X0_blunt_113 _ fu ev _ _ _ _ _ = _
    unfold b_X0_blunt_113 b_X0_blunt_125
    rw [xf15, Option.bind_some, Option.bind_some, y_ld h6, Option.bind_some, if_neg e, xis, Option.bind_some, X0_blunts_k (by omega) h6]
    show (isC (mem ev (setY w (goB b))) ev.1 0).bind _ = _
    rw [xis, Option.bind_some, X0_sharpest hf]
    show L_X0_blunt_113 fu ev g _ _ _ _ _ = _
    rw [nI_1]
    rfl
end XRU
