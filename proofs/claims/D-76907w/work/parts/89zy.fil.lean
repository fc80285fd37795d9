/-! FOUR VECTORS (class): the six numbers of a cell -/
def iB (v : Nat → Int64) : Nat → Int64 := fun i => match i with
  | 0 => v 3
  | 1 => v 4
  | 2 => v 5
  | 3 => -2 * v 0 - v 4 - v 5
  | 4 => -2 * v 1 - v 5 - v 3
  | _ => -2 * v 2 - v 3 - v 4
section XFI
variable {ev : Ev} {w : Wd} {fu k i c : Nat} {b b' : Nat → Int64} {x : Int64} {σ : Mm} {x2 : Int32}
theorem Y_ext (h : ∀ i : Nat, i < 6 → b i = b' i) : setY w b = setY w b' := by
  refine Prod.ext (funext fun q => funext fun j => ?_) rfl
  show (if q = 37 ∧ j < 6 then b j else w.1 q j) = if q = 37 ∧ j < 6 then b' j else w.1 q j
  by_cases e : q = 37 ∧ j < 6
  · rw [if_pos e, if_pos e, h j e.2]
  · rw [if_neg e, if_neg e]
theorem cv_Y (hc : c < 118) : cv (setY w b) c = cv w c := by
  have hr : ∀ t : Nat, t < 8 → cr c + t ≠ 37 := by
    intro t ht
    unfold cr
    split <;> omega
  have e : ∀ q j : Nat, q ≠ 37 → (setY w b).1 q j = w.1 q j := fun q j h => by
    show (if q = 37 ∧ j < 6 then b j else w.1 q j) = _
    rw [if_neg (fun e => h e.1)]
  funext j
  simp only [cv]
  rw [e _ _ (hr 1 (by decide)), e _ _ (hr 2 (by decide)), e _ _ (hr 4 (by decide)), e _ _ (hr 5 (by decide)), e _ _ (hr 6 (by decide))]
theorem fil_l (hf : 4 ≤ fu) (hc : c < 118) : L_X0_blunt_34 fu ev fu (mem ev (setY w b)) ev.1 x2 (some (ev.1 + cr c)) 0 = b_X0_blunt_104 fu ev (mem ev (setY w (iB (cv w c)))) ev.1 x2 := by
  obtain ⟨g, hg⟩ : ∃ g, fu = g + 4 := ⟨fu - 4, by omega⟩
  have hL : ∀ σ x0 x2 x3 x4, L_X0_blunt_34 fu ev fu σ x0 x2 x3 x4 = L_X0_blunt_34 fu ev (g + 4) σ x0 x2 x3 x4 := fun _ _ _ _ _ => by rw [← hg]
  have m1 : (0 : Int32) + 1 - (0 + 1) / 3 * 3 = 1 := by decide
  have m2 : (0 : Int32) + 2 - (0 + 2) / 3 * 3 = 2 := by decide
  have m3 : (1 : Int32) + 1 - (1 + 1) / 3 * 3 = 2 := by decide
  have m4 : (1 : Int32) + 2 - (1 + 2) / 3 * 3 = 0 := by decide
  have m5 : (2 : Int32) + 1 - (2 + 1) / 3 * 3 = 0 := by decide
  have m6 : (2 : Int32) + 2 - (2 + 2) / 3 * 3 = 1 := by decide
  have n1 : (1 : Int32) - 1 / 3 * 3 = 1 := by decide
  have n2 : (2 : Int32) - 2 / 3 * 3 = 2 := by decide
  have n3 : (3 : Int32) - 3 / 3 * 3 = 0 := by decide
  have k1 : (0 : Int32) + 1 = 1 := by decide
  have k2 : (1 : Int32) + 1 = 2 := by decide
  have k3 : (2 : Int32) + 1 = 3 := by decide
  have k4 : (3 : Int32) + 0 = 3 := by decide
  have k5 : (3 : Int32) + 1 = 4 := by decide
  have k6 : (3 : Int32) + 2 = 5 := by decide
  have z0 : ¬ (3 : Int32) ≤ 0 := by decide
  have z1 : ¬ (3 : Int32) ≤ 1 := by decide
  have z2 : ¬ (3 : Int32) ≤ 2 := by decide
  have z3 : (3 : Int32) ≤ 3 := by decide
  rw [hL]
  simp only [L_X0_blunt_34, b_X0_blunt_34, b_X0_blunt_40, xf15, cf0 hc, cf1 hc, cl10 hc, cl11 hc, cl12 hc, cl20 hc, cl21 hc, cl22 hc, cv_Y hc, y_st0, y_st1, y_st2, y_st3, y_st4, y_st5, m1, m2, m3, m4, m5, m6, n1, n2, n3, k1, k2, k3, k4, k5, k6, z0, z1, z2, z3, if_false, if_true, Option.bind_some]
  refine congrArg (fun y => b_X0_blunt_104 fu ev (mem ev y) ev.1 x2) (Y_ext (fun i hi => ?_))
  match i, hi with
  | 0, _ => rfl
  | 1, _ => rfl
  | 2, _ => rfl
  | 3, _ => rfl
  | 4, _ => rfl
  | 5, _ => rfl
end XFI
