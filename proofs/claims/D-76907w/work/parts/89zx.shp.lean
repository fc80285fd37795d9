/-! FOUR VECTORS (class): the sharpest pair, and the first six numbers -/
def shF (b : Nat → Int64) : Nat → Nat → Nat → Nat
  | 0, _, m => m
  | d + 1, k, m => shF b d (k + 1) (if b k ≤ b m then m else k)
section XSP2
variable {ev : Ev} {w : Wd} {fu k i : Nat} {b : Nat → Int64} {x : Int64} {σ : Mm}
theorem shF_lt : ∀ d k m : Nat, k + d = 6 → m < 6 → shF b d k m < 6 := by
  intro d
  induction d with
  | zero => intro k m _ h; exact h
  | succ d ih =>
    intro k m hk hm
    exact ih (k + 1) _ (by omega) (by split <;> omega)
theorem sh_l : ∀ d g k m : Nat, k + d = 6 → d < g → m < 6 → L_X0_sharpest_4 fu ev g (mem ev (setY w b)) ev.1 (nI m) (nI k) = some (nI (shF b d k m), mem ev (setY w b)) := by
  intro d
  induction d with
  | zero =>
    intro g k m hk hg hm
    obtain ⟨g, rfl⟩ : ∃ g', g = g' + 1 := ⟨g - 1, by omega⟩
    obtain rfl : k = 6 := by omega
    rfl
  | succ d ih =>
    intro g k m hk hg hm
    obtain ⟨g, rfl⟩ : ∃ g', g = g' + 1 := ⟨g - 1, by omega⟩
    show b_X0_sharpest_4 _ fu ev _ _ _ _ = _
    unfold b_X0_sharpest_4
    rw [if_neg (show ¬ (6 : Int32) ≤ nI k from nI_ge (b := 6) (by omega) (by decide))]
    rw [show shF b (d + 1) k m = shF b d (k + 1) (if b k ≤ b m then m else k) from rfl]
    by_cases c : b k ≤ b m
    · rw [if_pos c, ← ih g (k + 1) m (by omega) (by omega) hm]
      simp only [b_X0_sharpest_10, b_X0_sharpest_30, b_X0_sharpest_31, xf15, y_ld (show k < 6 by omega), y_ld hm, c, if_true, Option.bind_some, nI_1]
    · rw [if_neg c, ← ih g (k + 1) k (by omega) (by omega) (by omega)]
      simp only [b_X0_sharpest_10, b_X0_sharpest_26, b_X0_sharpest_31, xf15, y_ld (show k < 6 by omega), y_ld hm, c, if_false, Option.bind_some, nI_1]
theorem X0_sharpest (hf : 7 ≤ fu) : f_X0_sharpest fu ev (mem ev (setY w b)) ev.1 = some (nI (shF b 5 1 0), mem ev (setY w b)) := sh_l 5 fu 1 0 (by decide) (by omega) (by decide)
theorem Y_self : setY w (w.1 37) = w := by
  refine Prod.ext (funext fun q => funext fun j => ?_) rfl
  show (if q = 37 ∧ j < 6 then w.1 37 j else w.1 q j) = w.1 q j
  by_cases e : q = 37 ∧ j < 6
  · rw [if_pos e, e.1]
  · rw [if_neg e]
theorem Sq_Y : Sq w (setY w b) := by
  refine ⟨fun q i h => ?_, fun _ _ _ => rfl, rfl⟩
  show (if q = 37 ∧ i < 6 then b i else w.1 q i) = _
  rw [if_neg]
  rintro ⟨rfl, -⟩
  exact h (by unfold sJ; omega)
/-- what the class does with the six numbers -/
def blG (b : Nat → Int64) : Nat → Nat → Int64
  | 0 => blV b 0 2 4 3 1 5
  | 1 => blV b 1 2 3 4 0 5
  | 2 => blV b 2 1 3 5 0 4
  | 3 => blV b 3 2 1 0 4 5
  | 4 => blV b 4 2 0 1 3 5
  | _ => blV b 5 1 0 2 3 4
theorem X0_blunts_k (hf : 4 ≤ fu) (hk : k < 6) : f_X0_blunts fu ev (mem ev (setY w b)) ev.1 (nI k) = some ((), mem ev (setY w (blG b k))) := by
  match k, hk with
  | 0, _ => exact X0_blunts_0 hf
  | 1, _ => exact X0_blunts_1 hf
  | 2, _ => exact X0_blunts_2 hf
  | 3, _ => exact X0_blunts_3 hf
  | 4, _ => exact X0_blunts_4 hf
  | 5, _ => exact X0_blunts_5 hf
end XSP2
