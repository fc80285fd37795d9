/-! feed IN THE TOTAL RELATION; the arithmetic of the room -/
section XFD
variable {ev : Ev} {w w0 w' : Wd} {fu k n i j M T : Nat} {x y z u p : Int32} {K : Option Nat}
theorem FrX_tap : FrX [2, 12] w (tapW w T x) := by
  unfold tapW
  refine FrX_trans (S := [2, 12]) (T := [2, 12]) (FrX_trans (S := [2, 12]) (T := [2, 12]) (FrX_trans (S := [2, 12]) (T := [2, 12]) (FrX_wI (Or.inr ?_)) (FrX_wI (Or.inr ?_)) (by decide) (by decide)) (FrX_wI (Or.inr ?_)) (by decide) (by decide)) (FrX_wI (Or.inr ?_)) (by decide) (by decide)
  · show (2 : Nat) ∈ _
    decide
  · decide
  · show (12 : Nat) ∈ _
    decide
  · decide
theorem ok_feed (hR : Rel ev w M K T) : ∃ (r : Int32) (w1 w2 : Wd), f_X0_feed fu ev (mem ev w) ev.1 x = some (r, mem ev w1) ∧ f_X2_feed fu ev (mem ev w1) (ev.1 + 966) x = some (r, mem ev w2) ∧ ∃ T' : Nat, (T' = T ∨ T' = T + 1) ∧ Rel ev w2 M K T' ∧ w2.2.2.2 = w.2.2.2 ∧ ∀ l : Nat, l < 6 → sl w2 l = sl w l := by
  have hT : RT w T := hR.2.1
  obtain ⟨r, w1, w2, e1, e2, h⟩ := op_feed (ev := ev) (fu := fu) (x := x) hT
  refine ⟨r, w1, w2, e1, e2, ?_⟩
  rcases h with rfl | ⟨h1, h2, h3, rfl⟩
  · exact ⟨T, Or.inl rfl, hR, rfl, fun _ _ => rfl⟩
  · exact ⟨T + 1, Or.inr rfl, Rel_tap hR FrX_tap rfl (RT_feed hT h1 h2 h3), rfl, fun l hl => FrX_tap.2.2.2.2.1.2 (by decide) l hl⟩
/-- of 64 calls at most 49 reduce anything -/
theorem bud {o b im r c : Nat} (h : r + o + b + im ≤ 64) (h1 : r ≤ o + c * b) (h2 : c ≤ 6) (h3 : c ≤ o) (h4 : 0 < b → 1 ≤ im) : r ≤ 49 := by
  rcases Nat.eq_zero_or_pos b with hb | hb
  · subst hb
    omega
  · have := h4 hb
    have hc : c = 0 ∨ c = 1 ∨ c = 2 ∨ c = 3 ∨ c = 4 ∨ c = 5 ∨ c = 6 := by omega
    rcases hc with rfl | rfl | rfl | rfl | rfl | rfl | rfl <;> omega
/-- how many of the first n cells may go on -/
def unr (w : Wd) : Nat → Nat
  | 0 => 0
  | n + 1 => unr w n + if stV (sl w n) ≠ 0 then 1 else 0
theorem unr_le : unr w n ≤ n := by
  induction n with
  | zero => exact Nat.le_refl _
  | succ n ih => unfold unr; split <;> omega
theorem unr_ext : ∀ n : Nat, (∀ l : Nat, l < n → sl w' l = sl w l ∨ stV (sl w l) ≠ 0) → unr w' n ≤ unr w n := by
  intro n
  induction n with
  | zero => intro _; exact Nat.le_refl _
  | succ n ih =>
    intro h
    have e := ih (fun l hl => h l (by omega))
    unfold unr
    rcases h n (by omega) with q | q
    · rw [q]; omega
    · rw [if_pos q]; split <;> omega
theorem unr_one : ∀ n : Nat, (∀ l : Nat, l < n → l ≠ k → sl w' l = sl w l) → unr w' n ≤ unr w n + 1 := by
  intro n
  induction n with
  | zero => intro _; exact Nat.zero_le _
  | succ n ih =>
    intro h
    by_cases e : n = k
    · have e2 : unr w' n ≤ unr w n := unr_ext n (fun l hl => Or.inl (h l (by omega) (by omega)))
      unfold unr
      split <;> split <;> omega
    · have e2 := ih (fun l hl => h l (by omega))
      unfold unr
      rw [h n (by omega) e]
      omega
theorem unr_mono (h : n ≤ k) : unr w n ≤ unr w k := by
  induction k with
  | zero => rw [show n = 0 by omega]; exact Nat.le_refl _
  | succ k ih =>
    by_cases e : n = k + 1
    · rw [e]; exact Nat.le_refl _
    · exact Nat.le_trans (ih (by omega)) (Nat.le_add_right _ _)
/-- one that goes on becomes one that does not -/
theorem unr_red : ∀ n : Nat, k < n → stV (sl w k) ≠ 0 → stV (sl w' k) = 0 → (∀ l : Nat, l < n → l ≠ k → sl w' l = sl w l) → unr w' n + 1 ≤ unr w n := by
  intro n
  induction n with
  | zero => intro h; omega
  | succ n ih =>
    intro hk h1 h2 h
    by_cases e : n = k
    · have e2 : unr w' n ≤ unr w n := unr_ext n (fun l hl => Or.inl (h l (by omega) (by omega)))
      subst e
      unfold unr
      rw [if_pos h1, if_neg (fun q => q h2)]
      omega
    · have e2 := ih (by omega) h1 h2 (fun l hl => h l (by omega))
      unfold unr
      rw [h n (by omega) e]
      omega
end XFD
