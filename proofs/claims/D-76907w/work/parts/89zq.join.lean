/-! THE OLD OPERATIONS, IN THE TOTAL RELATION -/
section XJN
variable {ev : Ev} {w w0 w' : Wd} {fu k n i j M T : Nat} {x y z u p : Int32} {K : Option Nat}
theorem Rel_Sq (h : Rel ev w M K T) (q : Sq w w') : Rel ev w' M K T := by
  obtain ⟨⟨C, F, p, r⟩, -⟩ := id h
  exact Rel_Po h (Po_sq r q) (Nat.le_refl _)
theorem ok_number (hR : Rel ev w M K T) : ∃ r : Int64, f_X0_number fu ev (mem ev w) ev.1 x y = some (r, mem ev w) ∧ f_X2_number fu ev (mem ev w) (ev.1 + 966) x y = some (r, mem ev w) := by
  obtain ⟨⟨C, F, q, ⟨h6, h1, h2, hc⟩, -⟩, -⟩ := hR
  exact op_number h1 h2 h6 (fun k hk => (hc k hk).1)
theorem ok_change (hR : Rel ev w M K T) : ∃ r : Int64, f_X0_change fu ev (mem ev w) ev.1 x y z = some (r, mem ev w) ∧ f_X2_change fu ev (mem ev w) (ev.1 + 966) x y z = some (r, mem ev w) := by
  obtain ⟨⟨C, F, q, ⟨h6, h1, h2, hc⟩, -⟩, -⟩ := hR
  exact op_change h1 h2 h6 (fun k hk => (hc k hk).1)
theorem ok_fails (hf : 20 ≤ fu) (hR : Rel ev w M K T) : ∃ r : Int32, f_X0_fails fu ev (mem ev w) ev.1 x = some (r, mem ev w) ∧ f_X2_fails fu ev (mem ev w) (ev.1 + 966) x = some (r, mem ev w) := by
  obtain ⟨⟨C, F, q, hC, -⟩, -⟩ := hR
  exact op_fails hf hC
theorem ok_normal (hf : 10 ^ 46 + 20 ≤ fu) (hR : Rel ev w M K T) : ∃ (r : Int64) (w1 w2 : Wd), f_X0_normal fu ev (mem ev w) ev.1 x y = some (r, mem ev w1) ∧ f_X2_normal fu ev (mem ev w1) (ev.1 + 966) x y = some (r, mem ev w2) ∧ Sq w w2 := by
  obtain ⟨⟨C, F, q, hC, -⟩, -⟩ := hR
  obtain ⟨r, w1, w2, e1, e2, -, s⟩ := op_normal (ev := ev) (x := x) (y := y) hf hC
  exact ⟨r, w1, w2, e1, e2, s⟩
theorem ok_same (hf : 10 ^ 46 + 20 ≤ fu) (hR : Rel ev w M K T) : ∃ (r : Int32) (w1 w2 : Wd), f_X0_same fu ev (mem ev w) ev.1 x y = some (r, mem ev w1) ∧ f_X2_same fu ev (mem ev w1) (ev.1 + 966) x y = some (r, mem ev w2) ∧ Sq w w2 := by
  obtain ⟨⟨C, F, q, hC, -⟩, -⟩ := hR
  obtain ⟨r, w1, w2, e1, e2, -, s⟩ := op_same (ev := ev) (x := x) (y := y) hf hC
  exact ⟨r, w1, w2, e1, e2, s⟩
theorem ok_bridge (hf : 10 ^ 46 + 20 ≤ fu) (hR : Rel ev w M K T) : ∃ (r : Int64) (w1 w2 : Wd), f_X0_bridge fu ev (mem ev w) ev.1 x y z p = some (r, mem ev w1) ∧ f_X2_bridge fu ev (mem ev w1) (ev.1 + 966) x y z p = some (r, mem ev w2) ∧ Sq w w2 := by
  obtain ⟨⟨C, F, q, hC, -⟩, -⟩ := hR
  obtain ⟨r, w1, w2, e1, e2, -, s⟩ := op_bridge (ev := ev) (x := x) (y := y) (z := z) (p := p) hf hC
  exact ⟨r, w1, w2, e1, e2, s⟩
theorem ok_swap (hf : 20 ≤ fu) (hR : Rel ev w M K T) : ∃ (r : Int32) (w1 w2 : Wd), f_X0_swap fu ev (mem ev w) ev.1 x y z = some (r, mem ev w1) ∧ f_X2_swap fu ev (mem ev w1) (ev.1 + 966) x y z = some (r, mem ev w2) ∧ Rel ev w2 M K T ∧ w2.2.2.2 = w.2.2.2 ∧ ∃ k : Nat, ∀ l : Nat, l < 6 → l ≠ k → sl w2 l = sl w l := by
  obtain ⟨⟨C, F, q, hC⟩, -⟩ := id hR
  obtain ⟨r, w1, w2, e1, e2, po⟩ := op_swap (ev := ev) (x := x) (y := y) (z := z) hf hC
  exact ⟨r, w1, w2, e1, e2, Rel_Po hR po (Nat.le_refl _), po.2.1.2.2.2.2, po.2.2⟩
theorem ok_add (hf : 20 ≤ fu) (hR : Rel ev w M K T) : ∃ (r : Int32) (w1 w2 : Wd), f_X0_add fu ev (mem ev w) ev.1 x y z u = some (r, mem ev w1) ∧ f_X2_add fu ev (mem ev w1) (ev.1 + 966) x y z u = some (r, mem ev w2) ∧ Rel ev w2 M K T ∧ w2.2.2.2 = w.2.2.2 ∧ ∃ k : Nat, ∀ l : Nat, l < 6 → l ≠ k → sl w2 l = sl w l := by
  obtain ⟨⟨C, F, q, hC⟩, -⟩ := id hR
  obtain ⟨r, w1, w2, e1, e2, po⟩ := op_add (ev := ev) (x := x) (y := y) (z := z) (u := u) hf hC
  exact ⟨r, w1, w2, e1, e2, Rel_Po hR po (Nat.le_refl _), po.2.1.2.2.2.2, po.2.2⟩
theorem ok_undo (hf : 20 ≤ fu) (hR : Rel ev w M K T) : ∃ (r : Int32) (w1 w2 : Wd), f_X0_undo fu ev (mem ev w) ev.1 = some (r, mem ev w1) ∧ f_X2_undo fu ev (mem ev w1) (ev.1 + 966) = some (r, mem ev w2) ∧ Rel ev w2 M K T ∧ w2.2.2.2 = w.2.2.2 ∧ ∃ k : Nat, ∀ l : Nat, l < 6 → l ≠ k → sl w2 l = sl w l := by
  obtain ⟨⟨C, F, q, hC⟩, -⟩ := id hR
  obtain ⟨r, w1, w2, e1, e2, po⟩ := op_undo (ev := ev) hf hC
  exact ⟨r, w1, w2, e1, e2, Rel_Po hR po (Nat.le_refl _), po.2.1.2.2.2.2, po.2.2⟩
theorem ok_cell {x1 x2 x3 x4 x5 x6 : Int32} (hf : 20 ≤ fu) (hR : Rel ev w M K T) : ∃ (r : Int32) (w1 w2 : Wd), f_X0_cell fu ev (mem ev w) ev.1 x1 x2 x3 x4 x5 x6 = some (r, mem ev w1) ∧ f_X2_cell fu ev (mem ev w1) (ev.1 + 966) x1 x2 x3 x4 x5 x6 = some (r, mem ev w2) ∧ ∃ M' : Nat, (M' = M ∨ M' = M + 1) ∧ Rel ev w2 M' K T ∧ w2.2.2.2 = w.2.2.2 ∧ (∃ k : Nat, ∀ l : Nat, l < 6 → l ≠ k → sl w2 l = sl w l) ∧ ∀ l : Nat, l < M → sl w2 l = sl w l := by
  obtain ⟨⟨C, F, q, hC⟩, -⟩ := id hR
  obtain ⟨r, w1, w2, e1, e2, M', hM', po, hl⟩ := op_cell (ev := ev) (x1 := x1) (x2 := x2) (x3 := x3) (x4 := x4) (x5 := x5) (x6 := x6) hf hC
  exact ⟨r, w1, w2, e1, e2, M', hM', Rel_Po hR po (by omega), po.2.1.2.2.2.2, po.2.2, hl⟩
theorem Rel_tap (h : Rel ev w M K T) {T' : Nat} (f : FrX [2, 12] w w') (hd : w'.2.2.2 = w.2.2.2) (hT : RT w' T') : Rel ev w' M K T' := by
  obtain ⟨⟨C, F, p, r⟩, -, h3, h4, h5, h6, h7, h8, h9, h10⟩ := h
  have d : FrD w w' := FrD_eq hd
  exact ⟨⟨C, F, p, RCK_x r f (by decide) (by decide) (by decide)⟩, hT, RIm_x h3 f (by decide) (by decide), RLg_x h4 f (by decide) (by decide) (by decide) (by decide) d.1 (FrN_eq hd), RQa_x h5 f (by decide) (by decide), RQb_x h6 f (by decide) (by decide), RRw_x h7 f (by decide) (by decide) d, RPp_x h8 f (by decide) (by decide) d, St_x h9 f (by decide) (by decide), Nat.le_trans h10 d.1⟩
end XJN
