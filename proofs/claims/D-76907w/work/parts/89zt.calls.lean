/-! ONE CALL OF EACH OPERATION KEEPS THE INVARIANT -/
section XCL
variable {ev : Ev} {w w2 w' : Wd} {fu k n i j B s0 M T : Nat} {a : Nat → Int32} {K : Option Nat}
theorem fuN {c : Nat} (hf : 10 ^ 46 + 1000000 ≤ fu) (hc : c ≤ 1000000) : ∀ N : Nat, N ≤ 10 ^ 46 → N + c ≤ fu := fun N hN => Nat.le_trans (Nat.add_le_add hN hc) hf
theorem fuS {c : Nat} (hf : 10 ^ 46 + 1000000 ≤ fu) (hc : c ≤ 1000000) : c ≤ fu := Nat.le_trans (Nat.le_trans hc (Nat.le_add_left _ _)) hf
theorem Rel_6 (hR : Rel ev w M K T) : M ≤ 6 := by obtain ⟨⟨C, F, p, r⟩, -⟩ := hR; exact r.1.1
theorem Bd_B (h : Bd ev B s0 j w M T K) (h1 : unr w2 M = unr w M) (h4 : szW w2 ≤ szW w + 300) (h5 : slW w2 ≤ slW w + 3 * B) : Bd ev B s0 (j + 1) w2 M T K := by
  obtain ⟨r, o, b, im, c, a1, a2, a3, a4, a5, a6, a7, a8, a9⟩ := h
  exact ⟨r, o, b, im, c, by omega, by omega, by omega, by omega, a5, a6, a7, by omega, sl_upB a9 h5⟩
theorem call_number (hE : EvOk ev) (h2 : Ev2 ev) (hf : 10 ^ 46 + 1000000 ≤ fu) (hm : Rm ev B s0) (hj : j + 1 ≤ 64) (hR : Rel ev w M K T) (hb : Bd ev B s0 j w M T K) : lc_number fu ev (mem ev w) ev.1 (ev.1 + 966) a (JJ ev B s0 (j + 1)) := by
  obtain ⟨rb, rc, rs⟩ := Bd_room hb hm hj
  have h6 := Rel_6 hR
  obtain ⟨r, e1, e2⟩ := ok_number (ev := ev) (fu := fu) (w := w) (x := a 1) (y := a 2) hR
  exact ⟨r, _, _, xis, e1, mis, e2, JJ_e hb hR⟩
theorem call_change (hE : EvOk ev) (h2 : Ev2 ev) (hf : 10 ^ 46 + 1000000 ≤ fu) (hm : Rm ev B s0) (hj : j + 1 ≤ 64) (hR : Rel ev w M K T) (hb : Bd ev B s0 j w M T K) : lc_change fu ev (mem ev w) ev.1 (ev.1 + 966) a (JJ ev B s0 (j + 1)) := by
  obtain ⟨rb, rc, rs⟩ := Bd_room hb hm hj
  have h6 := Rel_6 hR
  obtain ⟨r, e1, e2⟩ := ok_change (ev := ev) (fu := fu) (w := w) (x := a 1) (y := a 2) (z := a 3) hR
  exact ⟨r, _, _, xis, e1, mis, e2, JJ_e hb hR⟩
theorem call_fails (hE : EvOk ev) (h2 : Ev2 ev) (hf : 10 ^ 46 + 1000000 ≤ fu) (hm : Rm ev B s0) (hj : j + 1 ≤ 64) (hR : Rel ev w M K T) (hb : Bd ev B s0 j w M T K) : lc_fails fu ev (mem ev w) ev.1 (ev.1 + 966) a (JJ ev B s0 (j + 1)) := by
  obtain ⟨rb, rc, rs⟩ := Bd_room hb hm hj
  have h6 := Rel_6 hR
  obtain ⟨r, e1, e2⟩ := ok_fails (ev := ev) (fu := fu) (w := w) (x := a 1) (fuS hf (by decide)) hR
  exact ⟨r, _, _, xis, e1, mis, e2, JJ_e hb hR⟩
theorem call_log (hE : EvOk ev) (h2 : Ev2 ev) (hf : 10 ^ 46 + 1000000 ≤ fu) (hm : Rm ev B s0) (hj : j + 1 ≤ 64) (hR : Rel ev w M K T) (hb : Bd ev B s0 j w M T K) : lc_log fu ev (mem ev w) ev.1 (ev.1 + 966) a (JJ ev B s0 (j + 1)) := by
  obtain ⟨rb, rc, rs⟩ := Bd_room hb hm hj
  have h6 := Rel_6 hR
  obtain ⟨r, e1, e2⟩ := op_log (ev := ev) (fu := fu) (w := w) (x := a 1) hE (fuS hf (by decide)) hR
  exact ⟨r, _, _, xis, e1, mis, e2, JJ_e hb hR⟩
theorem call_paper (hE : EvOk ev) (h2 : Ev2 ev) (hf : 10 ^ 46 + 1000000 ≤ fu) (hm : Rm ev B s0) (hj : j + 1 ≤ 64) (hR : Rel ev w M K T) (hb : Bd ev B s0 j w M T K) : lc_paper fu ev (mem ev w) ev.1 (ev.1 + 966) a (JJ ev B s0 (j + 1)) := by
  obtain ⟨rb, rc, rs⟩ := Bd_room hb hm hj
  have h6 := Rel_6 hR
  obtain ⟨r, e1, e2⟩ := op_paper (ev := ev) (fu := fu) (w := w) (x := a 1) hE h2 hR
  exact ⟨r, _, _, xis, e1, mis, e2, JJ_e hb hR⟩
theorem call_count (hE : EvOk ev) (h2 : Ev2 ev) (hf : 10 ^ 46 + 1000000 ≤ fu) (hm : Rm ev B s0) (hj : j + 1 ≤ 64) (hR : Rel ev w M K T) (hb : Bd ev B s0 j w M T K) : lc_count fu ev (mem ev w) ev.1 (ev.1 + 966) a (JJ ev B s0 (j + 1)) := by
  obtain ⟨rb, rc, rs⟩ := Bd_room hb hm hj
  have h6 := Rel_6 hR
  obtain ⟨r, e1, e2⟩ := op_count (ev := ev) (fu := fu) (w := w) (x := a 1) hE hR
  exact ⟨r, _, _, xis, e1, mis, e2, JJ_e hb hR⟩
theorem call_normal (hE : EvOk ev) (h2 : Ev2 ev) (hf : 10 ^ 46 + 1000000 ≤ fu) (hm : Rm ev B s0) (hj : j + 1 ≤ 64) (hR : Rel ev w M K T) (hb : Bd ev B s0 j w M T K) : lc_normal fu ev (mem ev w) ev.1 (ev.1 + 966) a (JJ ev B s0 (j + 1)) := by
  obtain ⟨rb, rc, rs⟩ := Bd_room hb hm hj
  have h6 := Rel_6 hR
  obtain ⟨r, w1, w2, e1, e2, q⟩ := ok_normal (ev := ev) (fu := fu) (w := w) (x := a 1) (y := a 2) (Nat.le_trans (Nat.add_le_add_left (by decide) _) hf) hR
  exact ⟨r, _, _, xis, e1, mis, e2, JJ_q hb hR q⟩
theorem call_same (hE : EvOk ev) (h2 : Ev2 ev) (hf : 10 ^ 46 + 1000000 ≤ fu) (hm : Rm ev B s0) (hj : j + 1 ≤ 64) (hR : Rel ev w M K T) (hb : Bd ev B s0 j w M T K) : lc_same fu ev (mem ev w) ev.1 (ev.1 + 966) a (JJ ev B s0 (j + 1)) := by
  obtain ⟨rb, rc, rs⟩ := Bd_room hb hm hj
  have h6 := Rel_6 hR
  obtain ⟨r, w1, w2, e1, e2, q⟩ := ok_same (ev := ev) (fu := fu) (w := w) (x := a 1) (y := a 2) (Nat.le_trans (Nat.add_le_add_left (by decide) _) hf) hR
  exact ⟨r, _, _, xis, e1, mis, e2, JJ_q hb hR q⟩
theorem call_bridge (hE : EvOk ev) (h2 : Ev2 ev) (hf : 10 ^ 46 + 1000000 ≤ fu) (hm : Rm ev B s0) (hj : j + 1 ≤ 64) (hR : Rel ev w M K T) (hb : Bd ev B s0 j w M T K) : lc_bridge fu ev (mem ev w) ev.1 (ev.1 + 966) a (JJ ev B s0 (j + 1)) := by
  obtain ⟨rb, rc, rs⟩ := Bd_room hb hm hj
  have h6 := Rel_6 hR
  obtain ⟨r, w1, w2, e1, e2, q⟩ := ok_bridge (ev := ev) (fu := fu) (w := w) (x := a 1) (y := a 2) (z := a 3) (p := a 4) (Nat.le_trans (Nat.add_le_add_left (by decide) _) hf) hR
  exact ⟨r, _, _, xis, e1, mis, e2, JJ_q hb hR q⟩
theorem call_turns (hE : EvOk ev) (h2 : Ev2 ev) (hf : 10 ^ 46 + 1000000 ≤ fu) (hm : Rm ev B s0) (hj : j + 1 ≤ 64) (hR : Rel ev w M K T) (hb : Bd ev B s0 j w M T K) : lc_turns fu ev (mem ev w) ev.1 (ev.1 + 966) a (JJ ev B s0 (j + 1)) := by
  obtain ⟨rb, rc, rs⟩ := Bd_room hb hm hj
  have h6 := Rel_6 hR
  obtain ⟨r, w1, w2, e1, e2, q⟩ := op_turns (ev := ev) (fu := fu) (w := w) (u := a 1) (x := a 2) (fuN hf (by decide)) hR
  exact ⟨r, _, _, xis, e1, mis, e2, JJ_q hb hR q⟩
theorem call_within (hE : EvOk ev) (h2 : Ev2 ev) (hf : 10 ^ 46 + 1000000 ≤ fu) (hm : Rm ev B s0) (hj : j + 1 ≤ 64) (hR : Rel ev w M K T) (hb : Bd ev B s0 j w M T K) : lc_within fu ev (mem ev w) ev.1 (ev.1 + 966) a (JJ ev B s0 (j + 1)) := by
  obtain ⟨rb, rc, rs⟩ := Bd_room hb hm hj
  have h6 := Rel_6 hR
  obtain ⟨r, w1, w2, e1, e2, q⟩ := op_within (ev := ev) (fu := fu) (w := w) (u := a 1) (u2 := a 2) (z := a 3) (fuN hf (by decide)) hR
  exact ⟨r, _, _, xis, e1, mis, e2, JJ_q hb hR q⟩
theorem call_holds (hE : EvOk ev) (h2 : Ev2 ev) (hf : 10 ^ 46 + 1000000 ≤ fu) (hm : Rm ev B s0) (hj : j + 1 ≤ 64) (hR : Rel ev w M K T) (hb : Bd ev B s0 j w M T K) : lc_holds fu ev (mem ev w) ev.1 (ev.1 + 966) a (JJ ev B s0 (j + 1)) := by
  obtain ⟨rb, rc, rs⟩ := Bd_room hb hm hj
  have h6 := Rel_6 hR
  obtain ⟨r, w1, w2, e1, e2, q⟩ := op_holds (ev := ev) (fu := fu) (w := w) (u := a 1) (z := a 2) (u2 := a 3) (fuN hf (by decide)) hR
  exact ⟨r, _, _, xis, e1, mis, e2, JJ_q hb hR q⟩
theorem call_shell (hE : EvOk ev) (h2 : Ev2 ev) (hf : 10 ^ 46 + 1000000 ≤ fu) (hm : Rm ev B s0) (hj : j + 1 ≤ 64) (hR : Rel ev w M K T) (hb : Bd ev B s0 j w M T K) : lc_shell fu ev (mem ev w) ev.1 (ev.1 + 966) a (JJ ev B s0 (j + 1)) := by
  obtain ⟨rb, rc, rs⟩ := Bd_room hb hm hj
  have h6 := Rel_6 hR
  obtain ⟨r, w1, w2, e1, e2, q⟩ := op_shell (ev := ev) (fu := fu) (w := w) (u := a 1) (z := a 2) (x3 := a 3) (fuN hf (by decide)) hR
  exact ⟨r, _, _, xis, e1, mis, e2, JJ_q hb hR q⟩
theorem call_swap (hE : EvOk ev) (h2 : Ev2 ev) (hf : 10 ^ 46 + 1000000 ≤ fu) (hm : Rm ev B s0) (hj : j + 1 ≤ 64) (hR : Rel ev w M K T) (hb : Bd ev B s0 j w M T K) : lc_swap fu ev (mem ev w) ev.1 (ev.1 + 966) a (JJ ev B s0 (j + 1)) := by
  obtain ⟨rb, rc, rs⟩ := Bd_room hb hm hj
  have h6 := Rel_6 hR
  obtain ⟨r, w1, w2, e1, e2, hr, hd, hk⟩ := ok_swap (ev := ev) (fu := fu) (w := w) (x := a 1) (y := a 2) (z := a 3) (fuS hf (by decide)) hR
  exact ⟨r, _, _, xis, e1, mis, e2, JJ_1 hb hr (Or.inl rfl) h6 hd hk (fun e => absurd e (by omega))⟩
theorem call_add (hE : EvOk ev) (h2 : Ev2 ev) (hf : 10 ^ 46 + 1000000 ≤ fu) (hm : Rm ev B s0) (hj : j + 1 ≤ 64) (hR : Rel ev w M K T) (hb : Bd ev B s0 j w M T K) : lc_add fu ev (mem ev w) ev.1 (ev.1 + 966) a (JJ ev B s0 (j + 1)) := by
  obtain ⟨rb, rc, rs⟩ := Bd_room hb hm hj
  have h6 := Rel_6 hR
  obtain ⟨r, w1, w2, e1, e2, hr, hd, hk⟩ := ok_add (ev := ev) (fu := fu) (w := w) (x := a 1) (y := a 2) (z := a 3) (u := a 4) (fuS hf (by decide)) hR
  exact ⟨r, _, _, xis, e1, mis, e2, JJ_1 hb hr (Or.inl rfl) h6 hd hk (fun e => absurd e (by omega))⟩
theorem call_undo (hE : EvOk ev) (h2 : Ev2 ev) (hf : 10 ^ 46 + 1000000 ≤ fu) (hm : Rm ev B s0) (hj : j + 1 ≤ 64) (hR : Rel ev w M K T) (hb : Bd ev B s0 j w M T K) : lc_undo fu ev (mem ev w) ev.1 (ev.1 + 966) a (JJ ev B s0 (j + 1)) := by
  obtain ⟨rb, rc, rs⟩ := Bd_room hb hm hj
  have h6 := Rel_6 hR
  obtain ⟨r, w1, w2, e1, e2, hr, hd, hk⟩ := ok_undo (ev := ev) (fu := fu) (w := w) (fuS hf (by decide)) hR
  exact ⟨r, _, _, xis, e1, mis, e2, JJ_1 hb hr (Or.inl rfl) h6 hd hk (fun e => absurd e (by omega))⟩
theorem call_cell (hE : EvOk ev) (h2 : Ev2 ev) (hf : 10 ^ 46 + 1000000 ≤ fu) (hm : Rm ev B s0) (hj : j + 1 ≤ 64) (hR : Rel ev w M K T) (hb : Bd ev B s0 j w M T K) : lc_cell fu ev (mem ev w) ev.1 (ev.1 + 966) a (JJ ev B s0 (j + 1)) := by
  obtain ⟨rb, rc, rs⟩ := Bd_room hb hm hj
  have h6 := Rel_6 hR
  obtain ⟨r, w1, w2, e1, e2, M', hM', hr, hd, hk, hl⟩ := ok_cell (ev := ev) (fu := fu) (w := w) (x1 := a 1) (x2 := a 2) (x3 := a 3) (x4 := a 4) (x5 := a 5) (x6 := a 6) (fuS hf (by decide)) hR
  exact ⟨r, _, _, xis, e1, mis, e2, JJ_1 hb hr hM' (Rel_6 hr) hd hk (fun _ => hl)⟩
theorem call_from (hE : EvOk ev) (h2 : Ev2 ev) (hf : 10 ^ 46 + 1000000 ≤ fu) (hm : Rm ev B s0) (hj : j + 1 ≤ 64) (hR : Rel ev w M K T) (hb : Bd ev B s0 j w M T K) : lc_from fu ev (mem ev w) ev.1 (ev.1 + 966) a (JJ ev B s0 (j + 1)) := by
  obtain ⟨rb, rc, rs⟩ := Bd_room hb hm hj
  have h6 := Rel_6 hR
  obtain ⟨r, w1, w2, e1, e2, M', h1, h2', hr, hd, hl⟩ := op_from (ev := ev) (fu := fu) (w := w) (x := a 1) (y := a 2) (fuS hf (by decide)) hR
  refine ⟨r, _, _, xis, e1, mis, e2, w2, M', T, K, rfl, hr, Bd_1 hb ?_ (by omega) (by omega) ?_ ?_⟩
  · have e := unr_eq (w := w) (w' := w2) (n := M) hl
    have e3 : unr w2 M' ≤ unr w2 M + 1 := by
      by_cases q : M' = M
      · rw [q]; omega
      · rw [show M' = M + 1 by omega]
        show unr w2 M + (if stV (sl w2 M) ≠ 0 then 1 else 0) ≤ unr w2 M + 1
        split <;> omega
    omega
  · unfold szW; rw [hd]; exact Nat.le_add_right _ _
  · unfold slW; rw [hd]; exact Nat.le_add_right _ _
theorem call_feed (hE : EvOk ev) (h2 : Ev2 ev) (hf : 10 ^ 46 + 1000000 ≤ fu) (hm : Rm ev B s0) (hj : j + 1 ≤ 64) (hR : Rel ev w M K T) (hb : Bd ev B s0 j w M T K) : lc_feed fu ev (mem ev w) ev.1 (ev.1 + 966) a (JJ ev B s0 (j + 1)) := by
  obtain ⟨rb, rc, rs⟩ := Bd_room hb hm hj
  have h6 := Rel_6 hR
  obtain ⟨r, w1, w2, e1, e2, T', hT, hr, hd, hl⟩ := ok_feed (ev := ev) (fu := fu) (w := w) (x := a 1) hR
  have e := unr_eq (w := w) (w' := w2) (n := M) (fun l q => hl l (by omega))
  refine ⟨r, _, _, xis, e1, mis, e2, w2, M, T', K, rfl, hr, Bd_1 hb (by omega) (by omega) (by omega) ?_ ?_⟩
  · unfold szW; rw [hd]; exact Nat.le_add_right _ _
  · unfold slW; rw [hd]; exact Nat.le_add_right _ _
theorem call_step (hE : EvOk ev) (h2 : Ev2 ev) (hf : 10 ^ 46 + 1000000 ≤ fu) (hm : Rm ev B s0) (hj : j + 1 ≤ 64) (hR : Rel ev w M K T) (hb : Bd ev B s0 j w M T K) : lc_step fu ev (mem ev w) ev.1 (ev.1 + 966) a (JJ ev B s0 (j + 1)) := by
  obtain ⟨rb, rc, rs⟩ := Bd_room hb hm hj
  have h6 := Rel_6 hR
  obtain ⟨r, w1, w2, e1, e2, hr, z1, z2, hl⟩ := op_step (ev := ev) (fu := fu) (w := w) (x := a 1) hE (fuS hf (by decide)) hR (by omega) (by omega)
  exact ⟨r, _, _, xis, e1, mis, e2, JJ_0 hb hr (Nat.add_le_add_right (unr_ext M hl) _) (Nat.le_refl _) (Nat.le_refl _) (by omega) (by omega)⟩
theorem call_works (hE : EvOk ev) (h2 : Ev2 ev) (hf : 10 ^ 46 + 1000000 ≤ fu) (hm : Rm ev B s0) (hj : j + 1 ≤ 64) (hR : Rel ev w M K T) (hb : Bd ev B s0 j w M T K) : lc_works fu ev (mem ev w) ev.1 (ev.1 + 966) a (JJ ev B s0 (j + 1)) := by
  obtain ⟨rb, rc, rs⟩ := Bd_room hb hm hj
  have h6 := Rel_6 hR
  obtain ⟨r, w1, w2, e1, e2, hr, z1, z2, hl⟩ := op_works (ev := ev) (fu := fu) (w := w) (x := a 1) hE (fuS hf (by decide)) hR (by omega) (by omega)
  exact ⟨r, _, _, xis, e1, mis, e2, JJ_0 hb hr (Nat.add_le_add_right (unr_ext M hl) _) (Nat.le_refl _) (Nat.le_refl _) (by omega) (by omega)⟩
theorem call_forget (hE : EvOk ev) (h2 : Ev2 ev) (hf : 10 ^ 46 + 1000000 ≤ fu) (hm : Rm ev B s0) (hj : j + 1 ≤ 64) (hR : Rel ev w M K T) (hb : Bd ev B s0 j w M T K) : lc_forget fu ev (mem ev w) ev.1 (ev.1 + 966) a (JJ ev B s0 (j + 1)) := by
  obtain ⟨rb, rc, rs⟩ := Bd_room hb hm hj
  have h6 := Rel_6 hR
  obtain ⟨r, w1, w2, e1, e2, hr, z1, z2, hl⟩ := op_forget (ev := ev) (fu := fu) (w := w) (x := a 1) hE (fuS hf (by decide)) hR (by omega) (by omega)
  exact ⟨r, _, _, xis, e1, mis, e2, JJ_s hb hr (fun l _ => sl_row hl) (by omega) (by omega)⟩
theorem call_leaves (hE : EvOk ev) (h2 : Ev2 ev) (hf : 10 ^ 46 + 1000000 ≤ fu) (hm : Rm ev B s0) (hj : j + 1 ≤ 64) (hR : Rel ev w M K T) (hb : Bd ev B s0 j w M T K) : lc_leaves fu ev (mem ev w) ev.1 (ev.1 + 966) a (JJ ev B s0 (j + 1)) := by
  obtain ⟨rb, rc, rs⟩ := Bd_room hb hm hj
  have h6 := Rel_6 hR
  obtain ⟨r, w1, w2, e1, e2, hr, z1, z2, hl⟩ := op_leaves (ev := ev) (fu := fu) (w := w) (x := a 1) hE (fuS hf (by decide)) hR (by omega) (by omega)
  exact ⟨r, _, _, xis, e1, mis, e2, JJ_s hb hr (fun l _ => sl_row hl) (by omega) (by omega)⟩
theorem call_clears (hE : EvOk ev) (h2 : Ev2 ev) (hf : 10 ^ 46 + 1000000 ≤ fu) (hm : Rm ev B s0) (hj : j + 1 ≤ 64) (hR : Rel ev w M K T) (hb : Bd ev B s0 j w M T K) : lc_clears fu ev (mem ev w) ev.1 (ev.1 + 966) a (JJ ev B s0 (j + 1)) := by
  obtain ⟨rb, rc, rs⟩ := Bd_room hb hm hj
  have h6 := Rel_6 hR
  obtain ⟨r, w1, w2, e1, e2, hr, z1, z2, hl⟩ := op_clears (ev := ev) (fu := fu) (w := w) hE (fuS hf (by decide)) hR (by omega) (by omega)
  exact ⟨r, _, _, xis, e1, mis, e2, JJ_s hb hr (fun l _ => sl_row hl) (by omega) (by omega)⟩
theorem call_waits (hE : EvOk ev) (h2 : Ev2 ev) (hf : 10 ^ 46 + 1000000 ≤ fu) (hm : Rm ev B s0) (hj : j + 1 ≤ 64) (hR : Rel ev w M K T) (hb : Bd ev B s0 j w M T K) : lc_waits fu ev (mem ev w) ev.1 (ev.1 + 966) a (JJ ev B s0 (j + 1)) := by
  obtain ⟨rb, rc, rs⟩ := Bd_room hb hm hj
  have h6 := Rel_6 hR
  obtain ⟨r, w1, w2, e1, e2, hr, z1, z2, hl⟩ := op_waits (ev := ev) (fu := fu) (w := w) (x := a 1) hE (fuS hf (by decide)) hR
  exact ⟨r, _, _, xis, e1, mis, e2, JJ_s hb hr (fun l _ => sl_row hl) (by omega) (by omega)⟩
theorem call_line (hE : EvOk ev) (h2 : Ev2 ev) (hf : 10 ^ 46 + 1000000 ≤ fu) (hm : Rm ev B s0) (hj : j + 1 ≤ 64) (hR : Rel ev w M K T) (hb : Bd ev B s0 j w M T K) : lc_line fu ev (mem ev w) ev.1 (ev.1 + 966) a (JJ ev B s0 (j + 1)) := by
  obtain ⟨rb, rc, rs⟩ := Bd_room hb hm hj
  have h6 := Rel_6 hR
  obtain ⟨r, w1, e1, e2, hr, z1, z2, hl⟩ := op_line (ev := ev) (fu := fu) (w := w) (x := a 1) hE (fuS hf (by decide)) hR (by omega) (by omega)
  exact ⟨r, _, _, xis, e1, mis, e2, JJ_s hb hr (fun l _ => sl_row hl) (by omega) (by omega)⟩
theorem call_drop (hE : EvOk ev) (h2 : Ev2 ev) (hf : 10 ^ 46 + 1000000 ≤ fu) (hm : Rm ev B s0) (hj : j + 1 ≤ 64) (hR : Rel ev w M K T) (hb : Bd ev B s0 j w M T K) : lc_drop fu ev (mem ev w) ev.1 (ev.1 + 966) a (JJ ev B s0 (j + 1)) := by
  obtain ⟨rb, rc, rs⟩ := Bd_room hb hm hj
  have h6 := Rel_6 hR
  obtain ⟨r, w1, w2, e1, e2, hr, z1, z2, hl⟩ := op_drop (ev := ev) (fu := fu) (w := w) hE (fuS hf (by decide)) hR (by omega) (by omega)
  have u : unr w2 (M - 1) ≤ unr w M := by
    rw [unr_eq (w := w) (w' := w2) (n := M - 1) (fun l _ => sl_row hl)]
    exact unr_mono (by omega)
  exact ⟨r, _, _, xis, e1, mis, e2, JJ_0 hb hr (by omega) (by omega) (Nat.le_refl _) (by omega) (by omega)⟩
theorem call_image (hE : EvOk ev) (h2 : Ev2 ev) (hf : 10 ^ 46 + 1000000 ≤ fu) (hm : Rm ev B s0) (hj : j + 1 ≤ 64) (hR : Rel ev w M K T) (hb : Bd ev B s0 j w M T K) : lc_image fu ev (mem ev w) ev.1 (ev.1 + 966) a (JJ ev B s0 (j + 1)) := by
  obtain ⟨rb, rc, rs⟩ := Bd_room hb hm hj
  have h6 := Rel_6 hR
  obtain ⟨r, w1, w2, e1, e2, hr, z1, z2, hl⟩ := op_image (ev := ev) (fu := fu) (w := w) hE (fuS hf (by decide)) hR (by omega) (by omega)
  exact ⟨r, _, _, xis, e1, mis, e2, w2, M, T, some M, rfl, hr, Bd_image hb h6 (by rw [unr_eq (w := w) (w' := w2) (n := M) (fun l q => (hl l q).1)]; exact Nat.le_refl _) (by omega) (by omega)⟩
theorem call_back (hE : EvOk ev) (h2 : Ev2 ev) (hf : 10 ^ 46 + 1000000 ≤ fu) (hm : Rm ev B s0) (hj : j + 1 ≤ 64) (hR : Rel ev w M K T) (hb : Bd ev B s0 j w M T K) : lc_back fu ev (mem ev w) ev.1 (ev.1 + 966) a (JJ ev B s0 (j + 1)) := by
  obtain ⟨rb, rc, rs⟩ := Bd_room hb hm hj
  have h6 := Rel_6 hR
  obtain ⟨r, w1, w2, e1, e2, z1, z2, h⟩ := op_back (ev := ev) (fu := fu) (w := w) hE (fuS hf (by decide)) hR (by omega) (by omega)
  refine ⟨r, _, _, xis, e1, mis, e2, ?_⟩
  rcases h with ⟨rfl, -⟩ | ⟨k, hk, hr, -⟩
  · exact JJ_e hb hR
  · exact ⟨w2, k, T, K, rfl, hr, Bd_back hb hk (by omega) (by omega)⟩
theorem call_into (hE : EvOk ev) (h2 : Ev2 ev) (hf : 10 ^ 46 + 1000000 ≤ fu) (hm : Rm ev B s0) (hj : j + 1 ≤ 64) (hR : Rel ev w M K T) (hb : Bd ev B s0 j w M T K) : lc_into fu ev (mem ev w) ev.1 (ev.1 + 966) a (JJ ev B s0 (j + 1)) := by
  obtain ⟨rb, rc, rs⟩ := Bd_room hb hm hj
  have h6 := Rel_6 hR
  obtain ⟨r, w1, w2, e1, e2, hr, hd, hl⟩ := op_into (ev := ev) (fu := fu) (w := w) (u := a 1) (h := a 2) (x := a 3) (y := a 4) (fuN hf (by decide)) hR
  refine ⟨r, _, _, xis, e1, mis, e2, JJ_s hb hr (fun l q => hl l (by omega)) ?_ ?_⟩
  · unfold szW; rw [hd]; exact Nat.le_add_right _ _
  · unfold slW; rw [hd]; exact Nat.le_add_right _ _
theorem call_system (hE : EvOk ev) (h2 : Ev2 ev) (hf : 10 ^ 46 + 1000000 ≤ fu) (hm : Rm ev B s0) (hj : j + 1 ≤ 64) (hR : Rel ev w M K T) (hb : Bd ev B s0 j w M T K) : lc_system fu ev (mem ev w) ev.1 (ev.1 + 966) a (JJ ev B s0 (j + 1)) := by
  obtain ⟨rb, rc, rs⟩ := Bd_room hb hm hj
  have h6 := Rel_6 hR
  obtain ⟨r, w1, w2, e1, e2, hr, z1, z2, hl⟩ := op_system (ev := ev) (fu := fu) (w := w) (u := a 1) hE (fuN hf (by decide)) hR (by omega) (by omega)
  exact ⟨r, _, _, xis, e1, mis, e2, JJ_s hb hr (fun l q => hl l (by omega)) (by omega) (by omega)⟩
theorem call_squares (hE : EvOk ev) (h2 : Ev2 ev) (hf : 10 ^ 46 + 1000000 ≤ fu) (hm : Rm ev B s0) (hj : j + 1 ≤ 64) (hR : Rel ev w M K T) (hb : Bd ev B s0 j w M T K) : lc_squares fu ev (mem ev w) ev.1 (ev.1 + 966) a (JJ ev B s0 (j + 1)) := by
  obtain ⟨rb, rc, rs⟩ := Bd_room hb hm hj
  have h6 := Rel_6 hR
  obtain ⟨r, w1, w2, e1, e2, hr, fx, hd⟩ := op_squares (ev := ev) (fu := fu) (w := w) (u := a 1) hE (fuN hf (by decide)) hR
  refine ⟨r, _, _, xis, e1, mis, e2, JJ_s hb hr (fun l q => fx.2.2.2.2.1.2 (by decide) l (by omega)) ?_ ?_⟩
  · unfold szW; rw [hd]; exact Nat.le_add_right _ _
  · unfold slW; rw [hd]; exact Nat.le_add_right _ _
theorem call_list (hE : EvOk ev) (h2 : Ev2 ev) (hf : 10 ^ 46 + 1000000 ≤ fu) (hm : Rm ev B s0) (hj : j + 1 ≤ 64) (hR : Rel ev w M K T) (hb : Bd ev B s0 j w M T K) : lc_list fu ev (mem ev w) ev.1 (ev.1 + 966) a (JJ ev B s0 (j + 1)) := by
  obtain ⟨rb, rc, rs⟩ := Bd_room hb hm hj
  have h6 := Rel_6 hR
  exact ⟨xis, op_list (ev := ev) (fu := fu) (w := w) (x := a 1) (y := a 2) (fuS hf (by decide)) hR (by omega) (by omega) (fun w2 hr z1 z2 hl => JJ_s hb hr (fun l q => hl l (by omega)) (by omega) (by omega))⟩
theorem call_set (hE : EvOk ev) (h2 : Ev2 ev) (hf : 10 ^ 46 + 1000000 ≤ fu) (hm : Rm ev B s0) (hj : j + 1 ≤ 64) (hR : Rel ev w M K T) (hb : Bd ev B s0 j w M T K) : lc_set fu ev (mem ev w) ev.1 (ev.1 + 966) a (JJ ev B s0 (j + 1)) := by
  obtain ⟨rb, rc, rs⟩ := Bd_room hb hm hj
  have h6 := Rel_6 hR
  exact ⟨xis, op_set (ev := ev) (fu := fu) (w := w) (x := a 1) (y := a 2) (v := lw_v a) hR (by omega) (by omega) (fun w2 hr z1 z2 hl => JJ_s hb hr (fun l q => hl l (by omega)) (by omega) (by omega))⟩
theorem call_get (hE : EvOk ev) (h2 : Ev2 ev) (hf : 10 ^ 46 + 1000000 ≤ fu) (hm : Rm ev B s0) (hj : j + 1 ≤ 64) (hR : Rel ev w M K T) (hb : Bd ev B s0 j w M T K) : lc_get fu ev (mem ev w) ev.1 (ev.1 + 966) a (JJ ev B s0 (j + 1)) := by
  obtain ⟨rb, rc, rs⟩ := Bd_room hb hm hj
  have h6 := Rel_6 hR
  exact ⟨xis, op_get (ev := ev) (fu := fu) (w := w) (x := a 1) (y := a 2) hR (by omega) (by omega) (fun w2 hr z1 z2 hl => JJ_s hb hr (fun l q => hl l (by omega)) (by omega) (by omega))⟩
theorem call_reduce (hE : EvOk ev) (h2 : Ev2 ev) (hf : 10 ^ 46 + 1000000 ≤ fu) (hm : Rm ev B s0) (hj : j + 1 ≤ 64) (hR : Rel ev w M K T) (hb : Bd ev B s0 j w M T K) (hSB : ∀ (v : Nat → Int64) (N : Nat), OkV v → Ends v N → N ≤ B) : lc_reduce fu ev (mem ev w) ev.1 (ev.1 + 966) a (JJ ev B s0 (j + 1)) := by
  obtain ⟨rb, rc, rs⟩ := Bd_room hb hm hj
  have h6 := Rel_6 hR
  obtain ⟨r, w1, w2, e1, e2, hr, z2, h⟩ := op_reduce (ev := ev) (fu := fu) (w := w) (x := a 1) hE (by have := hm.1; omega) hSB (fuS hf (by decide)) hR rb (by omega)
  refine ⟨r, _, _, xis, e1, mis, e2, ?_⟩
  rcases h with ⟨z1, hl⟩ | ⟨z1, k, hk, u1, u2, hl⟩
  · exact ⟨w2, M, T, K, rfl, hr, Bd_B hb (unr_eq hl) (by omega) z2⟩
  · exact ⟨w2, M, T, K, rfl, hr, Bd_red hb (unr_red M hk u1 u2 hl) z1 z2⟩
end XCL
