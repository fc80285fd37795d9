/-! THE PAPER: the text that begins with the letter g -/
section XSG
variable {ev : Ev} {w w' w'' : Wd} {fu lo S V cap n k i m c d p s : Nat} {f : Nat → Int32} {x : Int32} {σ : Mm}
theorem sb_g (hE : EvOk ev) (hz : ev.1 + 984 ≤ szW w) (h1 : szW w + 2 ≤ ev.2.1) (h2 : slW w + 130 ≤ ev.2.2.1) : ∃ (w1 w' : Wd) (f' : Nat → Int32), nwO ev (mem ev w) 13 4 [.null, .int 0, .int 0, .int 0] = some (szW w, mem ev w1) ∧ gsS ev 1 = some (xst ev 101) ∧ f_J14_init_2 fu ev (mem ev w1) (szW w) (some (xst ev 101)) = some ((), mem ev w') ∧ SBd ev w' (szW w) (szW w) (szW w + 1) 17 1 f' ∧ f' 0 = nI 103 ∧ Fr0 (szW w) w w' ∧ szW w' = szW w + 2 ∧ slW w' = slW w + 21 := by
  obtain ⟨S, hS⟩ : ∃ S, S = szW w := ⟨_, rfl⟩
  obtain ⟨w1, hw1⟩ : ∃ w1, w1 = nwW w 4 (.inr (13, [.null, .int 0, .int 0, .int 0])) := ⟨_, rfl⟩
  obtain ⟨w2, hw2⟩ : ∃ w2, w2 = wD w1 S (some (.inr (13, [.null, .int 0, .int 0, .int 0]))) := ⟨_, rfl⟩
  obtain ⟨w3, hw3⟩ : ∃ w3, w3 = nwW w2 17 (.inl (3, 17, .inl fun _ => 0)) := ⟨_, rfl⟩
  obtain ⟨w4, hw4⟩ : ∃ w4, w4 = wD w3 S (obB (S + 1) 0) := ⟨_, rfl⟩
  obtain ⟨⟨-, -, -, s3, -, -, -, -, -, -, -, -, -, s101⟩, -, -, -, -, -, -, -, -, -, c101, c102, hlt⟩ := id hE
  have z1 : szW w1 = S + 1 := by rw [hw1, hS]; rfl
  have z2 : szW w2 = S + 1 := by rw [hw2]; exact z1
  have l2 : slW w2 = slW w + 4 := by rw [hw2, hw1]; rfl
  have g3 : gsI ev 3 = some 1 := by unfold gsI; rw [s3]
  have gs : gsS ev 1 = some (xst ev 101) := by unfold gsS; rw [s101]
  have sg : ∀ u : Wd, Sg (mem ev u) (xst ev 101) (xvl ev (xst ev 101)) 1 (fun j => if j < 1 then 103 else 0) := fun u => ⟨⟨[], by rw [mem_old (hlt _ _ c101)]; exact c101⟩, by rw [mem_old (hlt _ _ c102)]; exact c102⟩
  have e1 : nwO ev (mem ev w) 13 4 [.null, .int 0, .int 0, .int 0] = some (szW w, mem ev w1) := by
    rw [hw1]
    exact d_nwO hz (by show szW w + 1 ≤ _; omega) (by show slW w + 4 ≤ _; omega)
  have d1 : dyn w1 S = some (.inr (13, [.null, .int 0, .int 0, .int 0])) := by rw [hw1, hS]; exact dn_new
  have e2 : pfB ev (mem ev w1) S 13 1 0 = some (mem ev w2) := by
    rw [pfB0 (by omega) d1 (by simp), hw2]
    rfl
  have e3 : nwA ev (mem ev w2) 3 (17 : Int32) 1 (.inl fun _ => 0) = some (S + 1, mem ev w3) := by
    rw [hw3, ← z2]
    exact d_nwB (n := 17) (by omega) (by decide) (by omega) (by omega)
  have d3 : dyn w3 S = some (.inr (13, [.null, .int 0, .int 0, .int 0])) := by
    rw [hw3]
    refine ((Nw_new (w := w2)).2.2.2.2.2.2 S (by omega)).trans ?_
    rw [hw2]
    exact dn_wD
  have d3V : dyn w3 (S + 1) = oBy 17 (fun _ => 0) := by rw [hw3, ← z2]; exact dn_new
  have e4 : pfA ev (mem ev w3) S 13 0 (some (S + 1)) = some (mem ev w4) := by
    unfold pfA
    rw [d_pV (k := 0) (by omega) d3 (by simp), hw4]
    rfl
  have z4 : szW w4 = S + 2 := by rw [hw4, hw3]; show szW w2 + 1 = _; omega
  have l4 : slW w4 = slW w + 21 := by rw [hw4, hw3]; show slW w2 + 17 = _; omega
  have sb4 : SBd ev w4 S S (S + 1) 17 0 (fun _ => 0) := ⟨by omega, Nat.le_refl _, by omega, by omega, by omega, by omega, by rw [hw4]; exact dn_wD, by rw [hw4, dn_ne (by omega)]; exact d3V, by decide, by decide, by decide, fun _ => (by decide : 0 ≤ (0 : Int32).toInt ∧ (0 : Int32).toInt ≤ 127)⟩
  have f04 : Fr0 S w w4 := by
    have f1 : Fr0 S w w1 := by rw [hw1]; exact Fr0_nw (by omega)
    have f2 : Fr0 S w1 w2 := by rw [hw2]; exact Fr0_wD (Nat.le_refl _)
    have f3 : Fr0 S w2 w3 := by rw [hw3]; exact Fr0_nw (by omega)
    have f4 : Fr0 S w3 w4 := by rw [hw4]; exact Fr0_wD (Nat.le_refl _)
    exact Fr0_trans f1 (Fr0_trans f2 (Fr0_trans f3 f4))
  -- the letter itself
  obtain ⟨w5, hw5⟩ : ∃ w5, w5 = wD w4 (S + 1) (oBy 17 (va_cpy (fun j => if j < 1 then 103 else 0) (fun _ => 0) 0 0 1)) := ⟨_, rfl⟩
  obtain ⟨w6, hw6⟩ : ∃ w6, w6 = wD w5 S (obB (S + 1) 1) := ⟨_, rfl⟩
  have d4 : dyn w4 S = obB (S + 1) 0 := by rw [hw4]; exact dn_wD
  have d4V : dyn w4 (S + 1) = oBy 17 (fun _ => 0) := by rw [hw4, dn_ne (by omega)]; exact d3V
  have d5 : dyn w5 S = obB (S + 1) 0 := by rw [hw5, dn_ne (by omega)]; exact d4
  have iS4 : isC (mem ev w4) S 13 = some () := o_is (by omega) d4
  have sl1 : ∀ u : Wd, f_J15_length fu ev (mem ev u) (xst ev 101) = some (1, mem ev u) := fun u => str_len hE (sg u) (by decide)
  have cod : ∀ u : Wd, f_J15_coder fu ev (mem ev u) (xst ev 101) = some (0, mem ev u) := fun u => coder hE (sg u)
  have isg : ∀ u : Wd, isC (mem ev u) (xst ev 101) 14 = some () := fun u => sg_is (sg u)
  have q3 : gfI (mem ev w4) S 13 3 = some 0 := o_gI (by omega) d4 rfl
  have q1 : gfI (mem ev w4) S 13 1 = some 0 := o_gI (by omega) d4 rfl
  have q0 : gfA (mem ev w4) S 13 0 = some (some (S + 1)) := o_gA (by omega) d4 rfl
  have ens : f_J13_ensureCapacityInternal fu ev (mem ev w4) S (0 + 1) = some ((), mem ev w4) := by
    unfold f_J13_ensureCapacityInternal b_J13_ensureCapacityInternal_0
    rw [q0, Option.bind_some, Option.bind_some, by_len (by omega) d4V, Option.bind_some, q1, Option.bind_some, sh0 (by decide), if_pos (by decide)]
    rfl
  have inf : f_J13_inflateIfNeededFor fu ev (mem ev w4) S (some (xst ev 101)) = some ((), mem ev w4) := by
    unfold f_J13_inflateIfNeededFor b_J13_inflateIfNeededFor_0
    rw [g3, Option.bind_some, if_neg (by decide)]
    unfold b_J13_inflateIfNeededFor_6
    rw [q1, Option.bind_some, Option.bind_some, isg, Option.bind_some, cod, b2s, if_pos rfl]
    rfl
  have cp : cpyB ev (mem ev w4) (xvl ev (xst ev 101)) (0 : Int32) (S + 1) (0 : Int32) (nI 1) = some (mem ev w5) := by
    unfold cpyB
    rw [mem_old (hlt _ _ c102), mem_dyn (show ev.1 + 984 ≤ S + 1 by omega), c102]
    have y2 : w4.2.2.2.1 (S + 1) = some (.inl (3, 17, .inl fun _ => 0)) := d4V
    rw [y2]
    have z0 : (0 : Int32).toNatClampNeg = 0 := by decide
    have z1 : (nI 1).toNatClampNeg = 1 := by decide
    show (if _ then _ else _) = _
    rw [z1, z0, if_pos ⟨⟨rfl, rfl, by omega⟩, by decide, by decide⟩, mem_upd (by omega), hw5]
    rfl
  have gb : f_J15_getBytes fu ev (mem ev w4) (xst ev 101) (some (S + 1)) 0 0 = some ((), mem ev w5) := by
    unfold f_J15_getBytes b_J15_getBytes_0
    rw [isg, Option.bind_some, cod, b2s, if_pos rfl]
    unfold b_J15_getBytes_8
    rw [sg_val (sg w4), Option.bind_some, Option.bind_some, Option.bind_some, sg_len (sg w4), Option.bind_some, Option.bind_some, Option.bind_some, shl0, cp]
    rfl
  have put : f_J13_putStringAt fu ev (mem ev w4) S 0 (some (xst ev 101)) = some ((), mem ev w5) := by
    unfold f_J13_putStringAt b_J13_putStringAt_0
    rw [iS4, Option.bind_some, inf, b2s, q0, Option.bind_some, q1, Option.bind_some, Option.bind_some, isg, Option.bind_some, gb]
    rfl
  have q5 : gfI (mem ev w5) S 13 3 = some 0 := o_gI (by omega) d5 rfl
  have pf : pfI ev (mem ev w5) S 13 3 (0 + 1) = some (mem ev w6) := by
    unfold pfI
    rw [d_pV (k := 3) (by omega) d5 (by simp), hw6]
    rfl
  have app : f_J14_append_4 fu ev (mem ev w4) S (some (xst ev 101)) = some (some S, mem ev w6) := by
    unfold f_J14_append_4 b_J14_append_4_0
    rw [iS4, Option.bind_some]
    unfold f_J14_append b_J14_append_0
    rw [iS4, Option.bind_some]
    unfold f_J13_append b_J13_append_0
    rw [if_neg (by simp)]
    unfold b_J13_append_9
    rw [Option.bind_some, isg, Option.bind_some, sl1, b2s, q3, Option.bind_some, iS4, Option.bind_some, ens, b2s, q3, Option.bind_some, iS4, Option.bind_some, put, b2s, q5, Option.bind_some, pf]
    rfl
  rw [← hS]
  rw [← hS] at e1
  refine ⟨w1, w6, va_cpy (fun j => if j < 1 then 103 else 0) (fun _ => 0) 0 0 1, e1, gs, ?_, ⟨by omega, Nat.le_refl _, by omega, by rw [hw6, hw5]; show S < szW w4; omega, by rw [hw6, hw5]; show S + 1 < szW w4; omega, by omega, by rw [hw6]; exact dn_wD, by rw [hw6, dn_ne (by omega), hw5]; exact dn_wD, by decide, by decide, by decide, fun i => ?_⟩, rfl, ?_, by rw [hw6, hw5]; exact z4, by rw [hw6, hw5]; exact l4⟩
  · unfold f_J14_init_2 b_J14_init_2_0 f_J13_init_2 b_J13_init_2_0
    rw [Option.bind_some, isg, Option.bind_some, sl1, b2s, if_neg (by decide)]
    unfold b_J13_init_2_15 b_J13_init_2_24
    rw [isg, Option.bind_some, cod, b2s, e2, Option.bind_some, if_pos rfl]
    unfold b_J13_init_2_43
    rw [show (1 : Int32) + 16 = 17 from by decide, e3, b2s]
    unfold b_J13_init_2_53
    rw [e4, Option.bind_some, iS4, Option.bind_some, app]
    rfl
  · unfold va_cpy
    by_cases c : 0 ≤ i ∧ i < 0 + 1
    · rw [if_pos c]
      have : i = 0 := by omega
      subst this
      decide
    · rw [if_neg c]
      exact (by decide : 0 ≤ (0 : Int32).toInt ∧ (0 : Int32).toInt ≤ 127)
  · refine Fr0_trans f04 (Fr0_trans (w' := w5) ?_ ?_)
    · rw [hw5]; exact Fr0_wD (by omega)
    · rw [hw6]; exact Fr0_wD (Nat.le_refl _)
end XSG
