/-! THE WHOLE, UNDER WHAT IS STILL OWED: the step bound and the operation reads -/
theorem whole_if {B : Nat} (hB : B ≤ 11951) (hSB : ∀ (v : Nat → Int64) (N : Nat), OkV v → Ends v N → N ≤ B)
    (h_reads : ∀ (ev : Ev) (fu s0 : Nat) (w : Wd) (M T : Nat) (K : Option Nat) (a : Nat → Int32) (j : Nat), EvOk ev → Ev2 ev → 10 ^ 46 + 1000000 ≤ fu → Rm ev B s0 → j + 1 ≤ 64 → Rel ev w M K T → Bd ev B s0 j w M T K → lc_reads fu ev (mem ev w) ev.1 (ev.1 + 966) a (JJ ev B s0 (j + 1)))
    {p : Program} {e : Env} {s : State} {m : MethodId} {below : List Frame} {meth : Method} {c : Code} (l : Launch) (hflags : l.flags = flags0) {b L : Nat} {xs : Nat → Int32} (hL : L ≤ 448) (C0 : lw_At p s m meth c b L xs) : W p l e room_1 s m #[Value.ref b] below meth c s.heap [] 0 0 (lw_Z below #[Value.ref b] s) (entryFrame m ([Value.ref b] : List Value).toArray 4) := by
  obtain ⟨D, ev, he, ⟨hE, h2⟩, hb, ho, hK⟩ := start_all2 hL C0
  obtain ⟨hx, hcode, hr, hml, hown, hts, hX, hbl, hlocks, hgv⟩ := C0
  have hlt : l.stackTraces = false := by
    unfold Launch.stackTraces
    rw [hflags]
    decide +kernel
  obtain ⟨he1, he2, he3⟩ := id he
  have hm : Rm ev B (xtot s.heap + 25 + 3675 + 32 + 1446) := ⟨hB, by rw [he2, he1], by rw [he3]; omega⟩
  have b1 : ev.1 + 1000 ≤ ev.2.1 := by rw [he2, he1]; omega
  have b2 : xtot s.heap + 8000 ≤ ev.2.2.1 := by rw [he3]; omega
  obtain ⟨fu, hfu⟩ : ∃ fu, fu = 10 ^ 46 + 1000000 := ⟨_, rfl⟩
  have hf : 10 ^ 46 + 1000000 ≤ fu := Nat.le_of_eq hfu.symm
  have C : Cx p m meth c cL_law 4 s #[Value.ref b] R_law room_1 ev D s.heap 35 11482 := by
    refine ⟨⟨hx, hcode, hml, hown, fun w h => hts w (lw_all_tbl h)⟩, hK, ?_, ?_, rfl, rfl, hlocks⟩
    · rw [he2, Nat.add_sub_cancel_left]
      rfl
    · rw [he3, Nat.add_sub_cancel_left]
      rfl
  have hH : Hs D s.heap ev (fun a => if a < ev.1 then ev.2.2.2.2 a else none, ev.1, xtot s.heap) s.heap := by
    refine ⟨he1.symm, rfl, Nat.le_refl _, Nat.le_trans (Nat.le_add_right _ _) b1, Nat.le_trans (Nat.le_add_right _ _) b2, fun _ _ => rfl, fun a e ha hs => ?_, fun a ha => if_pos ha⟩
    have z : (if a < ev.1 then ev.2.2.2.2 a else none) = some e := hs
    rw [if_neg (Nat.not_lt.mpr ha)] at z
    exact absurd z (by simp)
  obtain ⟨s1, s2, s3, k1, k2, k3, k4⟩ := con_all (ev := ev) (fu := fu) (s := xtot s.heap) hE (Nat.le_trans (by decide) hf) b1 b2
  have hj64 : ∀ j : Nat, 7 * j + 7 ≤ L → j + 1 ≤ 64 := fun j hj => by
    clear hfu hf hSB h_reads
    omega
  refine law_start hlt C hr he hb ho hL hH k1 k2 k3 k4 (J := JJ ev B (xtot s.heap + 25 + 3675 + 32 + 1446)) (JJ_begin hE) (fun j σ hj hJ => ?_)
  exact st_all hE h2 hf hm hSB (fun w M T K a j hj hR hb => call_blunt hE hf hm hj hR hb) (fun w M T K a j hj hR hb => h_reads ev fu _ w M T K a j hE h2 hf hm hj hR hb) (fun w M T K a j hj hR hb => call_prints hE hf hm hj hR hb) (hj64 j hj) hJ
