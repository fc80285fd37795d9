/-! THE LAW'S CALL blunt -/
section XBC
variable {ev : Ev} {w : Wd} {fu j B s0 M T : Nat} {K : Option Nat} {a : Nat → Int32}
theorem call_blunt (hE : EvOk ev) (hf : 10 ^ 46 + 1000000 ≤ fu) (hm : Rm ev B s0) (hj : j + 1 ≤ 64) (hR : Rel ev w M K T) (hb : Bd ev B s0 j w M T K) : lc_blunt fu ev (mem ev w) ev.1 (ev.1 + 966) a (JJ ev B s0 (j + 1)) := by
  obtain ⟨rb, rc, rs⟩ := Bd_room hb hm hj
  have h6 := Rel_6 hR
  obtain ⟨r, w1, w2, e1, e2, hr, hs, z1, z2⟩ := op_blunt (ev := ev) (fu := fu) (w := w) (u := a 1) (z := a 2) hE (Nat.le_trans (by decide) hf) hR (by omega) (by omega)
  exact ⟨r, _, _, xis, e1, mis, e2, JJ_s hb hr (fun l q => hs l (by omega)) (by omega) (by omega)⟩
end XBC
