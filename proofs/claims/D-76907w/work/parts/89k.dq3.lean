/-! THE DEQUE: its iterator removes -/
section XDS
variable {ev : Ev} {w w' : Wd} {r h n k q c i j t fu : Nat} {qs : Nat → Nat}
theorem di_gone {c m l : Int32} {a : Nat} (ht : ev.1 + 984 ≤ t) (hd : w.2.2.2.1 t = diO c m l a) : f_J6_postDelete fu ev (mem ev w) t 0 = some ((), mem ev w) := by
  simp only [b_J6_postDelete_23, b_J6_postDelete_4, b_J6_postDelete_0, f_J6_postDelete, if_true, eq_self]
theorem di_back (hr : Hq r) {m l : Int32} (hj : j < 17) (ht : ev.1 + 984 ≤ t) (hd : w.2.2.2.1 t = diO (nI j) m l (ev.1 + r)) : f_J6_postDelete fu ev (mem ev w) t 1 = some ((), mem ev (wD w t (diO (nI ((j + 16) % 17)) m l (ev.1 + r)))) := by
  have o01 : ¬ (1 : Int32) = 0 := by decide
  have dec := q_dec (ev := ev) (fu := fu) (σ := mem ev w) hj
  generalize nI ((j + 16) % 17) = y at dec ⊢
  have e2 := di_p0 (ev := ev) (x := y) ht hd
  unfold f_J6_postDelete b_J6_postDelete_0
  rw [if_neg o01]
  unfold b_J6_postDelete_4
  rw [di_0 ht hd, Option.bind_some, di_3 ht hd, Option.bind_some, Option.bind_some, qA0 hr, Option.bind_some, Option.bind_some, qLen hr, Option.bind_some, dec]
  show (pfI ev (mem ev w) t 9 0 y).bind (fun s9 => b_J6_postDelete_23 fu ev s9) = _
  rw [e2, Option.bind_some]
  unfold b_J6_postDelete_23
  rfl
theorem di_rem (hr : Hq r) {c m : Int32} {b : Int32} {w1 w2 : Wd} (ht : ev.1 + 984 ≤ t) (hj : j < 17) (hd : w.2.2.2.1 t = diO c m (nI j) (ev.1 + r)) (e1 : f_J5_delete fu ev (mem ev w) (ev.1 + r) (nI j) = some (b, mem ev w1)) (d1 : isC (mem ev w1) t 9 = some ()) (e2 : f_J6_postDelete fu ev (mem ev w1) t b = some ((), mem ev w2)) {c2 m2 l2 : Int32} (d2 : w2.2.2.2.1 t = diO c2 m2 l2 (ev.1 + r)) : f_J6_remove fu ev (mem ev w) t = some ((), mem ev (wD w2 t (diO c2 m2 (-1) (ev.1 + r)))) := by
  have c0 : (0 : Int32) ≤ nI j := nI_pos' (by omega)
  have e3 := di_p2 (ev := ev) (x := -1) ht d2
  simp only [b_J6_remove_15, b_J6_remove_7, b_J6_remove_0, f_J6_remove, di_2 ht hd, c0, if_true, di_3 ht hd, qIs hr, e1, d1, e2, e3, Option.bind_some, bd2]
theorem dq_remove (hr : Hq r) (hE : EvOk ev) (hQ : DQ ev w r h (n + 1) qs) (hk : k < n + 1) (hT : Di ev w r t h (n + 1) (k + 1) (nI ((h + k) % 17))) :
    ∃ (h' : Nat) (w' : Wd), f_J6_remove fu ev (mem ev w) t = some ((), mem ev w') ∧ DQ ev w' r h' n (dl k qs) ∧ Di ev w' r t h' n k (-1) ∧ w'.1 = w.1 ∧ (∀ q : Nat, q ≠ r → w'.2.1 q = w.2.1 q) ∧ (∀ q : Nat, q ≠ r + 1 → w'.2.2.1 q = w.2.2.1 q) ∧ (∀ a : Nat, a ≠ t → dyn w' a = dyn w a) ∧ w'.2.2.2.2 = w.2.2.2.2 := by
  obtain ⟨hd, h0, hs⟩ := hT
  have hn6 := hQ.2.1
  have h17 := hQ.1
  have hp : (h + k) % 17 < 17 := Nat.mod_lt _ (by decide)
  obtain ⟨b, h', w1, e1, hb, Q1, ⟨f1, f2, f3, f4⟩⟩ := dq_delete (fu := fu) hr hE hQ hk
  obtain ⟨c1, hc1⟩ : ∃ c, c = (h + (k + 1)) % 17 := ⟨_, rfl⟩
  rw [← hc1] at hd
  have d1 : w1.2.2.2.1 t = diO (nI c1) (nI (n + 1 - (k + 1))) (nI ((h + k) % 17)) (ev.1 + r) := by rw [f4]; exact hd
  have i1 := di_is h0 d1
  have s1 : t < szW w1 := by
    show t < w1.2.2.2.2.1
    rw [f4]
    exact hs
  have y1 : ∀ a : Nat, dyn w1 a = dyn w a := fun a => by
    show w1.2.2.2.1 a = _
    rw [f4]; rfl
  have z1 : w1.2.2.2.2 = w.2.2.2.2 := by rw [f4]
  have en : n + 1 - (k + 1) = n - k := by omega
  rcases hb with ⟨hb, hh⟩ | ⟨hb, hh⟩
  · rw [hb] at e1
    have e3 := di_rem hr h0 hp hd e1 i1 (di_gone h0 d1) d1
    refine ⟨h', _, e3, DQ_row Q1 rfl rfl, ⟨?_, h0, s1⟩, f1, f2, f3, fun a ha => ?_, z1⟩
    · rw [dyn_wD, if_pos rfl, en, hc1, hh, show (h + (k + 1)) % 17 = ((h + 1) % 17 + k) % 17 by omega]
    · rw [dyn_wD, if_neg ha]
      exact y1 a
  · rw [hb] at e1
    have hp1 : c1 < 17 := by omega
    have e2 := di_back (fu := fu) hr hp1 h0 d1
    have e3 := di_rem hr h0 hp hd e1 i1 e2 wD_at
    rw [wD_wD] at e3
    refine ⟨h', _, e3, DQ_row Q1 rfl rfl, ⟨?_, h0, s1⟩, f1, f2, f3, fun a ha => ?_, z1⟩
    · rw [dyn_wD, if_pos rfl, en, hh, show (c1 + 16) % 17 = (h + k) % 17 by omega]
    · rw [dyn_wD, if_neg ha]
      exact y1 a
end XDS
