/-! SHELLS: the loops that find the squares (class) -/
def QSt (w0 w : Wd) (v : Nat → Int64) (n : Nat) : Prop := Sq w0 w ∧ cv w 0 = v ∧ srt (w.1 33) n ∧ ∀ P : Int64 → Bool, cpN (w.1 33) P n = cpN (sqf v) P n
def mn (j : Nat) : Nat := if j < 364 then j else 364
section XSF
variable {ev : Ev} {w w0 w' : Wd} {fu k n i j L a b c N M T : Nat} {v : Nat → Int64} {x : Int64} {m u z : Int32} {Kp : Option Nat}
theorem cv_30 (hc : c < 118) : cv (wJ w 30 i x) c = cv w c := by
  have hr : ∀ t : Nat, t < 8 → cr c + t ≠ 30 := by
    intro t ht
    unfold cr
    split <;> omega
  have e : ∀ q j : Nat, q ≠ 30 → (wJ w 30 i x).1 q j = w.1 q j := fun q j h => by
    show (if q = 30 ∧ j = i then x else w.1 q j) = _
    rw [if_neg (fun e => h e.1)]
  funext j
  simp only [cv]
  rw [e _ _ (hr 1 (by decide)), e _ _ (hr 2 (by decide)), e _ _ (hr 4 (by decide)), e _ _ (hr 5 (by decide)), e _ _ (hr 6 (by decide))]
theorem QSt_30 (h : QSt w0 w v n) : QSt w0 (wJ w 30 i x) v n := by
  obtain ⟨h1, h2, h3, h4⟩ := h
  have e : (wJ w 30 i x).1 33 = w.1 33 := by
    funext j
    show (if 33 = 30 ∧ j = i then x else w.1 33 j) = _
    rw [if_neg (by omega)]
  refine ⟨Sq_trans h1 ⟨fun q j hq => ?_, fun _ _ _ => rfl, rfl⟩, by rw [cv_30 (by decide)]; exact h2, by rw [e]; exact h3, by rw [e]; exact h4⟩
  show (if q = 30 ∧ j = i then x else w.1 q j) = _
  rw [if_neg]
  rintro ⟨rfl, -⟩
  exact hq (by unfold sJ; omega)
theorem w30_e : (wJ w 30 i x).1 30 i = x := by
  show (if 30 = 30 ∧ i = i then x else w.1 30 i) = _
  rw [if_pos ⟨rfl, rfl⟩]
theorem w30_n (h : j ≠ i) : (wJ w 30 i x).1 30 j = w.1 30 j := by
  show (if 30 = 30 ∧ j = i then x else w.1 30 j) = _
  rw [if_neg (fun e => h e.2)]
theorem ins_step {R29 : Mm → Nat → Int32 → Nat → Option (Unit × Mm)} {R43 : Mm → Nat → Int32 → Nat → Option (Unit × Mm)} {R59 : Mm → Nat → Int32 → Nat → Option (Unit × Mm)} {y : Nat} (hf : 364 < fu) (hn : n < 364) (h : QSt w0 w v n) : ∃ w' : Wd, QSt w0 w' v (n + 1) ∧ (∀ i : Nat, w'.1 30 i = w.1 30 i) ∧ L_X0_findSquares_131 R29 R43 R59 fu ev fu (mem ev w) ev.1 (nI n) y (sqf v n) (nI n) = b_X0_findSquares_185 R29 R43 R59 fu ev (mem ev w') ev.1 (nI (n + 1)) y := by
  obtain ⟨h1, h2, h3, h4⟩ := h
  obtain ⟨w', p, g1, g2, g3, g4_, g5, g6, g7, -, g8⟩ := ins_l (ev := ev) (R29 := R29) (R43 := R43) (R59 := R59) (fu := fu) (m := nI n) (x := sqf v n) (y := y) n fu w (by omega) hn
  rw [nI_1] at g8
  have hi : Ins (w.1 33) (w'.1 33) n p (sqf v n) := ⟨g1, g3, g4_, g5⟩
  refine ⟨w', ⟨Sq_trans h1 (O33_Sq g2), by rw [O33_cv g2 (by decide)]; exact h2, Ins_srt hi h3 (fun i hp => ?_) (fun i a b => Int64.le_of_lt (g7 i a b)), fun P => ?_⟩, fun i => g2.1 30 i (by decide), g8⟩
  · rcases g6 with e | e
    · omega
    · by_cases q : i = p - 1
      · rw [q]; exact e
      · exact Int64.le_trans (h3 i (p - 1) (by omega) (by omega)) e
  · rw [Ins_cpN n hi, h4 P]
    rfl
theorem sq_is (hv : OkV v) (ha : a < 9) (hb : b < 9) (hc : c < 9) (h0 : w.1 30 0 = g4 a) (h1 : w.1 30 1 = g4 b) (h2 : w.1 30 2 = g4 c) : twV v (w.1 30) (w.1 30) / 2 = sqf v (81 * a + 9 * b + c) := by
  have e : ∀ i : Nat, i < 3 → w.1 30 i = vec (81 * a + 9 * b + c) i := by
    intro i hi
    match i, hi with
    | 0, _ => rw [h0]; show g4 a = g4 ((81 * a + 9 * b + c) / 81); congr 1; omega
    | 1, _ => rw [h1]; show g4 b = g4 ((81 * a + 9 * b + c) / 9 % 9); congr 1; omega
    | 2, _ => rw [h2]; show g4 c = g4 ((81 * a + 9 * b + c) % 9); congr 1; omega
  have hu : ∀ i : Nat, i < 3 → (vec (81 * a + 9 * b + c) i).toInt.natAbs ≤ 6 := by
    intro i hi
    rw [← e i hi]
    match i, hi with
    | 0, _ => rw [h0]; have := (g4_a a ha).1; omega
    | 1, _ => rw [h1]; have := (g4_a b hb).1; omega
    | 2, _ => rw [h2]; have := (g4_a c hc).1; omega
  rw [tw_ext e e]
  exact (sb_half hv hu).1
theorem fq_c {R29 : Mm → Nat → Int32 → Nat → Option (Unit × Mm)} {R43 : Mm → Nat → Int32 → Nat → Option (Unit × Mm)} (hf : 400 < fu) (hv : OkV v) (ha : a < 5) (hb : b < 9) : ∀ (d g c : Nat) (w : Wd), c + d = 9 → d < g → QSt w0 w v (mn (81 * a + 9 * b + c)) → w.1 30 0 = g4 a → w.1 30 1 = g4 b → w.1 30 2 = g4 c → ∃ w' : Wd, QSt w0 w' v (mn (81 * a + 9 * b + 9)) ∧ w'.1 30 0 = g4 a ∧ w'.1 30 1 = g4 b ∧ L_X0_findSquares_59 R29 R43 fu ev g (mem ev w) ev.1 (nI (mn (81 * a + 9 * b + c))) (ev.1 + 30) = b_X0_findSquares_195 R29 R43 fu ev (mem ev w') ev.1 (nI (mn (81 * a + 9 * b + 9))) (ev.1 + 30) := by
  have f0 : Fi 30 := Or.inl rfl
  intro d
  induction d with
  | zero =>
    intro g c w hc hg hq h0 h1 h2
    obtain ⟨g, rfl⟩ : ∃ g', g = g' + 1 := ⟨g - 1, by omega⟩
    obtain rfl : c = 9 := by omega
    refine ⟨w, hq, h0, h1, ?_⟩
    show b_X0_findSquares_59 _ _ _ fu ev _ _ _ _ = _
    unfold b_X0_findSquares_59
    rw [fg2 f0, h2, Option.bind_some, if_pos (show (4 : Int64) < g4 9 by decide)]
  | succ d ih =>
    intro g c w hc hg hq h0 h1 h2
    obtain ⟨g, rfl⟩ : ∃ g', g = g' + 1 := ⟨g - 1, by omega⟩
    have hn4 : ¬ (4 : Int64) < g4 c := fun e => by have := (g4_4 c (by omega)).mp e; omega
    have t1 := X1_twice (ev := ev) (w := w) (fu := fu) (c := 0) (by decide) (by omega) f0 f0
    rw [hq.2.1] at t1
    have sq := sq_is hv (show a < 9 by omega) hb (show c < 9 by omega) h0 h1 h2
    by_cases hh : 81 * a + 9 * b + c < 364
    · have hm : mn (81 * a + 9 * b + c) = 81 * a + 9 * b + c := if_pos hh
      have hm2 : mn (81 * a + 9 * b + (c + 1)) = 81 * a + 9 * b + c + 1 := by unfold mn; split <;> omega
      rw [hm] at hq ⊢
      obtain ⟨w1, k1, k2, k3⟩ := ins_step (ev := ev) (R29 := R29) (R43 := R43) (R59 := L_X0_findSquares_59 R29 R43 fu ev g) (fu := fu) (y := ev.1 + 30) (by omega) hh hq
      obtain ⟨w2, m1, m2, m3, m4⟩ := ih g (c + 1) (wJ w1 30 2 (g4 (c + 1))) (by omega) (by omega) (by rw [hm2]; exact QSt_30 k1) (by rw [w30_n (by decide), k2, h0]) (by rw [w30_n (by decide), k2, h1]) w30_e
      refine ⟨w2, m1, m2, m3, ?_⟩
      rw [← m4, hm2]
      have hd : b_X0_findSquares_185 R29 R43 (L_X0_findSquares_59 R29 R43 fu ev g) fu ev (mem ev w1) ev.1 (nI (81 * a + 9 * b + c + 1)) (ev.1 + 30) = L_X0_findSquares_59 R29 R43 fu ev g (mem ev (wJ w1 30 2 (g4 (c + 1)))) ev.1 (nI (81 * a + 9 * b + c + 1)) (ev.1 + 30) := by
        unfold b_X0_findSquares_185
        rw [fg2 f0, Option.bind_some, k2, h2, g4_s c (by omega), fw2 f0, Option.bind_some]
      rw [← hd, ← k3]
      have hb13 : b_X0_findSquares_113 R29 R43 (L_X0_findSquares_59 R29 R43 fu ev g) fu ev (mem ev w) ev.1 (nI (81 * a + 9 * b + c)) (ev.1 + 30) = L_X0_findSquares_131 R29 R43 (L_X0_findSquares_59 R29 R43 fu ev g) fu ev fu (mem ev w) ev.1 (nI (81 * a + 9 * b + c)) (ev.1 + 30) (sqf v (81 * a + 9 * b + c)) (nI (81 * a + 9 * b + c)) := by
        unfold b_X0_findSquares_113
        simp only [xf2, cis (show 0 < 118 by decide), t1, sq, Option.bind_some, bd2]
      rw [← hb13]
      show b_X0_findSquares_59 _ _ _ fu ev _ _ _ _ = _
      unfold b_X0_findSquares_59
      rw [fg2 f0, h2, Option.bind_some, if_neg hn4]
      have z1 : ¬ (1 : Int32) = 0 := by decide
      by_cases c1 : a < 4
      · simp only [b_X0_findSquares_69, b_X0_findSquares_101, b_X0_findSquares_106, fg0 f0, h0, (g4_lt a (by omega)).mpr c1, Option.bind_some, if_true, z1, if_false]
      · have c1' : ¬ g4 a < 0 := fun e => c1 ((g4_lt a (by omega)).mp e)
        by_cases c2 : b < 4
        · simp only [b_X0_findSquares_69, b_X0_findSquares_77, b_X0_findSquares_101, b_X0_findSquares_106, fg0 f0, fg1 f0, h0, h1, c1', (g4_lt b (by omega)).mpr c2, Option.bind_some, if_true, z1, if_false]
        · have c2' : ¬ g4 b < 0 := fun e => c2 ((g4_lt b (by omega)).mp e)
          have c3 : g4 b = 0 := (g4_e b (by omega)).mpr (by omega)
          have c4 : ¬ (0 : Int64) ≤ g4 c := fun e => by have := (g4_le c (by omega)).mp e; omega
          have c5 : ¬ (0 : Int64) < 0 := by decide
          simp only [b_X0_findSquares_69, b_X0_findSquares_77, b_X0_findSquares_85, b_X0_findSquares_93, b_X0_findSquares_101, b_X0_findSquares_106, fg0 f0, fg1 f0, fg2 f0, h0, h1, h2, c1', c3, c5, c4, Option.bind_some, if_true, z1, if_false]
    · have hm : mn (81 * a + 9 * b + c) = 364 := if_neg hh
      have hm2 : mn (81 * a + 9 * b + (c + 1)) = 364 := if_neg (by omega)
      rw [hm] at hq ⊢
      obtain ⟨w2, m1, m2, m3, m4⟩ := ih g (c + 1) (wJ w 30 2 (g4 (c + 1))) (by omega) (by omega) (by rw [hm2]; exact QSt_30 hq) (by rw [w30_n (by decide), h0]) (by rw [w30_n (by decide), h1]) w30_e
      refine ⟨w2, m1, m2, m3, ?_⟩
      rw [← m4, hm2]
      have hd : b_X0_findSquares_185 R29 R43 (L_X0_findSquares_59 R29 R43 fu ev g) fu ev (mem ev w) ev.1 (nI 364) (ev.1 + 30) = L_X0_findSquares_59 R29 R43 fu ev g (mem ev (wJ w 30 2 (g4 (c + 1)))) ev.1 (nI 364) (ev.1 + 30) := by
        unfold b_X0_findSquares_185
        rw [fg2 f0, Option.bind_some, h2, g4_s c (by omega), fw2 f0, Option.bind_some]
      rw [← hd]
      show b_X0_findSquares_59 _ _ _ fu ev _ _ _ _ = _
      unfold b_X0_findSquares_59
      rw [fg2 f0, h2, Option.bind_some, if_neg hn4]
      have c1' : ¬ g4 a < 0 := fun e => by have := (g4_lt a (by omega)).mp e; omega
      have c2' : ¬ g4 b < 0 := fun e => by have := (g4_lt b (by omega)).mp e; omega
      by_cases c3 : g4 b = 0
      · have c4 : (0 : Int64) ≤ g4 c := (g4_le c (by omega)).mpr (by have := (g4_e b (by omega)).mp c3; omega)
        have c5 : ¬ (0 : Int64) < 0 := by decide
        simp only [b_X0_findSquares_69, b_X0_findSquares_77, b_X0_findSquares_85, b_X0_findSquares_93, b_X0_findSquares_105, b_X0_findSquares_106, fg0 f0, fg1 f0, fg2 f0, h0, h1, h2, c1', c3, c5, c4, Option.bind_some, if_true, if_false]
      · simp only [b_X0_findSquares_69, b_X0_findSquares_77, b_X0_findSquares_85, b_X0_findSquares_105, b_X0_findSquares_106, fg0 f0, fg1 f0, h0, h1, c1', c2', c3, Option.bind_some, if_true, if_false]
theorem fq_b {R29 : Mm → Nat → Int32 → Nat → Option (Unit × Mm)} (hf : 400 < fu) (hv : OkV v) (ha : a < 5) : ∀ (d g b : Nat) (w : Wd), b + d = 9 → d < g → QSt w0 w v (mn (81 * a + 9 * b)) → w.1 30 0 = g4 a → w.1 30 1 = g4 b → ∃ w' : Wd, QSt w0 w' v (mn (81 * a + 81)) ∧ w'.1 30 0 = g4 a ∧ L_X0_findSquares_43 R29 fu ev g (mem ev w) ev.1 (nI (mn (81 * a + 9 * b))) (ev.1 + 30) = b_X0_findSquares_205 R29 fu ev (mem ev w') ev.1 (nI (mn (81 * a + 81))) (ev.1 + 30) := by
  have f0 : Fi 30 := Or.inl rfl
  intro d
  induction d with
  | zero =>
    intro g b w hb hg hq h0 h1
    obtain ⟨g, rfl⟩ : ∃ g', g = g' + 1 := ⟨g - 1, by omega⟩
    obtain rfl : b = 9 := by omega
    refine ⟨w, hq, h0, ?_⟩
    show b_X0_findSquares_43 _ _ fu ev _ _ _ _ = _
    unfold b_X0_findSquares_43
    rw [fg1 f0, h1, Option.bind_some, if_pos (show (4 : Int64) < g4 9 by decide)]
  | succ d ih =>
    intro g b w hb hg hq h0 h1
    obtain ⟨g, rfl⟩ : ∃ g', g = g' + 1 := ⟨g - 1, by omega⟩
    have hn4 : ¬ (4 : Int64) < g4 b := fun e => by have := (g4_4 b (by omega)).mp e; omega
    obtain ⟨w1, k1, k2, k3, k4⟩ := fq_c (ev := ev) (R29 := R29) (R43 := L_X0_findSquares_43 R29 fu ev g) hf hv ha (show b < 9 by omega) 9 fu 0 (wJ w 30 2 (-4)) (by omega) (by omega) (QSt_30 hq) (by rw [w30_n (by decide), h0]) (by rw [w30_n (by decide), h1]) (by rw [w30_e]; decide)
    have hm : 81 * a + 9 * b + 9 = 81 * a + 9 * (b + 1) := by omega
    rw [hm] at k1 k4
    obtain ⟨w2, m1, m2, m4⟩ := ih g (b + 1) (wJ w1 30 1 (g4 (b + 1))) (by omega) (by omega) (QSt_30 k1) (by rw [w30_n (by decide), k2]) w30_e
    refine ⟨w2, m1, m2, ?_⟩
    rw [← m4]
    have hd : b_X0_findSquares_195 R29 (L_X0_findSquares_43 R29 fu ev g) fu ev (mem ev w1) ev.1 (nI (mn (81 * a + 9 * (b + 1)))) (ev.1 + 30) = L_X0_findSquares_43 R29 fu ev g (mem ev (wJ w1 30 1 (g4 (b + 1)))) ev.1 (nI (mn (81 * a + 9 * (b + 1)))) (ev.1 + 30) := by
      unfold b_X0_findSquares_195
      rw [fg1 f0, Option.bind_some, k3, g4_s b (by omega), fw1 f0, Option.bind_some]
    rw [← hd, ← k4]
    show b_X0_findSquares_43 _ _ fu ev _ _ _ _ = _
    unfold b_X0_findSquares_43 b_X0_findSquares_53
    rw [fg1 f0, h1, Option.bind_some, if_neg hn4, fw2 f0, Option.bind_some]
    rfl
theorem fq_a (hf : 400 < fu) (hv : OkV v) : ∀ (d g a : Nat) (w : Wd), a + d = 5 → d < g → QSt w0 w v (mn (81 * a)) → w.1 30 0 = g4 a → ∃ w' : Wd, QSt w0 w' v 364 ∧ L_X0_findSquares_29 fu ev g (mem ev w) ev.1 (nI (mn (81 * a))) (ev.1 + 30) = some ((), mem ev w') := by
  have f0 : Fi 30 := Or.inl rfl
  intro d
  induction d with
  | zero =>
    intro g a w ha hg hq h0
    obtain ⟨g, rfl⟩ : ∃ g', g = g' + 1 := ⟨g - 1, by omega⟩
    obtain rfl : a = 5 := by omega
    refine ⟨w, hq, ?_⟩
    show b_X0_findSquares_29 _ fu ev _ _ _ _ = _
    unfold b_X0_findSquares_29 b_X0_findSquares_215
    rw [fg0 f0, h0, Option.bind_some, if_pos (show (0 : Int64) < g4 5 by decide)]
  | succ d ih =>
    intro g a w ha hg hq h0
    obtain ⟨g, rfl⟩ : ∃ g', g = g' + 1 := ⟨g - 1, by omega⟩
    have hn4 : ¬ (0 : Int64) < g4 a := fun e => by have := (g4_p a (by omega)).mp e; omega
    obtain ⟨w1, k1, k2, k4⟩ := fq_b (ev := ev) (R29 := L_X0_findSquares_29 fu ev g) hf hv (show a < 5 by omega) 9 fu 0 (wJ w 30 1 (-4)) (by omega) (by omega) (QSt_30 hq) (by rw [w30_n (by decide), h0]) (by rw [w30_e]; decide)
    have hm : 81 * a + 81 = 81 * (a + 1) := by omega
    rw [hm] at k1 k4
    obtain ⟨w2, m1, m4⟩ := ih g (a + 1) (wJ w1 30 0 (g4 (a + 1))) (by omega) (by omega) (QSt_30 k1) w30_e
    refine ⟨w2, m1, ?_⟩
    rw [← m4]
    have hd : b_X0_findSquares_205 (L_X0_findSquares_29 fu ev g) fu ev (mem ev w1) ev.1 (nI (mn (81 * (a + 1)))) (ev.1 + 30) = L_X0_findSquares_29 fu ev g (mem ev (wJ w1 30 0 (g4 (a + 1)))) ev.1 (nI (mn (81 * (a + 1)))) (ev.1 + 30) := by
      unfold b_X0_findSquares_205
      rw [fg0 f0, Option.bind_some, k2, g4_s a (by omega), fw0 f0, Option.bind_some]
    rw [← hd, ← k4]
    show b_X0_findSquares_29 _ fu ev _ _ _ _ = _
    unfold b_X0_findSquares_29 b_X0_findSquares_37
    rw [fg0 f0, h0, Option.bind_some, if_neg hn4, fw1 f0, Option.bind_some]
    rfl
theorem X0_sqV (hf : N + 428 ≤ fu) (hc : c < 6) (hv : cv w (3 + 2 * c) = v) (ok : OkV v) (hE : Ends (sFresh v) N) : ∃ w' : Wd, QSt w w' (itV N (sFresh v)) 364 ∧ f_X0_findSquares fu ev (mem ev w) ev.1 (nI c) = some ((), mem ev w') := by
  have mv : Mk v := hv ▸ Mk_cv
  have f0 : Fi 30 := Or.inl rfl
  obtain ⟨t, no⟩ := X1_normalOf (ev := ev) (w := w) (c := 0) (c2 := 3 + 2 * c) (fu := fu) (N := N) (by decide) (by omega) (by omega) (by rw [hv]; exact hE) (by omega)
  rw [hv] at no
  obtain ⟨wa, hwa⟩ : ∃ wa, wa = setC (setT w 0 t) 0 (itV N (sFresh v)) := ⟨_, rfl⟩
  rw [← hwa] at no
  have qa : Sq w wa := by rw [hwa]; exact Sq_trans (Sq_setT (by decide)) (Sq_setC (by decide))
  have va : cv wa 0 = itV N (sFresh v) := by rw [hwa]; exact cv_mk (Mk_it (Mk_fresh mv) N)
  have q0 : QSt w wa (itV N (sFresh v)) 0 := ⟨qa, va, fun i j _ h => by omega, fun P => rfl⟩
  obtain ⟨w1, k1, k2⟩ := fq_a (ev := ev) (fu := fu) (w0 := w) (by omega) (OkV_it N _ (OkV_fresh ok) hE) 5 fu 0 (wJ wa 30 0 (-4)) (by omega) (by omega) (QSt_30 q0) (by rw [w30_e]; decide)
  refine ⟨w1, k1, ?_⟩
  rw [← k2]
  simp only [f_X0_findSquares, b_X0_findSquares_0, xf2, xf0, xf10, xfig0, xcells hc, cis (show 0 < 118 by decide), no, fw0 f0, Option.bind_some, bd2]
  rfl
end XSF
