/-! OPERATION squares -/
section XSR
variable {ev : Ev} {w w0 w' w'' : Wd} {fu k n i j J L a b c N M T s f : Nat} {v A : Nat → Int64} {x y : Int64} {m u z x3 : Int32} {Kp : Option Nat} {B : Nat → Bool}
/-- the bits of the squares from 1 to 60, of the first n -/
def sqB (A : Nat → Int64) (n i : Nat) : Prop := ∃ j : Nat, j < n ∧ (A j).toInt = i ∧ 1 ≤ i ∧ i ≤ 60
theorem sr_n (hE : EvOk ev) (hf : 100 ≤ fu) (h : BS w) (h0 : bt (w.1 35 0) 0 = false) (h61 : ∀ i : Nat, 61 ≤ i → i < 64 → bt (w.1 35 0) i = false) : ∀ (d g f : Nat) (x : Int64), f + d = 61 → d + 1 < g → 1 ≤ f → (∀ i : Nat, i < 64 → bt x i = (bt (w.1 35 0) i && decide (i < f))) → ∃ r : Int32, f_J4_nextSetBit fu ev (mem ev w) (ev.1 + 34) (nI f) = some (r, mem ev w) ∧ L_X0_squares_78 fu ev g (mem ev w) ev.1 x r = some (w.1 35 0, mem ev w) := by
  intro d
  induction d using Nat.strongRecOn with
  | ind d ih =>
    intro g f x hd hg hf1 hx
    obtain ⟨g, rfl⟩ : ∃ g', g = g' + 1 := ⟨g - 1, by omega⟩
    rcases b_next (ev := ev) (fu := fu) (s := f) hE (by omega) (by omega) h with ⟨k, k1, k2, k3, k4, k5⟩ | ⟨k1, k5⟩
    · refine ⟨nI k, k5, ?_⟩
      have k60 : k < 61 := by
        rcases Nat.lt_or_ge k 61 with q | q
        · exact q
        · rw [h61 k q k2] at k3
          exact absurd k3 (by decide)
      have hk0 : ¬ nI k < 0 := Int32.not_lt.mpr (nI_le (a := 0) (by omega) (by omega))
      obtain ⟨r, r1, r2⟩ := ih (61 - (k + 1)) (by omega) g (k + 1) (x ||| ((1 : Int64) <<< ((nI k).toInt64 &&& 63))) (by omega) (by omega) (by omega) (by
        intro i hi
        rw [bt_or, hx i hi, bt_1 k k2 i hi]
        rcases Nat.lt_trichotomy i k with q | q | q
        · rw [decide_eq_false (show ¬ i = k by omega), Bool.or_false, decide_eq_true (show i < k + 1 by omega), Bool.and_true]
          by_cases q2 : i < f
          · rw [decide_eq_true q2, Bool.and_true]
          · rw [decide_eq_false q2, Bool.and_false, k4 i (by omega) q]
        · subst q
          rw [decide_eq_true rfl, Bool.or_true, k3, decide_eq_true (show i < i + 1 by omega)]
          rfl
        · rw [decide_eq_false (show ¬ i = k by omega), Bool.or_false, decide_eq_false (show ¬ i < k + 1 by omega), decide_eq_false (show ¬ i < f by omega)])
      show b_X0_squares_78 _ fu ev _ _ _ _ = _
      unfold b_X0_squares_78
      rw [if_neg hk0, ← r2]
      simp only [b_X0_squares_83, xf12, b_is, nI_1, r1, Option.bind_some, bd2]
    · refine ⟨-1, k5, ?_⟩
      show b_X0_squares_78 _ fu ev _ _ _ _ = _
      unfold b_X0_squares_78
      rw [if_pos (show (-1 : Int32) < 0 by decide)]
      have e : x = w.1 35 0 := bt_ext (fun i hi => by
        rw [hx i hi]
        by_cases q : i < f
        · rw [decide_eq_true q, Bool.and_true]
        · rw [decide_eq_false q, Bool.and_false, k1 i (by omega) hi])
      rw [e]
      rfl
theorem sr_66 (hE : EvOk ev) (hf : 100 ≤ fu) (h : BS w) (h0 : bt (w.1 35 0) 0 = false) (h61 : ∀ i : Nat, 61 ≤ i → i < 64 → bt (w.1 35 0) i = false) : b_X0_squares_66 fu ev (mem ev w) ev.1 = some (w.1 35 0, mem ev w) := by
  obtain ⟨r, r1, r2⟩ := sr_n (ev := ev) (fu := fu) hE hf h h0 h61 60 fu 1 0 (by decide) (by omega) (by decide) (by
    intro i hi
    rw [bt_0]
    by_cases q : i = 0
    · subst q
      rw [h0]; rfl
    · rw [decide_eq_false (show ¬ i < 1 by omega), Bool.and_false])
  have r1' : f_J4_nextSetBit fu ev (mem ev w) (ev.1 + 34) 1 = some (r, mem ev w) := r1
  simp only [b_X0_squares_66, xf12, b_is, r1', r2, Option.bind_some, bd2]
theorem sr_k (hE : EvOk ev) (hf : 400 ≤ fu) (hs : srt A 364) (hpos : ∀ i : Nat, i < 364 → 0 < (A i).toInt) : ∀ (d g k : Nat) (w : Wd), k + d = 364 → d < g → BS w → (∀ i : Nat, i < 364 → w.1 33 i = A i) → (∀ i : Nat, i < 64 → (bt (w.1 35 0) i = true ↔ sqB A k i)) → ∃ w' : Wd, O34 w w' ∧ BS w' ∧ (∀ i : Nat, i < 64 → (bt (w'.1 35 0) i = true ↔ sqB A 364 i)) ∧ L_X0_squares_26 fu ev g (mem ev w) ev.1 (nI k) = some (w'.1 35 0, mem ev w') := by
  have fin : ∀ (k : Nat) (w : Wd), BS w → (∀ i : Nat, i < 64 → (bt (w.1 35 0) i = true ↔ sqB A k i)) → b_X0_squares_66 fu ev (mem ev w) ev.1 = some (w.1 35 0, mem ev w) := by
    intro k w hb hw
    refine sr_66 hE (by omega) hb ?_ ?_
    · cases q : bt (w.1 35 0) 0
      · rfl
      · obtain ⟨j, -, -, h1, -⟩ := (hw 0 (by decide)).mp q
        omega
    · intro i h1 h2
      cases q : bt (w.1 35 0) i
      · rfl
      · obtain ⟨j, -, -, -, h3⟩ := (hw i h2).mp q
        omega
  intro d
  induction d with
  | zero =>
    intro g k w hk hg hb hA hw
    obtain ⟨g, rfl⟩ : ∃ g', g = g' + 1 := ⟨g - 1, by omega⟩
    obtain rfl : k = 364 := by omega
    refine ⟨w, O34_refl, hb, hw, ?_⟩
    show b_X0_squares_26 _ fu ev _ _ _ = _
    unfold b_X0_squares_26
    rw [if_pos (by decide)]
    exact fin 364 w hb hw
  | succ d ih =>
    intro g k w hk hg hb hA hw
    obtain ⟨g, rfl⟩ : ∃ g', g = g' + 1 := ⟨g - 1, by omega⟩
    have h3 : ¬ (364 : Int32) ≤ nI k := nI_ge (b := 364) (by omega) (by decide)
    by_cases c1 : (60 : Int64) < A k
    · refine ⟨w, O34_refl, hb, fun i hi => (hw i hi).trans ⟨fun ⟨j, j1, j2⟩ => ⟨j, by omega, j2⟩, fun ⟨j, j1, j2, j3, j4⟩ => ?_⟩, ?_⟩
      · rcases Nat.lt_or_ge j k with q | q
        · exact ⟨j, q, j2, j3, j4⟩
        · exfalso
          have c2 : A k ≤ A j := by
            by_cases e : k = j
            · rw [e]; exact Int64.le_refl _
            · exact hs k j (by omega) j1
          have c3 := Int64.lt_iff_toInt_lt.mp c1
          have c4 := Int64.le_iff_toInt_le.mp c2
          rw [show (60 : Int64).toInt = 60 from by decide] at c3
          omega
      · show b_X0_squares_26 _ fu ev _ _ _ = _
        unfold b_X0_squares_26
        rw [if_neg h3]
        simp only [b_X0_squares_33, xf11, r33 (show k < 364 by omega), hA k (by omega), c1, if_true, Option.bind_some]
        exact fin k w hb hw
    · have c2 := Int64.le_iff_toInt_le.mp (Int64.not_lt.mp c1)
      rw [show (60 : Int64).toInt = 60 from by decide] at c2
      have c3 := hpos k (by omega)
      obtain ⟨s, hs'⟩ : ∃ s : Nat, (A k).toInt = s := ⟨(A k).toInt.toNat, by omega⟩
      have hA32 : (A k).toInt32 = nI s := by rw [J_nI (show s < 64 by omega) hs', (nJ_i s (by omega)).2]
      obtain ⟨w1, o1, o2, o3, o4⟩ := b_set (ev := ev) (fu := fu) (s := s) hE (by omega) hb
      obtain ⟨w2, q1, q2, q3, q4⟩ := ih g (k + 1) w1 (by omega) (by omega) (Or.inl o2) (fun i hi => by rw [o1.1 33 i (by decide)]; exact hA i hi) (by
        intro i hi
        rw [o3, bt_or, bt_1 s (by omega) i hi, Bool.or_eq_true, hw i hi, decide_eq_true_eq]
        constructor
        · rintro (⟨j, j1, j2⟩ | rfl)
          · exact ⟨j, by omega, j2⟩
          · exact ⟨k, by omega, hs', by omega, by omega⟩
        · rintro ⟨j, j1, j2, j3⟩
          rcases Nat.lt_or_ge j k with q | q
          · exact Or.inl ⟨j, q, j2, j3⟩
          · obtain rfl : j = k := by omega
            right
            omega)
      refine ⟨w2, O34_trans o1 q1, q2, q3, ?_⟩
      rw [← q4]
      show b_X0_squares_26 _ fu ev _ _ _ = _
      unfold b_X0_squares_26
      rw [if_neg h3]
      simp only [b_X0_squares_33, b_X0_squares_46, xf11, xf12, b_is, r33 (show k < 364 by omega), hA k (by omega), hA32, o4, c1, if_false, Option.bind_some, bd2, nI_1]
/-! the model -/
theorem mr_l (hv : OkV v) (hs : sl w 6 = v) : ∀ (d g J : Nat) (x : Int64), J + d = 729 → d < g → (∀ i : Nat, i < 64 → (bt x i = true ↔ sqB (sqf v) J i)) → ∃ x' : Int64, (∀ i : Nat, i < 64 → (bt x' i = true ↔ sqB (sqf v) 729 i)) ∧ L_X2_squares_25 fu ev g (mem ev w) (ev.1 + 966) x (nI J) = some (x', mem ev w) := by
  intro d
  induction d with
  | zero =>
    intro g J x hJ hg hx
    obtain ⟨g, rfl⟩ : ∃ g', g = g' + 1 := ⟨g - 1, by omega⟩
    obtain rfl : J = 729 := by omega
    exact ⟨x, hx, rfl⟩
  | succ d ih =>
    intro g J x hJ hg hx
    obtain ⟨g, rfl⟩ : ∃ g', g = g' + 1 := ⟨g - 1, by omega⟩
    have h7 : ¬ (729 : Int32) ≤ nI J := nI_ge (b := 729) (by omega) (by decide)
    have sq := X2_sq6 (ev := ev) (fu := fu) (w := w) hs (show J < 729 by omega)
    have hd : ∀ y : Int64, b_X2_squares_90 (L_X2_squares_25 fu ev g) fu ev (mem ev w) (ev.1 + 966) (nI J) x y = L_X2_squares_25 fu ev g (mem ev w) (ev.1 + 966) (x ||| y) (nI (J + 1)) := by
      intro y
      unfold b_X2_squares_90
      rw [nI_1]
    by_cases c1 : inJ (sqf v J) 1 60 = true
    · have c2 := inJ_iff.mp c1
      rw [show (1 : Int64).toInt = 1 from by decide, show (60 : Int64).toInt = 60 from by decide] at c2
      obtain ⟨s, hs'⟩ : ∃ s : Nat, (sqf v J).toInt = s := ⟨(sqf v J).toInt.toNat, by omega⟩
      have h32 : (sqf v J).toInt32 = nI s := by rw [J_nI (show s < 64 by omega) hs', (nJ_i s (by omega)).2]
      obtain ⟨x', q1, q2⟩ := ih g (J + 1) (x ||| ((1 : Int64) <<< ((nI s).toInt64 &&& 63))) (by omega) (by omega) (by
        intro i hi
        rw [bt_or, bt_1 s (by omega) i hi, Bool.or_eq_true, hx i hi, decide_eq_true_eq]
        constructor
        · rintro (⟨j, j1, j2⟩ | rfl)
          · exact ⟨j, by omega, j2⟩
          · exact ⟨J, by omega, hs', by omega, by omega⟩
        · rintro ⟨j, j1, j2, j3⟩
          rcases Nat.lt_or_ge j J with q | q
          · exact Or.inl ⟨j, q, j2, j3⟩
          · obtain rfl : j = J := by omega
            right
            omega)
      refine ⟨x', q1, ?_⟩
      rw [← q2]
      show b_X2_squares_25 _ fu ev _ _ _ _ = _
      unfold b_X2_squares_25
      rw [if_neg h7]
      simp only [b_X2_squares_33, b_X2_squares_81, mis, sq, X2_isIn, c1, h32, hd, if_true, show ¬ (1 : Int32) = 0 by decide, if_false, Option.bind_some, bd2]
    · obtain ⟨x', q1, q2⟩ := ih g (J + 1) (x ||| 0) (by omega) (by omega) (by
        intro i hi
        rw [bt_or, bt_0, Bool.or_false, hx i hi]
        refine ⟨fun ⟨j, j1, j2⟩ => ⟨j, by omega, j2⟩, fun ⟨j, j1, j2, j3, j4⟩ => ?_⟩
        rcases Nat.lt_or_ge j J with q | q
        · exact ⟨j, q, j2, j3, j4⟩
        · exfalso
          obtain rfl : j = J := by omega
          apply c1
          rw [inJ_iff, show (1 : Int64).toInt = 1 from by decide, show (60 : Int64).toInt = 60 from by decide]
          omega)
      refine ⟨x', q1, ?_⟩
      rw [← q2]
      show b_X2_squares_25 _ fu ev _ _ _ _ = _
      unfold b_X2_squares_25
      rw [if_neg h7]
      simp only [b_X2_squares_33, b_X2_squares_89, mis, sq, X2_isIn, c1, hd, if_true, if_false, Bool.false_eq_true, Option.bind_some, bd2]
theorem FrX_34 (h : O34 w w') : FrX [22] w w' := by
  have cve : ∀ c : Nat, c < 118 → cv w' c = cv w c := by
    intro c hc
    have hr : ∀ t : Nat, t < 8 → cr c + t ≠ 35 := by
      intro t ht
      unfold cr
      split <;> omega
    funext j
    simp only [cv]
    rw [h.1 _ _ (hr 1 (by decide)), h.1 _ _ (hr 2 (by decide)), h.1 _ _ (hr 4 (by decide)), h.1 _ _ (hr 5 (by decide)), h.1 _ _ (hr 6 (by decide))]
  have sle : ∀ K : Nat, sl w' K = sl w K := by
    intro K
    funext j
    unfold sl
    rw [h.1 967 _ (by decide), h.1 968 _ (by decide)]
  refine ⟨fun q i h0 hn => h.2.1 q i (fun e => hn (by subst e; exact List.mem_cons_self)), fun q i _ _ => by rw [h.2.2], fun q hq hn i => h.1 q i (fun e => hn (by subst e; decide)), ⟨fun _ k hk => cve _ (by omega), fun _ k _ => sle _⟩, ⟨fun _ k hk => cve _ (by omega), fun _ k _ => sle _⟩, fun _ k hk => ⟨cve _ (by omega), sle _⟩⟩
theorem RPq_22 (h : RPq ev w) (f : FrX [22] w w') (hd : w'.2.2.2 = w.2.2.2) : RPq ev w' := by
  have hD : FrD w w' := FrD_eq hd
  obtain ⟨a, b, L, g, tl, h1, h2, h3, h4, h5, h6, h7, h8⟩ := h
  have up : ∀ {a : Nat}, inW ev w a → inW ev w' a := fun z => z.elim Or.inl (fun y => Or.inr ⟨y.1, Nat.lt_of_lt_of_le y.2 hD.1⟩)
  refine ⟨a, b, L, g, tl, (f.2.1 0 19 (by decide) (by decide)).trans h1, (mem_D hD h4 (fun i x p z => ?_)).trans h2, (mem_D hD h5 (fun i x p z => ?_)).trans h3, up h4, up h5, h6, (f.1 966 26 (by decide) (by decide)).trans h7, fun i hi => ?_⟩
  · rw [h2] at z
    unfold nd at z
    injection z with z
    injection z with z
    injection z with z1 z2
    exact absurd z1 (by decide)
  · rw [h3] at z
    unfold nd at z
    cases z
  · rw [f.1 978 i (by show (19 : Nat) ≠ 0; decide) (by show (19 : Nat) ∉ _; decide)]
    exact h8 i hi
theorem Rel_22 (h : Rel ev w M Kp T) (f : FrX [22] w w') (hd : w'.2.2.2 = w.2.2.2) (hB : BS w') : Rel ev w' M Kp T := by
  obtain ⟨⟨C, F, p, r⟩, h2, h3, h4, h5, h6, h7, h8, h9, h10⟩ := h
  have d : FrD w w' := FrD_eq hd
  exact ⟨⟨C, F, p, RCK_x r f (by decide) (by decide) (by decide)⟩, RT_x h2 f (by decide) (by decide), RIm_x h3 f (by decide) (by decide), RLg_x h4 f (by decide) (by decide) (by decide) (by decide) d.1 (FrN_eq hd), RQa_x h5 f (by decide) (by decide), RQb_x h6 f (by decide) (by decide), RRw_x h7 f (by decide) (by decide) d, ⟨RPq_22 h8.1 f hd, hB⟩, St_x h9 f (by decide) (by decide), Nat.le_trans h10 d.1⟩
theorem sqB_eq (hv : OkV v) (hc : ∀ P : Int64 → Bool, cpN A P 364 = cpN (sqf v) P 364) : sqB A 364 i ↔ sqB (sqf v) 729 i := by
  have ex : ∀ P : Int64 → Bool, (∃ i : Nat, i < 364 ∧ P (A i) = true) ↔ ∃ j : Nat, j < 364 ∧ P (sqf v j) = true := by
    intro P
    have p1 := cpN_pos (A := A) (P := P) 364
    have p2 := cpN_pos (A := sqf v) (P := P) 364
    rw [hc P] at p1
    exact p1.symm.trans p2
  constructor
  · rintro ⟨j, j1, j2, j3, j4⟩
    obtain ⟨j', k1, k2⟩ := (ex (fun z => decide (z = A j))).mp ⟨j, j1, decide_eq_true rfl⟩
    exact ⟨j', by omega, by rw [of_decide_eq_true k2]; exact j2, j3, j4⟩
  · rintro ⟨j, j1, j2, j3, j4⟩
    have hne : j ≠ 364 := by
      intro e
      subst e
      have z : sqf v 364 = 0 := by
        have h : ∀ i : Nat, i < 3 → vec 364 i = 0 := by
          intro i hi
          match i, hi with
          | 0, _ => rfl
          | 1, _ => rfl
          | 2, _ => rfl
        unfold sqf qV
        rw [h 0 (by decide), h 1 (by decide), h 2 (by decide)]
        grind
      rw [z, j0] at j2
      omega
    obtain ⟨j', k1, k2⟩ : ∃ j' : Nat, j' < 364 ∧ sqf v j' = sqf v j := by
      rcases Nat.lt_or_ge j 364 with q | q
      · exact ⟨j, q, rfl⟩
      · exact ⟨728 - j, by omega, sqf_n j1⟩
    obtain ⟨t, t1, t2⟩ := (ex (fun z => decide (z = sqf v j))).mpr ⟨j', k1, decide_eq_true k2⟩
    exact ⟨t, t1, by rw [of_decide_eq_true t2]; exact j2, j3, j4⟩
theorem op_squares (hE : EvOk ev) (hf : ∀ N : Nat, N ≤ 10 ^ 46 → N + 428 ≤ fu) (hR : Rel ev w M Kp T) : ∃ (r : Int64) (w1 w2 : Wd), f_X0_squares fu ev (mem ev w) ev.1 u = some (r, mem ev w1) ∧ f_X2_squares fu ev (mem ev w1) (ev.1 + 966) u = some (r, mem ev w2) ∧ Rel ev w2 M Kp T ∧ FrX [22] w w2 ∧ w2.2.2 = w.2.2 := by
  obtain ⟨⟨C, F, q, rc⟩, -, -, -, -, -, -, ⟨-, hB⟩, -⟩ := id hR
  obtain ⟨hM6, hM, hN, hc⟩ := rc.1
  by_cases a1 : isc u M = true
  · obtain ⟨c, hck, rfl⟩ := isc_of hM6 a1
    obtain ⟨he, hok⟩ := hc c hck
    obtain ⟨v, hv⟩ : ∃ v, v = sl w c := ⟨_, rfl⟩
    rw [← hv] at he hok
    obtain ⟨N, hN46, hEn, hG, hEq⟩ := good_ends (OkV_fresh hok).1
    have hfu := hf N hN46
    have hf1 := hf 1000 (by decide)
    have mv : Mk v := hv ▸ Mk_sl
    have hokN := OkV_it N _ (OkV_fresh hok) hEn
    obtain ⟨w1, q1, e1⟩ := X0_sqV (ev := ev) (fu := fu) hfu (show c < 6 by omega) he hok hEn
    obtain ⟨s1, -, s3, s4⟩ := q1
    have b1 : BS w1 := BS_x hB (FrX_Sq s1) (by decide)
    obtain ⟨wc, o1, o2, o3, o4⟩ := b_clear (ev := ev) (fu := fu) (by omega) b1
    obtain ⟨wd, p1, p2, p3, p4⟩ := sr_k (ev := ev) (fu := fu) (A := w1.1 33) hE (by omega) s3 (fun i hi => all_pos hokN s4 hi) 364 fu 0 wc (by omega) (by omega) (Or.inr ⟨o2, o3⟩) (fun i _ => o1.1 33 i (by decide)) (fun i _ => by
      rw [o3, bt_0]
      exact ⟨fun h => absurd h (by decide), fun ⟨j, h, _⟩ => absurd h (by omega)⟩)
    rw [nI_0] at p4
    have f1 : FrX [22] w wd := FrX_trans (FrX_Sq s1) (FrX_34 (O34_trans o1 p1)) (by decide) (by decide)
    have d1 : wd.2.2 = w.2.2 := by rw [p1.2.2, o1.2.2, s1.2.2]
    have t1 : sl wd c = v := by rw [f1.2.2.2.2.1.2 (by decide) c (by omega), hv]
    have nm := X2_normals (ev := ev) (w := wd) (K := c) (K2 := 6) (fu := fu) (N := N) (by omega) (by decide) (by omega) (by rw [t1]; exact hEn) (by rw [t1]; exact hEq) (by omega)
    rw [t1] at nm
    have nm' : f_X2_normals fu ev (mem ev wd) (ev.1 + 966) (nI c) 6 = some (nI N, mem ev (setS wd 6 (itV N (sFresh v)))) := nm
    obtain ⟨x', m1, m2⟩ := mr_l (ev := ev) (fu := fu) (w := setS wd 6 (itV N (sFresh v))) hokN (sl_mk (Mk_it (Mk_fresh mv) N)) 729 fu 0 0 (by omega) (by omega) (fun i _ => by
      rw [bt_0]
      exact ⟨fun h => absurd h (by decide), fun ⟨j, h, _⟩ => absurd h (by omega)⟩)
    rw [nI_0] at m2
    have xe : x' = wd.1 35 0 := bt_ext (fun i hi => by
      have h1 := (m1 i hi).trans ((sqB_eq hokN s4).symm.trans (p3 i hi).symm)
      cases g1 : bt x' i <;> cases g2 : bt (wd.1 35 0) i
      · rfl
      · exact absurd (h1.mpr g2) (by rw [g1]; decide)
      · exact absurd (h1.mp g1) (by rw [g2]; decide)
      · rfl)
    rw [xe] at m2
    have hN1 : wd.2.1 966 2 = nI M := by rw [f1.1 966 2 (by decide) (by decide)]; exact hN
    have f2 : FrX [22] w (setS wd 6 (itV N (sFresh v))) := FrX_trans f1 (FrX_Sq (Sq_setS (Or.inl rfl))) (by decide) (by decide)
    refine ⟨wd.1 35 0, wd, setS wd 6 (itV N (sFresh v)), ?_, ?_, Rel_22 hR f2 (by show wd.2.2.2 = _; rw [d1]) (BS_x p2 (FrX_Sq (Sq_setS (Or.inl rfl))) (by decide)), f2, d1⟩
    · simp only [b_X0_squares_106, b_X0_squares_83, b_X0_squares_78, b_X0_squares_66, b_X0_squares_46, b_X0_squares_33, b_X0_squares_26, b_X0_squares_12, b_X0_squares_8, b_X0_squares_0, f_X0_squares, xis, X0_isCell hM, a1, e1, xf12, b_is, o4, p4, Option.bind_some, bd2, b01, if_true, if_false, not_true_eq_false, not_false_eq_true, Bool.false_eq_true, eq_self, Int32.reduceAdd, Int32.reduceMul, Int32.reduceLE, Int32.reduceLT, reduceIte, Int32.add_assoc, ie_0_1, ie_0_2, ie_0_3, ie_0_4, ie_0_5, ie_0_6, ie_0_7, ie_0_8, ie_0_9, ie_1_0, ie_1_2, ie_1_3, ie_1_4, ie_1_5, ie_1_6, ie_1_7, ie_1_8, ie_1_9, ie_2_0, ie_2_1, ie_2_3, ie_2_4, ie_2_5, ie_2_6, ie_2_7, ie_2_8, ie_2_9, ie_3_0, ie_3_1, ie_3_2, ie_3_4, ie_3_5, ie_3_6, ie_3_7, ie_3_8, ie_3_9, ie_4_0, ie_4_1, ie_4_2, ie_4_3, ie_4_5, ie_4_6, ie_4_7, ie_4_8, ie_4_9, ie_5_0, ie_5_1, ie_5_2, ie_5_3, ie_5_4, ie_5_6, ie_5_7, ie_5_8, ie_5_9, ie_6_0, ie_6_1, ie_6_2, ie_6_3, ie_6_4, ie_6_5, ie_6_7, ie_6_8, ie_6_9, ie_7_0, ie_7_1, ie_7_2, ie_7_3, ie_7_4, ie_7_5, ie_7_6, ie_7_8, ie_7_9, ie_8_0, ie_8_1, ie_8_2, ie_8_3, ie_8_4, ie_8_5, ie_8_6, ie_8_7, ie_8_9, ie_9_0, ie_9_1, ie_9_2, ie_9_3, ie_9_4, ie_9_5, ie_9_6, ie_9_7, ie_9_8, nI_1, nI_pred, setC_21, setS_21, wI_same, Int32.reduceSub]
    · simp only [b_X2_squares_98, b_X2_squares_90, b_X2_squares_89, b_X2_squares_81, b_X2_squares_33, b_X2_squares_25, b_X2_squares_12, b_X2_squares_8, b_X2_squares_0, f_X2_squares, mis, X2_isCell hN1, a1, nm', m2, Option.bind_some, bd2, b01, if_true, if_false, not_true_eq_false, not_false_eq_true, Bool.false_eq_true, eq_self, Int32.reduceAdd, Int32.reduceMul, Int32.reduceLE, Int32.reduceLT, reduceIte, Int32.add_assoc, ie_0_1, ie_0_2, ie_0_3, ie_0_4, ie_0_5, ie_0_6, ie_0_7, ie_0_8, ie_0_9, ie_1_0, ie_1_2, ie_1_3, ie_1_4, ie_1_5, ie_1_6, ie_1_7, ie_1_8, ie_1_9, ie_2_0, ie_2_1, ie_2_3, ie_2_4, ie_2_5, ie_2_6, ie_2_7, ie_2_8, ie_2_9, ie_3_0, ie_3_1, ie_3_2, ie_3_4, ie_3_5, ie_3_6, ie_3_7, ie_3_8, ie_3_9, ie_4_0, ie_4_1, ie_4_2, ie_4_3, ie_4_5, ie_4_6, ie_4_7, ie_4_8, ie_4_9, ie_5_0, ie_5_1, ie_5_2, ie_5_3, ie_5_4, ie_5_6, ie_5_7, ie_5_8, ie_5_9, ie_6_0, ie_6_1, ie_6_2, ie_6_3, ie_6_4, ie_6_5, ie_6_7, ie_6_8, ie_6_9, ie_7_0, ie_7_1, ie_7_2, ie_7_3, ie_7_4, ie_7_5, ie_7_6, ie_7_8, ie_7_9, ie_8_0, ie_8_1, ie_8_2, ie_8_3, ie_8_4, ie_8_5, ie_8_6, ie_8_7, ie_8_9, ie_9_0, ie_9_1, ie_9_2, ie_9_3, ie_9_4, ie_9_5, ie_9_6, ie_9_7, ie_9_8, nI_1, nI_pred, setC_21, setS_21, wI_same, Int32.reduceSub]
  · exact ⟨-9223372036854775808, w, w, by simp only [b_X0_squares_106, b_X0_squares_83, b_X0_squares_78, b_X0_squares_66, b_X0_squares_46, b_X0_squares_33, b_X0_squares_26, b_X0_squares_12, b_X0_squares_8, b_X0_squares_0, f_X0_squares, xis, X0_isCell hM, a1, Option.bind_some, bd2, b01, if_true, if_false, not_true_eq_false, not_false_eq_true, Bool.false_eq_true, eq_self, Int32.reduceAdd, Int32.reduceMul, Int32.reduceLE, Int32.reduceLT, reduceIte, Int32.add_assoc, ie_0_1, ie_0_2, ie_0_3, ie_0_4, ie_0_5, ie_0_6, ie_0_7, ie_0_8, ie_0_9, ie_1_0, ie_1_2, ie_1_3, ie_1_4, ie_1_5, ie_1_6, ie_1_7, ie_1_8, ie_1_9, ie_2_0, ie_2_1, ie_2_3, ie_2_4, ie_2_5, ie_2_6, ie_2_7, ie_2_8, ie_2_9, ie_3_0, ie_3_1, ie_3_2, ie_3_4, ie_3_5, ie_3_6, ie_3_7, ie_3_8, ie_3_9, ie_4_0, ie_4_1, ie_4_2, ie_4_3, ie_4_5, ie_4_6, ie_4_7, ie_4_8, ie_4_9, ie_5_0, ie_5_1, ie_5_2, ie_5_3, ie_5_4, ie_5_6, ie_5_7, ie_5_8, ie_5_9, ie_6_0, ie_6_1, ie_6_2, ie_6_3, ie_6_4, ie_6_5, ie_6_7, ie_6_8, ie_6_9, ie_7_0, ie_7_1, ie_7_2, ie_7_3, ie_7_4, ie_7_5, ie_7_6, ie_7_8, ie_7_9, ie_8_0, ie_8_1, ie_8_2, ie_8_3, ie_8_4, ie_8_5, ie_8_6, ie_8_7, ie_8_9, ie_9_0, ie_9_1, ie_9_2, ie_9_3, ie_9_4, ie_9_5, ie_9_6, ie_9_7, ie_9_8, nI_1, nI_pred, setC_21, setS_21, wI_same, Int32.reduceSub], by simp only [b_X2_squares_98, b_X2_squares_90, b_X2_squares_89, b_X2_squares_81, b_X2_squares_33, b_X2_squares_25, b_X2_squares_12, b_X2_squares_8, b_X2_squares_0, f_X2_squares, mis, X2_isCell hN, a1, Option.bind_some, bd2, b01, if_true, if_false, not_true_eq_false, not_false_eq_true, Bool.false_eq_true, eq_self, Int32.reduceAdd, Int32.reduceMul, Int32.reduceLE, Int32.reduceLT, reduceIte, Int32.add_assoc, ie_0_1, ie_0_2, ie_0_3, ie_0_4, ie_0_5, ie_0_6, ie_0_7, ie_0_8, ie_0_9, ie_1_0, ie_1_2, ie_1_3, ie_1_4, ie_1_5, ie_1_6, ie_1_7, ie_1_8, ie_1_9, ie_2_0, ie_2_1, ie_2_3, ie_2_4, ie_2_5, ie_2_6, ie_2_7, ie_2_8, ie_2_9, ie_3_0, ie_3_1, ie_3_2, ie_3_4, ie_3_5, ie_3_6, ie_3_7, ie_3_8, ie_3_9, ie_4_0, ie_4_1, ie_4_2, ie_4_3, ie_4_5, ie_4_6, ie_4_7, ie_4_8, ie_4_9, ie_5_0, ie_5_1, ie_5_2, ie_5_3, ie_5_4, ie_5_6, ie_5_7, ie_5_8, ie_5_9, ie_6_0, ie_6_1, ie_6_2, ie_6_3, ie_6_4, ie_6_5, ie_6_7, ie_6_8, ie_6_9, ie_7_0, ie_7_1, ie_7_2, ie_7_3, ie_7_4, ie_7_5, ie_7_6, ie_7_8, ie_7_9, ie_8_0, ie_8_1, ie_8_2, ie_8_3, ie_8_4, ie_8_5, ie_8_6, ie_8_7, ie_8_9, ie_9_0, ie_9_1, ie_9_2, ie_9_3, ie_9_4, ie_9_5, ie_9_6, ie_9_7, ie_9_8, nI_1, nI_pred, setC_21, setS_21, wI_same, Int32.reduceSub], hR, FrX_refl, rfl⟩
end XSR
