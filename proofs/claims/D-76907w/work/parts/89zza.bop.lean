/-! OPERATION blunt -/
def sfB (b : Nat → Int64) (i : Nat) : Nat → Nat → Nat
  | 0, _ => 0
  | d + 1, j => inD b j i + sfB b i d (j + 1)
def upB (b : Nat → Int64) (k : Nat) : Nat → Nat → Nat → Nat
  | 0, _, m => m
  | d + 1, i, m => upB b k d (i + 1) (if rkB b i = k then i else m)
section XBO
variable {ev : Ev} {w w' : Wd} {fu i j k c M T : Nat} {K : Option Nat} {f b : Nat → Int64} {u z : Int32}
theorem ct_l (hi : i < 6) {R : Mm → Nat → Int32 → Int32 → Int32 → Option (Int64 × Mm)} {x2 x4 : Int32} : ∀ d g j c : Nat, j + d = 6 → d < g → c ≤ j → L_X2_blunt_58 R fu ev g (mem ev (setF w f b)) (ev.1 + 966) x2 x4 (nI i) (nI c) (nI j) = b_X2_blunt_124 R fu ev (mem ev (setF w f b)) (ev.1 + 966) x2 x4 (nI i) (nI (c + sfB b i d j)) := by
  intro d
  induction d with
  | zero =>
    intro g j c hj hg hc
    obtain ⟨g, rfl⟩ : ∃ g', g = g' + 1 := ⟨g - 1, by omega⟩
    obtain rfl : j = 6 := by omega
    show b_X2_blunt_58 _ _ fu ev _ _ _ _ _ _ _ = _
    unfold b_X2_blunt_58
    rw [if_pos (by decide)]
    rfl
  | succ d ih =>
    intro g j c hj hg hc
    obtain ⟨g, rfl⟩ : ∃ g', g = g' + 1 := ⟨g - 1, by omega⟩
    have n6 : ¬ (6 : Int32) ≤ nI j := fun z => absurd ((s_le (i := 6) (by decide) (by omega)).mp z) (by omega)
    have key : b_X2_blunt_58 R (L_X2_blunt_58 R fu ev g) fu ev (mem ev (setF w f b)) (ev.1 + 966) x2 x4 (nI i) (nI c) (nI j) = L_X2_blunt_58 R fu ev g (mem ev (setF w f b)) (ev.1 + 966) x2 x4 (nI i) (nI (c + inD b j i)) (nI (j + 1)) := by
      unfold b_X2_blunt_58 b_X2_blunt_65
      rw [if_neg n6, mf19, Option.bind_some, Option.bind_some, t_ld (by omega), Option.bind_some, Option.bind_some, Option.bind_some, t_ld hi, Option.bind_some]
      unfold inD
      by_cases c1 : b j < b i
      · rw [if_pos c1, if_pos (Or.inl c1)]
        unfold b_X2_blunt_110 b_X2_blunt_115
        rw [nI_1, nI_1]
      · rw [if_neg c1]
        unfold b_X2_blunt_85
        rw [mf19, Option.bind_some, Option.bind_some, t_ld (by omega), Option.bind_some, Option.bind_some, Option.bind_some, t_ld hi, Option.bind_some]
        by_cases c2 : b j = b i
        · rw [if_pos c2]
          unfold b_X2_blunt_103
          by_cases c3 : j < i
          · rw [if_neg (fun z => absurd ((s_le (by omega) (by omega)).mp z) (by omega)), if_pos (Or.inr ⟨c2, c3⟩)]
            unfold b_X2_blunt_110 b_X2_blunt_115
            rw [nI_1, nI_1]
          · rw [if_pos ((s_le (by omega) (by omega)).mpr (by omega)), if_neg (fun z => z.elim c1 (fun y => c3 y.2))]
            unfold b_X2_blunt_114 b_X2_blunt_115
            rw [nI_1, Int32.add_zero]
            rfl
        · rw [if_neg c2, if_neg (fun z => z.elim c1 (fun y => c2 y.1))]
          unfold b_X2_blunt_114 b_X2_blunt_115
          rw [nI_1, Int32.add_zero]
          rfl
    have le := inD_le (b := b) (j := j) (i := i)
    show b_X2_blunt_58 _ _ fu ev _ _ _ _ _ _ _ = _
    refine key.trans ?_
    rw [ih g (j + 1) (c + inD b j i) (by omega) (by omega) (by omega)]
    show b_X2_blunt_124 _ _ _ _ _ _ _ _ (nI (c + inD b j i + sfB b i d (j + 1))) = b_X2_blunt_124 _ _ _ _ _ _ _ _ (nI (c + (inD b j i + sfB b i d (j + 1))))
    rw [Nat.add_assoc]
theorem sf_rk : sfB b i 6 0 = rkB b i := by
  show inD b 0 i + (inD b 1 i + (inD b 2 i + (inD b 3 i + (inD b 4 i + (inD b 5 i + 0))))) = inD b 0 i + inD b 1 i + inD b 2 i + inD b 3 i + inD b 4 i + inD b 5 i
  omega
theorem up_dn : upB b k 6 0 0 = dnB b k 6 0 := rfl
theorem rk_l (hf : 7 ≤ fu) (hk : k < 6) : ∀ d g i m : Nat, i + d = 6 → d < g → m < 6 → L_X2_blunt_45 fu ev g (mem ev (setF w f b)) (ev.1 + 966) (nI k) (nI m) (nI i) = some (b (upB b k d i m), mem ev (setF w f b)) := by
  intro d
  induction d with
  | zero =>
    intro g i m hi hg hm
    obtain ⟨g, rfl⟩ : ∃ g', g = g' + 1 := ⟨g - 1, by omega⟩
    obtain rfl : i = 6 := by omega
    show b_X2_blunt_45 _ fu ev _ _ _ _ _ = _
    unfold b_X2_blunt_45
    rw [if_pos (by decide)]
    unfold b_X2_blunt_140
    rw [mf19, Option.bind_some, Option.bind_some, t_ld hm]
    rfl
  | succ d ih =>
    intro g i m hi hg hm
    obtain ⟨g, rfl⟩ : ∃ g', g = g' + 1 := ⟨g - 1, by omega⟩
    have n6 : ¬ (6 : Int32) ≤ nI i := fun z => absurd ((s_le (i := 6) (by decide) (by omega)).mp z) (by omega)
    have ct := ct_l (ev := ev) (fu := fu) (w := w) (f := f) (b := b) (R := L_X2_blunt_45 fu ev g) (x2 := nI k) (x4 := nI m) (show i < 6 by omega) 6 fu 0 0 (by decide) (by omega) (by decide)
    have r6 := rk_6 (b := b) (show i < 6 by omega)
    show b_X2_blunt_45 _ fu ev _ _ _ _ _ = some (b (upB b k d (i + 1) (if rkB b i = k then i else m)), _)
    unfold b_X2_blunt_45 b_X2_blunt_52
    rw [if_neg n6]
    refine ct.trans ?_
    rw [Nat.zero_add, sf_rk]
    unfold b_X2_blunt_124
    by_cases c : rkB b i = k
    · rw [c, if_pos rfl, if_pos rfl]
      unfold b_X2_blunt_130 b_X2_blunt_134
      rw [nI_1]
      exact ih g (i + 1) i (by omega) (by omega) (by omega)
    · rw [if_neg (nI_ne (by omega) (by omega) c), if_neg c]
      unfold b_X2_blunt_134
      rw [nI_1]
      exact ih g (i + 1) m (by omega) (by omega) hm
theorem Sq_F {t : Nat → Int64} : Sq w (setF w f t) := by
  refine ⟨fun q i h => ?_, fun _ _ _ => rfl, rfl⟩
  show (if q = 975 ∧ i < 12 then f i else if q = 976 ∧ i < 6 then t i else w.1 q i) = _
  rw [if_neg, if_neg]
  · rintro ⟨rfl, -⟩
    exact h (by unfold sJ; omega)
  · rintro ⟨rfl, -⟩
    exact h (by unfold sJ; omega)
theorem op_blunt (hE : EvOk ev) (hf : 3000000 ≤ fu) (hR : Rel ev w M K T) (h1 : szW w + 8 ≤ ev.2.1) (h2 : slW w + 19 ≤ ev.2.2.1) : ∃ (r : Int64) (w1 w2 : Wd), f_X0_blunt fu ev (mem ev w) ev.1 u z = some (r, mem ev w1) ∧ f_X2_blunt fu ev (mem ev w1) (ev.1 + 966) u z = some (r, mem ev w2) ∧ Rel ev w2 M K T ∧ (∀ l : Nat, l < 6 → sl w2 l = sl w l) ∧ szW w2 ≤ szW w + 8 ∧ slW w2 ≤ slW w + 19 := by
  obtain ⟨⟨C, F, q, rc⟩, -⟩ := id hR
  obtain ⟨hM6, hM, hN, hc⟩ := rc.1
  have hz : ev.1 + 984 ≤ szW w := hR.2.2.2.2.2.2.2.2.2
  have ref : ∀ (x : Int64), f_X0_blunt fu ev (mem ev w) ev.1 u z = some (x, mem ev w) → f_X2_blunt fu ev (mem ev w) (ev.1 + 966) u z = some (x, mem ev w) → ∃ (r : Int64) (w1 w2 : Wd), f_X0_blunt fu ev (mem ev w) ev.1 u z = some (r, mem ev w1) ∧ f_X2_blunt fu ev (mem ev w1) (ev.1 + 966) u z = some (r, mem ev w2) ∧ Rel ev w2 M K T ∧ (∀ l : Nat, l < 6 → sl w2 l = sl w l) ∧ szW w2 ≤ szW w + 8 ∧ slW w2 ≤ slW w + 19 := fun x e1 e2 => ⟨x, w, w, e1, e2, hR, fun _ _ => rfl, Nat.le_add_right _ _, Nat.le_add_right _ _⟩
  by_cases a1 : isc u M = true
  · obtain ⟨c, hck, rfl⟩ := isc_of hM6 a1
    obtain ⟨he, hok⟩ := hc c hck
    by_cases a2 : inJ z.toInt64 0 6 = true
    · obtain ⟨k, -, hk, rfl⟩ := inJ_nI (A := 0) (B := 6) (by decide) (by decide) (by decide) a2
      obtain ⟨N, hN2, hEB⟩ := Ok_EndB hok
      obtain ⟨b, hb⟩ : ∃ b, b = itB N (iB (sl w c)) := ⟨_, rfl⟩
      have hc118 : 3 + 2 * c < 118 := by omega
      -- the class
      have c1 := fil_l (ev := ev) (fu := fu) (w := w) (b := w.1 37) (x2 := nI k) (by omega) hc118
      rw [Y_self, he] at c1
      have c2 := blu_l (ev := ev) (fu := fu) (w := w) (x2 := nI k) (by omega) N fu 0 (iB (sl w c)) hEB (by omega)
      rw [Nat.zero_add, ← hb] at c2
      have cls : f_X0_blunt fu ev (mem ev w) ev.1 (nI c) (nI k) = b_X0_blunt_143 fu ev (mem ev (setY w b)) ev.1 (nI k) (nI N) := by
        have s1 : f_X0_blunt fu ev (mem ev w) ev.1 (nI c) (nI k) = L_X0_blunt_34 fu ev fu (mem ev w) ev.1 (nI k) (some (ev.1 + cr (3 + 2 * c))) 0 := by
          simp only [f_X0_blunt, b_X0_blunt_0, b_X0_blunt_8, b_X0_blunt_24, xis, X0_isCell hM, X0_isIn, a1, a2, xf0, xcells (show c < 6 by omega), Option.bind_some, bd2, b01, if_true, if_false, not_true_eq_false, not_false_eq_true, Bool.false_eq_true, eq_self, Int32.reduceAdd, Int32.reduceMul, Int32.reduceLE, Int32.reduceLT, reduceIte, Int32.add_assoc, ie_0_1, ie_0_2, ie_0_3, ie_0_4, ie_0_5, ie_0_6, ie_0_7, ie_0_8, ie_0_9, ie_1_0, ie_1_2, ie_1_3, ie_1_4, ie_1_5, ie_1_6, ie_1_7, ie_1_8, ie_1_9, ie_2_0, ie_2_1, ie_2_3, ie_2_4, ie_2_5, ie_2_6, ie_2_7, ie_2_8, ie_2_9, ie_3_0, ie_3_1, ie_3_2, ie_3_4, ie_3_5, ie_3_6, ie_3_7, ie_3_8, ie_3_9, ie_4_0, ie_4_1, ie_4_2, ie_4_3, ie_4_5, ie_4_6, ie_4_7, ie_4_8, ie_4_9, ie_5_0, ie_5_1, ie_5_2, ie_5_3, ie_5_4, ie_5_6, ie_5_7, ie_5_8, ie_5_9, ie_6_0, ie_6_1, ie_6_2, ie_6_3, ie_6_4, ie_6_5, ie_6_7, ie_6_8, ie_6_9, ie_7_0, ie_7_1, ie_7_2, ie_7_3, ie_7_4, ie_7_5, ie_7_6, ie_7_8, ie_7_9, ie_8_0, ie_8_1, ie_8_2, ie_8_3, ie_8_4, ie_8_5, ie_8_6, ie_8_7, ie_8_9, ie_9_0, ie_9_1, ie_9_2, ie_9_3, ie_9_4, ie_9_5, ie_9_6, ie_9_7, ie_9_8, nI_1, nI_pred, setC_21, setS_21, wI_same, Int32.reduceSub]
        rw [s1, c1]
        unfold b_X0_blunt_104
        rw [xis, Option.bind_some, X0_sharpest (by omega), b2s]
        exact c2
      -- the model
      have mdl : ∀ w1 : Wd, w1.2.1 966 2 = nI M → sl w1 c = sl w c → ∃ f' : Nat → Int64, f_X2_blunt fu ev (mem ev w1) (ev.1 + 966) (nI c) (nI k) = if nI k = (6 : Int32) then b_X2_blunt_36 fu ev (mem ev (setF w1 f' b)) (nI N) else b_X2_blunt_39 fu ev (mem ev (setF w1 f' b)) (ev.1 + 966) (nI k) := by
        intro w1 hN1 hs1
        obtain ⟨f', m1⟩ := X2_blunts_N (ev := ev) (fu := fu) (w := w1) (K := c) (N := N) (by omega) (by omega) (by rw [hs1]; exact hEB) (by omega)
        rw [hs1, ← hb] at m1
        refine ⟨f', ?_⟩
        unfold f_X2_blunt b_X2_blunt_0
        rw [mis, Option.bind_some, X2_isCell hN1, b2s, if_pos a1, if_neg (show ¬ (1 : Int32) = 0 by decide)]
        unfold b_X2_blunt_8
        rw [X2_isIn, b2s, if_pos a2, if_neg (show ¬ (1 : Int32) = 0 by decide)]
        unfold b_X2_blunt_24
        rw [mis, Option.bind_some, m1, b2s]
      by_cases hk6 : k = 6
      · subst hk6
        obtain ⟨f', m1⟩ := mdl (setY w b) hN (Sq_sl Sq_Y (by omega))
        refine ⟨(nI N).toInt64, setY w b, setF (setY w b) f' b, ?_, ?_, Rel_Sq hR (Sq_trans Sq_Y Sq_F), fun l hl => Sq_sl (Sq_trans Sq_Y Sq_F) (by omega), Nat.le_add_right _ _, Nat.le_add_right _ _⟩
        · rw [cls]
          unfold b_X0_blunt_143
          rw [if_pos (show nI 6 = (6 : Int32) from rfl)]
          rfl
        · rw [m1, if_pos (show nI 6 = (6 : Int32) from rfl)]
          rfl
      · have hk5 : k < 6 := by omega
        have n6 : ¬ nI k = (6 : Int32) := nI_ne (b := 6) (by omega) (by decide) hk6
        obtain ⟨w1, q1, p1, p2, p3, p4⟩ := X0_order (ev := ev) (fu := fu) (w := setY w b) (b := b) hE (by omega) hk5 hz h1 h2 (fun i hi => by
          show (if 37 = 37 ∧ i < 6 then b i else w.1 37 i) = b i
          rw [if_pos ⟨rfl, hi⟩])
        have hs1 : sl w1 c = sl w c := (sl_row p3.1).trans (Sq_sl Sq_Y (by omega))
        obtain ⟨f', m1⟩ := mdl w1 (by rw [p3.2.1]; exact hN) hs1
        obtain ⟨r1, r2⟩ := rk_fin p1 p2 hk5
        refine ⟨b (q1 k), w1, setF w1 f' b, ?_, ?_, Rel_Sq (Rel_Nw (Rel_Sq hR Sq_Y) p3) Sq_F, fun l hl => (Sq_sl Sq_F (by omega)).trans ((sl_row p3.1).trans (Sq_sl Sq_Y (by omega))), p3.2.2.2.2.1, p3.2.2.2.2.2.1⟩
        · rw [cls]
          unfold b_X0_blunt_143
          rw [if_neg n6]
          exact p4
        · rw [m1, if_neg n6]
          unfold b_X2_blunt_39
          have := rk_l (ev := ev) (fu := fu) (w := w1) (f := f') (b := b) (k := k) (by omega) hk5 6 fu 0 0 (by decide) (by omega) (by decide)
          rw [up_dn, r2] at this
          exact this
    · exact ref (-9223372036854775808) (by simp only [b_X0_blunt_20, b_X0_blunt_209, b_X0_blunt_183, b_X0_blunt_176, b_X0_blunt_153, b_X0_blunt_149, b_X0_blunt_143, b_X0_blunt_125, b_X0_blunt_113, b_X0_blunt_104, b_X0_blunt_40, b_X0_blunt_34, b_X0_blunt_24, b_X0_blunt_8, b_X0_blunt_0, f_X0_blunt, xis, X0_isCell hM, X0_isIn, a1, a2, Option.bind_some, bd2, b01, if_true, if_false, not_true_eq_false, not_false_eq_true, Bool.false_eq_true, eq_self, Int32.reduceAdd, Int32.reduceMul, Int32.reduceLE, Int32.reduceLT, reduceIte, Int32.add_assoc, ie_0_1, ie_0_2, ie_0_3, ie_0_4, ie_0_5, ie_0_6, ie_0_7, ie_0_8, ie_0_9, ie_1_0, ie_1_2, ie_1_3, ie_1_4, ie_1_5, ie_1_6, ie_1_7, ie_1_8, ie_1_9, ie_2_0, ie_2_1, ie_2_3, ie_2_4, ie_2_5, ie_2_6, ie_2_7, ie_2_8, ie_2_9, ie_3_0, ie_3_1, ie_3_2, ie_3_4, ie_3_5, ie_3_6, ie_3_7, ie_3_8, ie_3_9, ie_4_0, ie_4_1, ie_4_2, ie_4_3, ie_4_5, ie_4_6, ie_4_7, ie_4_8, ie_4_9, ie_5_0, ie_5_1, ie_5_2, ie_5_3, ie_5_4, ie_5_6, ie_5_7, ie_5_8, ie_5_9, ie_6_0, ie_6_1, ie_6_2, ie_6_3, ie_6_4, ie_6_5, ie_6_7, ie_6_8, ie_6_9, ie_7_0, ie_7_1, ie_7_2, ie_7_3, ie_7_4, ie_7_5, ie_7_6, ie_7_8, ie_7_9, ie_8_0, ie_8_1, ie_8_2, ie_8_3, ie_8_4, ie_8_5, ie_8_6, ie_8_7, ie_8_9, ie_9_0, ie_9_1, ie_9_2, ie_9_3, ie_9_4, ie_9_5, ie_9_6, ie_9_7, ie_9_8, nI_1, nI_pred, setC_21, setS_21, wI_same, Int32.reduceSub]) (by simp only [b_X2_blunt_20, b_X2_blunt_140, b_X2_blunt_134, b_X2_blunt_130, b_X2_blunt_124, b_X2_blunt_115, b_X2_blunt_110, b_X2_blunt_114, b_X2_blunt_103, b_X2_blunt_85, b_X2_blunt_65, b_X2_blunt_58, b_X2_blunt_52, b_X2_blunt_45, b_X2_blunt_39, b_X2_blunt_36, b_X2_blunt_24, b_X2_blunt_8, b_X2_blunt_0, f_X2_blunt, mis, X2_isCell hN, X2_isIn, a1, a2, Option.bind_some, bd2, b01, if_true, if_false, not_true_eq_false, not_false_eq_true, Bool.false_eq_true, eq_self, Int32.reduceAdd, Int32.reduceMul, Int32.reduceLE, Int32.reduceLT, reduceIte, Int32.add_assoc, ie_0_1, ie_0_2, ie_0_3, ie_0_4, ie_0_5, ie_0_6, ie_0_7, ie_0_8, ie_0_9, ie_1_0, ie_1_2, ie_1_3, ie_1_4, ie_1_5, ie_1_6, ie_1_7, ie_1_8, ie_1_9, ie_2_0, ie_2_1, ie_2_3, ie_2_4, ie_2_5, ie_2_6, ie_2_7, ie_2_8, ie_2_9, ie_3_0, ie_3_1, ie_3_2, ie_3_4, ie_3_5, ie_3_6, ie_3_7, ie_3_8, ie_3_9, ie_4_0, ie_4_1, ie_4_2, ie_4_3, ie_4_5, ie_4_6, ie_4_7, ie_4_8, ie_4_9, ie_5_0, ie_5_1, ie_5_2, ie_5_3, ie_5_4, ie_5_6, ie_5_7, ie_5_8, ie_5_9, ie_6_0, ie_6_1, ie_6_2, ie_6_3, ie_6_4, ie_6_5, ie_6_7, ie_6_8, ie_6_9, ie_7_0, ie_7_1, ie_7_2, ie_7_3, ie_7_4, ie_7_5, ie_7_6, ie_7_8, ie_7_9, ie_8_0, ie_8_1, ie_8_2, ie_8_3, ie_8_4, ie_8_5, ie_8_6, ie_8_7, ie_8_9, ie_9_0, ie_9_1, ie_9_2, ie_9_3, ie_9_4, ie_9_5, ie_9_6, ie_9_7, ie_9_8, nI_1, nI_pred, setC_21, setS_21, wI_same, Int32.reduceSub])
  · exact ref (-9223372036854775808) (by simp only [b_X0_blunt_20, b_X0_blunt_209, b_X0_blunt_183, b_X0_blunt_176, b_X0_blunt_153, b_X0_blunt_149, b_X0_blunt_143, b_X0_blunt_125, b_X0_blunt_113, b_X0_blunt_104, b_X0_blunt_40, b_X0_blunt_34, b_X0_blunt_24, b_X0_blunt_8, b_X0_blunt_0, f_X0_blunt, xis, X0_isCell hM, a1, Option.bind_some, bd2, b01, if_true, if_false, not_true_eq_false, not_false_eq_true, Bool.false_eq_true, eq_self, Int32.reduceAdd, Int32.reduceMul, Int32.reduceLE, Int32.reduceLT, reduceIte, Int32.add_assoc, ie_0_1, ie_0_2, ie_0_3, ie_0_4, ie_0_5, ie_0_6, ie_0_7, ie_0_8, ie_0_9, ie_1_0, ie_1_2, ie_1_3, ie_1_4, ie_1_5, ie_1_6, ie_1_7, ie_1_8, ie_1_9, ie_2_0, ie_2_1, ie_2_3, ie_2_4, ie_2_5, ie_2_6, ie_2_7, ie_2_8, ie_2_9, ie_3_0, ie_3_1, ie_3_2, ie_3_4, ie_3_5, ie_3_6, ie_3_7, ie_3_8, ie_3_9, ie_4_0, ie_4_1, ie_4_2, ie_4_3, ie_4_5, ie_4_6, ie_4_7, ie_4_8, ie_4_9, ie_5_0, ie_5_1, ie_5_2, ie_5_3, ie_5_4, ie_5_6, ie_5_7, ie_5_8, ie_5_9, ie_6_0, ie_6_1, ie_6_2, ie_6_3, ie_6_4, ie_6_5, ie_6_7, ie_6_8, ie_6_9, ie_7_0, ie_7_1, ie_7_2, ie_7_3, ie_7_4, ie_7_5, ie_7_6, ie_7_8, ie_7_9, ie_8_0, ie_8_1, ie_8_2, ie_8_3, ie_8_4, ie_8_5, ie_8_6, ie_8_7, ie_8_9, ie_9_0, ie_9_1, ie_9_2, ie_9_3, ie_9_4, ie_9_5, ie_9_6, ie_9_7, ie_9_8, nI_1, nI_pred, setC_21, setS_21, wI_same, Int32.reduceSub]) (by simp only [b_X2_blunt_20, b_X2_blunt_140, b_X2_blunt_134, b_X2_blunt_130, b_X2_blunt_124, b_X2_blunt_115, b_X2_blunt_110, b_X2_blunt_114, b_X2_blunt_103, b_X2_blunt_85, b_X2_blunt_65, b_X2_blunt_58, b_X2_blunt_52, b_X2_blunt_45, b_X2_blunt_39, b_X2_blunt_36, b_X2_blunt_24, b_X2_blunt_8, b_X2_blunt_0, f_X2_blunt, mis, X2_isCell hN, a1, Option.bind_some, bd2, b01, if_true, if_false, not_true_eq_false, not_false_eq_true, Bool.false_eq_true, eq_self, Int32.reduceAdd, Int32.reduceMul, Int32.reduceLE, Int32.reduceLT, reduceIte, Int32.add_assoc, ie_0_1, ie_0_2, ie_0_3, ie_0_4, ie_0_5, ie_0_6, ie_0_7, ie_0_8, ie_0_9, ie_1_0, ie_1_2, ie_1_3, ie_1_4, ie_1_5, ie_1_6, ie_1_7, ie_1_8, ie_1_9, ie_2_0, ie_2_1, ie_2_3, ie_2_4, ie_2_5, ie_2_6, ie_2_7, ie_2_8, ie_2_9, ie_3_0, ie_3_1, ie_3_2, ie_3_4, ie_3_5, ie_3_6, ie_3_7, ie_3_8, ie_3_9, ie_4_0, ie_4_1, ie_4_2, ie_4_3, ie_4_5, ie_4_6, ie_4_7, ie_4_8, ie_4_9, ie_5_0, ie_5_1, ie_5_2, ie_5_3, ie_5_4, ie_5_6, ie_5_7, ie_5_8, ie_5_9, ie_6_0, ie_6_1, ie_6_2, ie_6_3, ie_6_4, ie_6_5, ie_6_7, ie_6_8, ie_6_9, ie_7_0, ie_7_1, ie_7_2, ie_7_3, ie_7_4, ie_7_5, ie_7_6, ie_7_8, ie_7_9, ie_8_0, ie_8_1, ie_8_2, ie_8_3, ie_8_4, ie_8_5, ie_8_6, ie_8_7, ie_8_9, ie_9_0, ie_9_1, ie_9_2, ie_9_3, ie_9_4, ie_9_5, ie_9_6, ie_9_7, ie_9_8, nI_1, nI_pred, setC_21, setS_21, wI_same, Int32.reduceSub])
end XBO
