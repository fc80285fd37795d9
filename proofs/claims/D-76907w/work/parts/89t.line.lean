/-! THE LINE: one goes out, one comes, one is told -/
def FrU (t : Nat) (w w' : Wd) : Prop := w'.1 = w.1 ∧ FrX [6] w w' ∧ w'.2.2.2.2 = w.2.2.2.2 ∧ ∀ a : Nat, a ≠ t → dyn w' a = dyn w a
section XLI
variable {ev : Ev} {w w' w'' : Wd} {fu k n t h c j : Nat} {x : Int32} {qs : Nat → Nat}
theorem FrU_refl : FrU t w w := ⟨rfl, FrX_refl, rfl, fun _ _ => rfl⟩
theorem FrU_trans (h1 : FrU t w w') (h2 : FrU t w' w'') : FrU t w w'' := ⟨h2.1.trans h1.1, FrX_trans h1.2.1 h2.2.1 (by decide) (by decide), h2.2.2.1.trans h1.2.2.1, fun a ha => (h2.2.2.2 a ha).trans (h1.2.2.2 a ha)⟩
theorem FrU_wD {o : Option Ob} : FrU t w (wD w t o) := ⟨rfl, FrX_row rfl (fun _ _ _ _ => rfl) (fun _ _ _ _ => rfl), rfl, fun a ha => by rw [dyn_wD, if_neg ha]⟩
theorem FrX_q38 (h1 : w'.1 = w.1) (h2 : ∀ q : Nat, q ≠ 38 → w'.2.1 q = w.2.1 q) (h3 : ∀ q : Nat, q ≠ 39 → w'.2.2.1 q = w.2.2.1 q) : FrX [6] w w' := FrX_row h1 (fun q i _ hn => by rw [h2 q (fun z => hn (by subst z; exact List.mem_cons_self))]) (fun q i _ hn => by rw [h3 q (fun z => hn (by subst z; decide))])
theorem nI_ne {a b : Nat} (ha : a < 2 ^ 31) (hb : b < 2 ^ 31) (h : a ≠ b) : ¬ nI a = nI b := fun z => h ((nI_eq ha hb).mp z)
/-- the next one of the line -/
theorem out_next (hE : EvOk ev) (hQ : DQ ev w 38 h n qs) (hk : k < n) {l : Int32} (hT : Di ev w 38 t h n k l) : ∃ w' : Wd, DQ ev w' 38 h n qs ∧ Di ev w' 38 t h n (k + 1) (nI ((h + k) % 17)) ∧ FrU t w w' ∧ f_J6_next fu ev (mem ev w) t = some (some (ia ev (qs k)), mem ev w') ∧ ckC (mem ev w') (some (ia ev (qs k))) "java/lang/Integer" = some () ∧ isC (mem ev w') (ia ev (qs k)) 15 = some () ∧ f_J32_intValue fu ev (mem ev w') (ia ev (qs k)) = some (nI (qs k), mem ev w') := by
  have hr : Hq 38 := Or.inl rfl
  obtain ⟨wa, e1, Qa, Ta, hwa⟩ := dq_next (fu := fu) hr hQ hk hT
  have h128 := (hQ.2.2.2.2.1 k hk).2
  exact ⟨wa, Qa, Ta, by rw [hwa]; exact FrU_wD, e1, ia_ck hE h128, ia_is hE h128, ia_val hE h128⟩
theorem Lx_out (hE : EvOk ev) (hc : c < 128) : ∀ (d f k : Nat) (w : Wd) (l : Int32), k + d = n → DQ ev w 38 h n qs → Di ev w 38 t h n k l → d < f → (∀ j : Nat, j < k → qs j ≠ c) →
    (∃ (j h' : Nat) (w' : Wd), j < n ∧ qs j = c ∧ L_X0_goesOut_10 fu ev f (mem ev w) (nI c) (nI k) (some t) = some (nI j, mem ev w') ∧ DQ ev w' 38 h' (n - 1) (dl j qs) ∧ FrU t w w') ∨ ((∀ j : Nat, j < n → qs j ≠ c) ∧ ∃ w' : Wd, L_X0_goesOut_10 fu ev f (mem ev w) (nI c) (nI k) (some t) = some (-1, mem ev w') ∧ DQ ev w' 38 h n qs ∧ FrU t w w') := by
  have hr : Hq 38 := Or.inl rfl
  intro d
  induction d with
  | zero =>
    intro f k w l hk hQ hT hf hne
    obtain ⟨g, rfl⟩ : ∃ g, f = g + 1 := ⟨f - 1, by omega⟩
    have hn := dq_hasNext (fu := fu) hQ.2.1 (by omega) hT
    rw [if_neg (by omega)] at hn
    refine Or.inr ⟨fun j hj => hne j (by omega), w, ?_, hQ, FrU_refl⟩
    show b_X0_goesOut_10 _ fu ev _ _ _ _ = _
    unfold b_X0_goesOut_10
    rw [Option.bind_some, di_is hT.2.1 hT.1, Option.bind_some, hn]
    rfl
  | succ d ih =>
    intro f k w l hk hQ hT hf hne
    obtain ⟨g, rfl⟩ : ∃ g, f = g + 1 := ⟨f - 1, by omega⟩
    have hn := dq_hasNext (fu := fu) hQ.2.1 (by omega) hT
    rw [if_pos (by omega)] at hn
    obtain ⟨wa, Qa, Ta, Fa, e1, e2, e3, e4⟩ := out_next (fu := fu) hE hQ (show k < n by omega) hT
    have h128 := (hQ.2.2.2.2.1 k (by omega)).2
    have hd : L_X0_goesOut_10 fu ev (g + 1) (mem ev w) (nI c) (nI k) (some t) = if nI (qs k) = nI c then b_X0_goesOut_35 fu ev (mem ev wa) (nI k) t else b_X0_goesOut_43 (L_X0_goesOut_10 fu ev g) fu ev (mem ev wa) (nI c) (nI k) t := by
      show b_X0_goesOut_10 _ fu ev _ _ _ _ = _
      unfold b_X0_goesOut_10
      rw [Option.bind_some, di_is hT.2.1 hT.1, Option.bind_some, hn]
      show b_X0_goesOut_19 (L_X0_goesOut_10 fu ev g) fu ev (mem ev w) (nI c) (nI k) t = _
      unfold b_X0_goesOut_19
      rw [di_is hT.2.1 hT.1, Option.bind_some, e1]
      show (ckC (mem ev wa) (some (ia ev (qs k))) "java/lang/Integer").bind _ = _
      rw [e2, Option.bind_some]
      show (isC (mem ev wa) (ia ev (qs k)) 15).bind _ = _
      rw [e3, Option.bind_some, e4]
      rfl
    by_cases hq : qs k = c
    · obtain ⟨m, rfl⟩ : ∃ m, n = m + 1 := ⟨n - 1, by omega⟩
      obtain ⟨h', wb, r1, r2, r3, r4, r5, r6, r7, r8⟩ := dq_remove (fu := fu) hr hE Qa (show k < m + 1 by omega) Ta
      refine Or.inl ⟨k, h', wb, by omega, hq, ?_, r2, FrU_trans Fa ⟨r4, FrX_q38 r4 r5 r6, r8, r7⟩⟩
      rw [hd, if_pos (by rw [hq])]
      unfold b_X0_goesOut_35
      rw [di_is Ta.2.1 Ta.1, Option.bind_some, r1]
      rfl
    · rcases ih g (k + 1) wa (nI ((h + k) % 17)) (by omega) Qa Ta (by omega) (fun j hj => by
          by_cases e : j = k
          · rw [e]; exact hq
          · exact hne j (by omega)) with ⟨j, h', w', a1, a2, a3, a4, a5⟩ | ⟨a1, w', a3, a4, a5⟩
      · refine Or.inl ⟨j, h', w', a1, a2, ?_, a4, FrU_trans Fa a5⟩
        rw [hd, if_neg (nI_ne (by omega) (by omega) hq)]
        unfold b_X0_goesOut_43
        rw [nI_1]
        exact a3
      · refine Or.inr ⟨a1, w', ?_, a4, FrU_trans Fa a5⟩
        rw [hd, if_neg (nI_ne (by omega) (by omega) hq)]
        unfold b_X0_goesOut_43
        rw [nI_1]
        exact a3
theorem cx_out (hE : EvOk ev) (hf : 40 ≤ fu) (hc : c < 128) (hQ : DQ ev w 38 h n qs) (h0 : ev.1 + 984 ≤ szW w) (h1 : szW w + 1 ≤ ev.2.1) (h2 : slW w + 4 ≤ ev.2.2.1) :
    (∃ (j h' : Nat) (w' : Wd), j < n ∧ qs j = c ∧ f_X0_goesOut fu ev (mem ev w) ev.1 (nI c) = some (nI j, mem ev w') ∧ DQ ev w' 38 h' (n - 1) (dl j qs) ∧ w'.1 = w.1 ∧ FrX [6] w w' ∧ szW w' = szW w + 1 ∧ slW w' = slW w + 4 ∧ ∀ a : Nat, a < szW w → dyn w' a = dyn w a) ∨ ((∀ j : Nat, j < n → qs j ≠ c) ∧ ∃ w' : Wd, f_X0_goesOut fu ev (mem ev w) ev.1 (nI c) = some (-1, mem ev w') ∧ DQ ev w' 38 h n qs ∧ w'.1 = w.1 ∧ FrX [6] w w' ∧ szW w' = szW w + 1 ∧ slW w' = slW w + 4 ∧ ∀ a : Nat, a < szW w → dyn w' a = dyn w a) := by
  have hr : Hq 38 := Or.inl rfl
  have hn6 := hQ.2.1
  obtain ⟨wa, e1, Qa, Ta, hwa⟩ := dq_iter (fu := fu) hr hQ h0 h1 h2
  have za : szW wa = szW w + 1 := by rw [hwa]; rfl
  have ya : slW wa = slW w + 4 := by rw [hwa]; rfl
  have Fa : FrX [6] w wa := by rw [hwa]; exact FrX_row rfl (fun _ _ _ _ => rfl) (fun _ _ _ _ => rfl)
  have ja : wa.1 = w.1 := by rw [hwa]; rfl
  have da : ∀ a : Nat, a < szW w → dyn wa a = dyn w a := fun a ha => by rw [hwa, dyn_nw, if_neg (by omega)]
  have hd : f_X0_goesOut fu ev (mem ev w) ev.1 (nI c) = L_X0_goesOut_10 fu ev fu (mem ev wa) (nI c) (nI 0) (some (szW w)) := by
    unfold f_X0_goesOut b_X0_goesOut_0
    rw [xf16, Option.bind_some, Option.bind_some, qIs hr, Option.bind_some, e1]
    rfl
  rcases Lx_out (fu := fu) (c := c) hE hc n fu 0 wa (-1) (by omega) Qa Ta (by omega) (fun j hj => absurd hj (by omega)) with ⟨j, h', w', a1, a2, a3, a4, a5, a6, a7, a8⟩ | ⟨a1, w', a3, a4, a5, a6, a7, a8⟩
  · have zz : szW w' = szW wa := congrArg Prod.fst a7
    have yy : slW w' = slW wa := congrArg Prod.snd a7
    exact Or.inl ⟨j, h', w', a1, a2, hd.trans a3, a4, a5.trans ja, FrX_trans Fa a6 (by decide) (by decide), by omega, by omega, fun a ha => (a8 a (by omega)).trans (da a ha)⟩
  · have zz : szW w' = szW wa := congrArg Prod.fst a7
    have yy : slW w' = slW wa := congrArg Prod.snd a7
    exact Or.inr ⟨a1, w', hd.trans a3, a4, a5.trans ja, FrX_trans Fa a6 (by decide) (by decide), by omega, by omega, fun a ha => (a8 a (by omega)).trans (da a ha)⟩
/-! the model's line -/
theorem seg_out {B : Nat} (hQ : QM w 6 971 n qs B) (hn : n ≤ 6) (hB : B ≤ 6) (hc : c < 128) : ∀ (d f k : Nat) (pl : Int32), (∀ i : Nat, k ≤ i → i < k + d → qs i ≠ c) → k + d ≤ n → d ≤ f → L_X2_leavesLine_4 fu ev f (mem ev w) (ev.1 + 966) (nI c) pl (nI k) = L_X2_leavesLine_4 fu ev (f - d) (mem ev w) (ev.1 + 966) (nI c) pl (nI (k + d)) := by
  intro d
  induction d with
  | zero => intro f k pl _ _ _; rfl
  | succ d ih =>
    intro f k pl hne hk hf
    obtain ⟨g, rfl⟩ : ∃ g, f = g + 1 := ⟨f - 1, by omega⟩
    obtain ⟨v1, v2⟩ := hQ.2.1 k (by omega)
    have := ih g (k + 1) pl (fun i hi hi2 => hne i (by omega) (by omega)) (by omega) (by omega)
    rw [show g + 1 - (d + 1) = g - d by omega, show k + (d + 1) = k + 1 + d by omega, ← this]
    show b_X2_leavesLine_4 _ fu ev _ _ _ _ _ = _
    unfold b_X2_leavesLine_4
    rw [mi6, Option.bind_some, hQ.1, if_neg (nI_ge (by omega) (by omega))]
    unfold b_X2_leavesLine_12
    rw [mf14, Option.bind_some, Option.bind_some, rdI (N := 6) rfl (by decide) (by decide) (by omega), Option.bind_some, v1, if_neg (nI_ne (by omega) (by omega) (hne k (by omega) (by omega)))]
    unfold b_X2_leavesLine_26 b_X2_leavesLine_27
    rw [nI_1]
theorem Lm_shl {x0 : Int32} {m : Nat} (hm : m ≤ 5) : ∀ (d f k : Nat) (w : Wd), k + d = m → w.2.1 966 6 = nI m → d < f → ∃ w' : Wd, L_X2_leavesLine_52 fu ev f (mem ev w) (ev.1 + 966) x0 (nI k) = some (x0, mem ev w') ∧ Ri (fun q _ => q = 971) w w' ∧ ∀ i : Nat, w'.2.1 971 i = if k ≤ i ∧ i < m then w.2.1 971 (i + 1) else w.2.1 971 i := by
  intro d
  induction d with
  | zero =>
    intro f k w hk h6 hf
    obtain ⟨g, rfl⟩ : ∃ g, f = g + 1 := ⟨f - 1, by omega⟩
    refine ⟨w, ?_, Ri_refl, fun i => by rw [if_neg (by omega)]⟩
    show b_X2_leavesLine_52 _ fu ev _ _ _ _ = _
    unfold b_X2_leavesLine_52
    rw [mi6, Option.bind_some, h6, if_pos (nI_le (by omega) (by omega))]
    rfl
  | succ d ih =>
    intro f k w hk h6 hf
    obtain ⟨g, rfl⟩ : ∃ g, f = g + 1 := ⟨f - 1, by omega⟩
    obtain ⟨w', e1, e2, e3⟩ := ih g (k + 1) (wI w 971 k (w.2.1 971 (k + 1))) (by omega) (by rw [wI_ne (by omega)]; exact h6) (by omega)
    refine ⟨w', ?_, Ri_trans Ri_wI e2 (fun _ _ z => z.1) (fun _ _ z => z), fun i => ?_⟩
    · show b_X2_leavesLine_52 _ fu ev _ _ _ _ = _
      unfold b_X2_leavesLine_52
      rw [mi6, Option.bind_some, h6, if_neg (nI_ge (by omega) (by omega))]
      unfold b_X2_leavesLine_60
      rw [mf14, Option.bind_some, Option.bind_some, Option.bind_some, nI_1, rdI (N := 6) rfl (by decide) (by decide) (by omega), Option.bind_some, Option.bind_some, wrI (N := 6) rfl (by decide) (by decide) (by omega), Option.bind_some]
      exact e1
    · rw [e3]
      by_cases c1 : k + 1 ≤ i ∧ i < m
      · rw [if_pos c1, if_pos (by omega), wI_ne (by omega)]
      · rw [if_neg c1]
        by_cases c2 : i = k
        · subst c2
          rw [wI_same, if_pos (by omega)]
        · rw [wI_ne (by omega), if_neg (by omega)]
theorem QM_del {w' : Wd} {B : Nat} (hQ : QM w 6 971 n qs B) (hj : j < n) (h6 : w'.2.1 966 6 = nI (n - 1)) (hv : ∀ i : Nat, i < n - 1 → w'.2.1 971 i = if j ≤ i then w.2.1 971 (i + 1) else w.2.1 971 i) : QM w' 6 971 (n - 1) (dl j qs) B := by
  refine ⟨h6, fun i hi => ?_, fun a b ha hb e => ?_⟩
  · rw [hv i hi]
    unfold dl
    by_cases e : j ≤ i
    · rw [if_pos e, if_neg (by omega)]
      exact hQ.2.1 (i + 1) (by omega)
    · rw [if_neg e, if_pos (by omega)]
      exact hQ.2.1 i (by omega)
  · unfold dl at e
    split at e <;> split at e
    · exact hQ.2.2 a b (by omega) (by omega) e
    · have := hQ.2.2 a (b + 1) (by omega) (by omega) e
      omega
    · have := hQ.2.2 (a + 1) b (by omega) (by omega) e
      omega
    · have := hQ.2.2 (a + 1) (b + 1) (by omega) (by omega) e
      omega
theorem mx_out {B : Nat} (hf : 40 ≤ fu) (hQ : QM w 6 971 n qs B) (hn : n ≤ 6) (hB : B ≤ 6) (hc : c < 128) : (∀ j : Nat, j < n → qs j = c → ∃ w' : Wd, f_X2_leavesLine fu ev (mem ev w) (ev.1 + 966) (nI c) = some (nI j, mem ev w') ∧ QM w' 6 971 (n - 1) (dl j qs) B ∧ Ri (fun q i => q = 971 ∨ (q = 966 ∧ i = 6)) w w') ∧ ((∀ j : Nat, j < n → qs j ≠ c) → f_X2_leavesLine fu ev (mem ev w) (ev.1 + 966) (nI c) = some (-1, mem ev w)) := by
  have fin : ∀ (f : Nat) (pl : Int32), 0 < f → L_X2_leavesLine_4 fu ev f (mem ev w) (ev.1 + 966) (nI c) pl (nI n) = b_X2_leavesLine_34 fu ev (mem ev w) (ev.1 + 966) pl := by
    intro f pl hf
    obtain ⟨g, rfl⟩ : ∃ g, f = g + 1 := ⟨f - 1, by omega⟩
    show b_X2_leavesLine_4 _ fu ev _ _ _ _ _ = _
    unfold b_X2_leavesLine_4
    rw [mi6, Option.bind_some, hQ.1, if_pos (Int32.le_refl _)]
  refine ⟨fun j hj hq => ?_, fun hne => ?_⟩
  · have s1 := seg_out (fu := fu) (ev := ev) hQ hn hB hc j fu 0 (-1) (fun i _ hi e => by have := hQ.2.2 i j (by omega) hj (e.trans hq.symm); omega) (by omega) (by omega)
    rw [Nat.zero_add, nI_0] at s1
    obtain ⟨g, hg⟩ : ∃ g, fu - j = g + 1 := ⟨fu - j - 1, by omega⟩
    have s2 : L_X2_leavesLine_4 fu ev (g + 1) (mem ev w) (ev.1 + 966) (nI c) (-1) (nI j) = L_X2_leavesLine_4 fu ev g (mem ev w) (ev.1 + 966) (nI c) (nI j) (nI (j + 1)) := by
      show b_X2_leavesLine_4 _ fu ev _ _ _ _ _ = _
      unfold b_X2_leavesLine_4
      rw [mi6, Option.bind_some, hQ.1, if_neg (nI_ge (by omega) (by omega))]
      unfold b_X2_leavesLine_12
      rw [mf14, Option.bind_some, Option.bind_some, rdI (N := 6) rfl (by decide) (by decide) (by omega), Option.bind_some, (hQ.2.1 j hj).1, hq, if_pos rfl]
      unfold b_X2_leavesLine_22 b_X2_leavesLine_27
      rw [nI_1]
    have s3 := seg_out (fu := fu) (ev := ev) hQ hn hB hc (n - (j + 1)) g (j + 1) (nI j) (fun i hi hi2 e => by have := hQ.2.2 i j (by omega) hj (e.trans hq.symm); omega) (by omega) (by omega)
    rw [show j + 1 + (n - (j + 1)) = n by omega, fin _ _ (by omega)] at s3
    obtain ⟨w', t1, t2, t3⟩ := Lm_shl (ev := ev) (fu := fu) (x0 := nI j) (m := n - 1) (by omega) (n - 1 - j) fu j (wI w 966 6 (nI (n - 1))) (by omega) wI_same (by omega)
    refine ⟨w', ?_, QM_del hQ hj ?_ (fun i hi => ?_), Ri_trans Ri_wI t2 (fun _ _ z => Or.inr z) (fun _ _ z => Or.inl z)⟩
    · unfold f_X2_leavesLine b_X2_leavesLine_0
      rw [s1, hg, s2, s3]
      unfold b_X2_leavesLine_34
      rw [if_pos (nI_pos' (by omega))]
      unfold b_X2_leavesLine_40
      rw [mi6, Option.bind_some, hQ.1, show nI n - 1 = nI (n - 1) from pk_sub (b := 1) (by omega), mp6, Option.bind_some]
      exact t1
    · rw [t2.2.2 966 6 (by omega), wI_same]
    · rw [t3]
      by_cases e : j ≤ i
      · rw [if_pos ⟨e, hi⟩, if_pos e, wI_ne (by omega)]
      · rw [if_neg (by omega), if_neg e, wI_ne (by omega)]
  · have s1 := seg_out (fu := fu) (ev := ev) hQ hn hB hc n fu 0 (-1) (fun i _ hi => hne i (by omega)) (by omega) (by omega)
    rw [Nat.zero_add, nI_0, fin _ _ (by omega)] at s1
    unfold f_X2_leavesLine b_X2_leavesLine_0
    rw [s1]
    unfold b_X2_leavesLine_34
    rw [if_neg (by decide)]
    rfl
theorem FrX_16 (h : Ri (fun q i => q = 971 ∨ (q = 966 ∧ i = 6)) w w') : FrX [16] w w' := FrX_Ri h (fun q i z => Or.inr (by
  rcases z with rfl | ⟨rfl, rfl⟩
  · exact List.mem_cons_self
  · decide))
theorem Rel_ln {M T : Nat} {K : Option Nat} (h : Rel ev w M K T) (f : FrX [6, 16] w w') (hs : szW w ≤ szW w') (hd : ∀ a : Nat, a < szW w → dyn w' a = dyn w a) (q : RQa ev w' M) : Rel ev w' M K T := by
  obtain ⟨⟨C, F, p, r⟩, h2, h3, h4, -, h6, h7, h8, h9, h10⟩ := h
  have d : FrD w w' := ⟨hs, fun a ha _ => hd a ha⟩
  exact ⟨⟨C, F, p, RCK_x r f (by decide) (by decide) (by decide)⟩, RT_x h2 f (by decide) (by decide), RIm_x h3 f (by decide) (by decide), RLg_x h4 f (by decide) (by decide) (by decide) (by decide) hs (fun a _ _ _ ha _ => hd a ha), q, RQb_x h6 f (by decide) (by decide), RRw_x h7 f (by decide) (by decide) d, RPp_x h8 f (by decide) (by decide) d, St_x h9 f (by decide) (by decide), Nat.le_trans h10 hs⟩
/-- one goes out of the line, in both -/
theorem Rel_out {M T : Nat} {K : Option Nat} (hE : EvOk ev) (hf : 40 ≤ fu) (hR : Rel ev w M K T) (hc : c < 6) (h1 : szW w + 1 ≤ ev.2.1) (h2 : slW w + 4 ≤ ev.2.2.1) : ∃ (r : Int32) (w1 w2 : Wd), f_X0_goesOut fu ev (mem ev w) ev.1 (nI c) = some (r, mem ev w1) ∧ f_X2_leavesLine fu ev (mem ev w1) (ev.1 + 966) (nI c) = some (r, mem ev w2) ∧ w2.1 = w.1 ∧ FrX [6, 16] w w2 ∧ szW w2 = szW w + 1 ∧ slW w2 = slW w + 4 ∧ (∀ a : Nat, a < szW w → dyn w2 a = dyn w a) ∧ FrX [6] w w1 ∧ ∃ (h n : Nat) (qs : Nat → Nat), QG ev w2 38 6 971 h n qs M ∧ ∀ i : Nat, i < n → qs i ≠ c := by
  obtain ⟨⟨C, F, p, rc⟩, -, -, -, ⟨h, n, qs, hQ, hm⟩, -, -, -, -, h984⟩ := hR
  have hM6 := rc.1.1
  have hn6 := hQ.2.1
  rcases cx_out (fu := fu) (c := c) hE hf (by omega) hQ h984 h1 h2 with ⟨j, h', w1, a1, a2, a3, a4, a5, a6, a7, a8, a9⟩ | ⟨a1, w1, a3, a4, a5, a6, a7, a8, a9⟩
  · obtain ⟨w2, b1, b2, b3⟩ := (mx_out (fu := fu) (ev := ev) (c := c) hf (QM6_x hm a6 (by decide)) hn6 hM6 (by omega)).1 j a1 a2
    have f16 := FrX_16 b3
    have d2 : w2.2.2 = w1.2.2 := b3.2.1
    refine ⟨nI j, w1, w2, a3, b1, b3.1.trans a5, FrX_trans a6 f16 (by decide) (by decide), by unfold szW at *; rw [d2]; exact a7, by unfold slW at *; rw [d2]; exact a8, fun a ha => by rw [← a9 a ha]; unfold dyn; rw [d2], a6, h', n - 1, dl j qs, ⟨DQ38_x a4 f16 (by decide), b2⟩, fun i hi => ?_⟩
    unfold dl
    split
    · intro e
      have := hm.2.2 i j (by omega) a1 (e.trans a2.symm)
      omega
    · intro e
      have := hm.2.2 (i + 1) j (by omega) a1 (e.trans a2.symm)
      omega
  · have b1 := (mx_out (fu := fu) (ev := ev) (c := c) hf (QM6_x hm a6 (by decide)) hn6 hM6 (by omega)).2 a1
    exact ⟨-1, w1, w1, a3, b1, a5, FrX_mono a6 (by decide), a7, a8, a9, a6, h, n, qs, ⟨a4, QM6_x hm a6 (by decide)⟩, a1⟩
theorem op_leaves {M T : Nat} {K : Option Nat} (hE : EvOk ev) (hf : 40 ≤ fu) (hR : Rel ev w M K T) (h1 : szW w + 1 ≤ ev.2.1) (h2 : slW w + 4 ≤ ev.2.2.1) : ∃ (r : Int32) (w1 w2 : Wd), f_X0_leaves fu ev (mem ev w) ev.1 x = some (r, mem ev w1) ∧ f_X2_leaves fu ev (mem ev w1) (ev.1 + 966) x = some (r, mem ev w2) ∧ Rel ev w2 M K T ∧ szW w2 ≤ szW w + 1 ∧ slW w2 ≤ slW w + 4 ∧ w2.1 = w.1 := by
  obtain ⟨⟨C, F, p, rc⟩, -⟩ := id hR
  obtain ⟨hM6, hM, hN, -⟩ := rc.1
  by_cases a : isc x M = true
  · obtain ⟨k, hk, rfl⟩ := isc_of hM6 a
    obtain ⟨r, w1, w2, e1, e2, e3, e4, e5, e6, e7, e8, h, n, qs, e9, -⟩ := Rel_out (fu := fu) (c := k) hE hf hR (by omega) h1 h2
    have hN' : w1.2.1 966 2 = nI M := by rw [e8.1 966 2 (by decide) (by decide)]; exact hN
    refine ⟨if 0 ≤ r then r else -5, w1, w2, ?_, ?_, Rel_ln hR e4 (by omega) e7 ⟨h, n, qs, e9⟩, by omega, by omega, e3⟩
    · simp only [f_X0_leaves, b_X0_leaves_0, b_X0_leaves_10, xis, X0_isCell hM, a, e1, Option.bind_some, bd2, b01, if_true, if_false, not_true_eq_false, not_false_eq_true, Bool.false_eq_true, eq_self, Int32.reduceAdd, Int32.reduceMul, Int32.reduceLE, Int32.reduceLT, reduceIte, Int32.add_assoc, ie_0_1, ie_0_2, ie_0_3, ie_0_4, ie_0_5, ie_0_6, ie_0_7, ie_0_8, ie_0_9, ie_1_0, ie_1_2, ie_1_3, ie_1_4, ie_1_5, ie_1_6, ie_1_7, ie_1_8, ie_1_9, ie_2_0, ie_2_1, ie_2_3, ie_2_4, ie_2_5, ie_2_6, ie_2_7, ie_2_8, ie_2_9, ie_3_0, ie_3_1, ie_3_2, ie_3_4, ie_3_5, ie_3_6, ie_3_7, ie_3_8, ie_3_9, ie_4_0, ie_4_1, ie_4_2, ie_4_3, ie_4_5, ie_4_6, ie_4_7, ie_4_8, ie_4_9, ie_5_0, ie_5_1, ie_5_2, ie_5_3, ie_5_4, ie_5_6, ie_5_7, ie_5_8, ie_5_9, ie_6_0, ie_6_1, ie_6_2, ie_6_3, ie_6_4, ie_6_5, ie_6_7, ie_6_8, ie_6_9, ie_7_0, ie_7_1, ie_7_2, ie_7_3, ie_7_4, ie_7_5, ie_7_6, ie_7_8, ie_7_9, ie_8_0, ie_8_1, ie_8_2, ie_8_3, ie_8_4, ie_8_5, ie_8_6, ie_8_7, ie_8_9, ie_9_0, ie_9_1, ie_9_2, ie_9_3, ie_9_4, ie_9_5, ie_9_6, ie_9_7, ie_9_8, nI_1, nI_pred, setC_21, setS_21, wI_same, Int32.reduceSub]
      split <;> rfl
    · simp only [f_X2_leaves, b_X2_leaves_0, b_X2_leaves_10, mis, X2_isCell hN', a, e2, Option.bind_some, bd2, b01, if_true, if_false, not_true_eq_false, not_false_eq_true, Bool.false_eq_true, eq_self, Int32.reduceAdd, Int32.reduceMul, Int32.reduceLE, Int32.reduceLT, reduceIte, Int32.add_assoc, ie_0_1, ie_0_2, ie_0_3, ie_0_4, ie_0_5, ie_0_6, ie_0_7, ie_0_8, ie_0_9, ie_1_0, ie_1_2, ie_1_3, ie_1_4, ie_1_5, ie_1_6, ie_1_7, ie_1_8, ie_1_9, ie_2_0, ie_2_1, ie_2_3, ie_2_4, ie_2_5, ie_2_6, ie_2_7, ie_2_8, ie_2_9, ie_3_0, ie_3_1, ie_3_2, ie_3_4, ie_3_5, ie_3_6, ie_3_7, ie_3_8, ie_3_9, ie_4_0, ie_4_1, ie_4_2, ie_4_3, ie_4_5, ie_4_6, ie_4_7, ie_4_8, ie_4_9, ie_5_0, ie_5_1, ie_5_2, ie_5_3, ie_5_4, ie_5_6, ie_5_7, ie_5_8, ie_5_9, ie_6_0, ie_6_1, ie_6_2, ie_6_3, ie_6_4, ie_6_5, ie_6_7, ie_6_8, ie_6_9, ie_7_0, ie_7_1, ie_7_2, ie_7_3, ie_7_4, ie_7_5, ie_7_6, ie_7_8, ie_7_9, ie_8_0, ie_8_1, ie_8_2, ie_8_3, ie_8_4, ie_8_5, ie_8_6, ie_8_7, ie_8_9, ie_9_0, ie_9_1, ie_9_2, ie_9_3, ie_9_4, ie_9_5, ie_9_6, ie_9_7, ie_9_8, nI_1, nI_pred, setC_21, setS_21, wI_same, Int32.reduceSub]
      split <;> rfl
  · exact ⟨-1, w, w, by simp only [f_X0_leaves, b_X0_leaves_0, b_X0_leaves_8, xis, X0_isCell hM, a, Option.bind_some, bd2, b01, if_true, if_false, not_true_eq_false, not_false_eq_true, Bool.false_eq_true, eq_self, Int32.reduceAdd, Int32.reduceMul, Int32.reduceLE, Int32.reduceLT, reduceIte, Int32.add_assoc, ie_0_1, ie_0_2, ie_0_3, ie_0_4, ie_0_5, ie_0_6, ie_0_7, ie_0_8, ie_0_9, ie_1_0, ie_1_2, ie_1_3, ie_1_4, ie_1_5, ie_1_6, ie_1_7, ie_1_8, ie_1_9, ie_2_0, ie_2_1, ie_2_3, ie_2_4, ie_2_5, ie_2_6, ie_2_7, ie_2_8, ie_2_9, ie_3_0, ie_3_1, ie_3_2, ie_3_4, ie_3_5, ie_3_6, ie_3_7, ie_3_8, ie_3_9, ie_4_0, ie_4_1, ie_4_2, ie_4_3, ie_4_5, ie_4_6, ie_4_7, ie_4_8, ie_4_9, ie_5_0, ie_5_1, ie_5_2, ie_5_3, ie_5_4, ie_5_6, ie_5_7, ie_5_8, ie_5_9, ie_6_0, ie_6_1, ie_6_2, ie_6_3, ie_6_4, ie_6_5, ie_6_7, ie_6_8, ie_6_9, ie_7_0, ie_7_1, ie_7_2, ie_7_3, ie_7_4, ie_7_5, ie_7_6, ie_7_8, ie_7_9, ie_8_0, ie_8_1, ie_8_2, ie_8_3, ie_8_4, ie_8_5, ie_8_6, ie_8_7, ie_8_9, ie_9_0, ie_9_1, ie_9_2, ie_9_3, ie_9_4, ie_9_5, ie_9_6, ie_9_7, ie_9_8, nI_1, nI_pred, setC_21, setS_21, wI_same, Int32.reduceSub], by simp only [f_X2_leaves, b_X2_leaves_0, b_X2_leaves_8, mis, X2_isCell hN, a, Option.bind_some, bd2, b01, if_true, if_false, not_true_eq_false, not_false_eq_true, Bool.false_eq_true, eq_self, Int32.reduceAdd, Int32.reduceMul, Int32.reduceLE, Int32.reduceLT, reduceIte, Int32.add_assoc, ie_0_1, ie_0_2, ie_0_3, ie_0_4, ie_0_5, ie_0_6, ie_0_7, ie_0_8, ie_0_9, ie_1_0, ie_1_2, ie_1_3, ie_1_4, ie_1_5, ie_1_6, ie_1_7, ie_1_8, ie_1_9, ie_2_0, ie_2_1, ie_2_3, ie_2_4, ie_2_5, ie_2_6, ie_2_7, ie_2_8, ie_2_9, ie_3_0, ie_3_1, ie_3_2, ie_3_4, ie_3_5, ie_3_6, ie_3_7, ie_3_8, ie_3_9, ie_4_0, ie_4_1, ie_4_2, ie_4_3, ie_4_5, ie_4_6, ie_4_7, ie_4_8, ie_4_9, ie_5_0, ie_5_1, ie_5_2, ie_5_3, ie_5_4, ie_5_6, ie_5_7, ie_5_8, ie_5_9, ie_6_0, ie_6_1, ie_6_2, ie_6_3, ie_6_4, ie_6_5, ie_6_7, ie_6_8, ie_6_9, ie_7_0, ie_7_1, ie_7_2, ie_7_3, ie_7_4, ie_7_5, ie_7_6, ie_7_8, ie_7_9, ie_8_0, ie_8_1, ie_8_2, ie_8_3, ie_8_4, ie_8_5, ie_8_6, ie_8_7, ie_8_9, ie_9_0, ie_9_1, ie_9_2, ie_9_3, ie_9_4, ie_9_5, ie_9_6, ie_9_7, ie_9_8, nI_1, nI_pred, setC_21, setS_21, wI_same, Int32.reduceSub], hR, by omega, by omega, rfl⟩
end XLI
