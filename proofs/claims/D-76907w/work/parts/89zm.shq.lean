/-! OPERATION shell -/
section XSP
variable {ev : Ev} {w w0 w' : Wd} {fu k n i j J L a b c N M T : Nat} {v A : Nat → Int64} {x ab le : Int64} {m u z x3 : Int32} {Kp : Option Nat} {P : Int64 → Bool}
theorem all_pos (hv : OkV v) (hc : ∀ P : Int64 → Bool, cpN A P 364 = cpN (sqf v) P 364) (hi : i < 364) : 0 < (A i).toInt := by
  apply Classical.byContradiction
  intro h
  have e : 0 < cpN A (fun z => decide (z = A i)) 364 := (cpN_pos 364).mpr ⟨i, hi, decide_eq_true rfl⟩
  rw [hc] at e
  obtain ⟨j, hj, hq⟩ := (cpN_pos 364).mp e
  have := (sqf_i hv (show j < 729 by omega)).2 (by omega)
  rw [of_decide_eq_true hq] at this
  exact h this
theorem A_no (hv : OkV v) (hc : ∀ P : Int64 → Bool, cpN A P 364 = cpN (sqf v) P 364) (hi : i < 364) : A i ≠ -9223372036854775808 := by
  intro e
  have := all_pos hv hc hi
  rw [e] at this
  exact absurd this (by decide)
theorem nxf_b (hs : srt A 364) (hc : c < 364) : c < nxf A c ∧ nxf A c ≤ 364 := by
  unfold nxf
  rw [if_neg (by omega)]
  exact ⟨(srt_iff hs 364 (Nat.le_refl _) c hc).mp (Int64.le_refl _), cpN_le⟩
/-- what the model's next tells -/
theorem nx_law (hv : OkV v) (hs : srt A 364) (hc : ∀ P : Int64 → Bool, cpN A P 364 = cpN (sqf v) P 364) {cn : Nat} (h : NX v ab 729 le cn) (h0 : c = cpN A (fun z => decide (z ≤ ab)) 364) : if c = 364 then le = -9223372036854775808 else le = A c ∧ cn = 2 * (nxf A c - c) := by
  have ex : ∀ y : Int64, (∃ i : Nat, i < 364 ∧ A i = y) ↔ ∃ j : Nat, j < 364 ∧ sqf v j = y := by
    intro y
    have e := hc (fun z => decide (z = y))
    have p1 := cpN_pos (A := A) (P := fun z => decide (z = y)) 364
    have p2 := cpN_pos (A := sqf v) (P := fun z => decide (z = y)) 364
    rw [e] at p1
    simp only [decide_eq_true_eq] at p1 p2
    exact p1.symm.trans p2
  have fo : ∀ j : Nat, j < 729 → j ≠ 364 → ∃ j' : Nat, j' < 364 ∧ sqf v j' = sqf v j := by
    intro j h1 h2
    rcases Nat.lt_or_ge j 364 with q | q
    · exact ⟨j, q, rfl⟩
    · exact ⟨728 - j, by omega, sqf_n h1⟩
  have si := fun x => srt_iff (x := x) hs 364 (Nat.le_refl _)
  have cle : c ≤ 364 := h0 ▸ cpN_le
  by_cases q : c = 364
  · rw [if_pos q]
    rcases h with ⟨a1, -, -⟩ | ⟨-, a2, ⟨j, a3, a4, a5⟩, -, -⟩
    · exact a1
    · exfalso
      obtain ⟨j', b1, b2⟩ := fo j a3 a4
      obtain ⟨i, d1, d2⟩ := (ex le).mpr ⟨j', b1, b2.trans a5⟩
      have := (si ab i d1).mpr (by omega)
      rw [d2] at this
      exact absurd a2 (Int64.not_lt.mpr this)
  · rw [if_neg q]
    have c364 : c < 364 := by omega
    have hgt : ab < A c := Int64.not_le.mp (fun e => by have := (si ab c c364).mp e; omega)
    obtain ⟨jc, jc1, jc2⟩ := (ex (A c)).mp ⟨c, c364, rfl⟩
    rcases h with ⟨-, -, a3⟩ | ⟨a1, a2, ⟨j, a3, a4, a5⟩, a6, a7⟩
    · exfalso
      have := a3 jc (by omega) (by omega)
      rw [jc2] at this
      exact absurd hgt (Int64.not_lt.mpr this)
    · have l1 : le ≤ A c := by
        have := a6 jc (by omega) (by omega) (by rw [jc2]; exact hgt)
        rwa [jc2] at this
      obtain ⟨j', b1, b2⟩ := fo j a3 a4
      obtain ⟨i, d1, d2⟩ := (ex le).mpr ⟨j', b1, b2.trans a5⟩
      have hi : c ≤ i := by
        rcases Nat.lt_or_ge i c with e | e
        · have := (si ab i d1).mpr (by omega)
          rw [d2] at this
          exact absurd a2 (Int64.not_lt.mpr this)
        · exact e
      have l2 : A c ≤ le := by
        rw [← d2]
        by_cases e : c = i
        · rw [e]; exact Int64.le_refl _
        · exact hs c i (by omega) d1
      have e := Int64.le_antisymm l1 l2
      refine ⟨e, ?_⟩
      rw [a7, cE_sq, ← hc]
      have ad := cpN_add (A := A) (n := 364) (P := fun z => decide (z ≤ ab)) (Q := fun z => decide (z = le)) (R := fun z => decide (z ≤ A c)) (by
        intro i hi
        simp only [decide_eq_true_eq]
        by_cases f1 : A i ≤ ab
        · rw [if_pos (Int64.le_trans f1 (Int64.le_of_lt hgt)), if_pos f1, if_neg (show ¬ A i = le from fun g => absurd a2 (Int64.not_lt.mpr (g ▸ f1)))]
        · have ci : c ≤ i := by
            rcases Nat.lt_or_ge i c with g | g
            · exact absurd ((si ab i hi).mpr (by omega)) f1
            · exact g
          have f2 : A c ≤ A i := by
            by_cases g : c = i
            · rw [g]; exact Int64.le_refl _
            · exact hs c i (by omega) hi
          rw [if_neg f1, e]
          by_cases f3 : A i = A c
          · rw [if_pos f3, if_pos (f3 ▸ Int64.le_refl _)]
          · rw [if_neg f3, if_neg (fun g => f3 (Int64.le_antisymm g f2))])
      unfold nxf
      rw [if_neg q]
      omega
theorem X2_nextV (hf : 730 ≤ fu) (hv : OkV v) (hw : sl w 6 = v) (hs : srt A 364) (hc : ∀ P : Int64 → Bool, cpN A P 364 = cpN (sqf v) P 364) (h0 : c = cpN A (fun z => decide (z ≤ ab)) 364) : ∃ (le : Int64) (cn : Nat), f_X2_next fu ev (mem ev w) (ev.1 + 966) 6 ab = some (le, mem ev (wI w 966 31 (nI cn))) ∧ if c = 364 then le = -9223372036854775808 else le = A c ∧ cn = 2 * (nxf A c - c) := by
  obtain ⟨le, cn, k1, k2⟩ := nx_l (ev := ev) (fu := fu) (ab := ab) hv hw 729 fu 0 (-9223372036854775808) 0 (by decide) (by omega) (Or.inl ⟨rfl, rfl, fun j hj => by omega⟩)
  refine ⟨le, cn, ?_, nx_law hv hs hc k1 h0⟩
  rw [← k2]
  simp only [f_X2_next, b_X2_next_0, mp31, Option.bind_some]
  rfl
/-! the class -/
theorem be_l (hs : srt A 364) (hA : ∀ i : Nat, i < 364 → w.1 33 i = A i) (hc : c < 364) : ∀ (d g t : Nat), t + d = nxf A c → c ≤ t → d < g → L_X0_behind_2 fu ev g (mem ev w) ev.1 (nI c) (nI t) = some (nI (nxf A c), mem ev w) := by
  have hb := nxf_b hs hc
  have si := srt_iff (x := A c) hs 364 (Nat.le_refl _)
  have hn : nxf A c = cpN A (fun z => decide (z ≤ A c)) 364 := by unfold nxf; rw [if_neg (by omega)]
  rw [← hn] at si
  intro d
  induction d with
  | zero =>
    intro g t ht hct hg
    obtain ⟨g, rfl⟩ : ∃ g', g = g' + 1 := ⟨g - 1, by omega⟩
    obtain rfl : t = nxf A c := by omega
    show b_X0_behind_2 _ fu ev _ _ _ _ = _
    unfold b_X0_behind_2
    by_cases e : nxf A c = 364
    · rw [e, if_pos (by decide)]
      rfl
    · rw [if_neg (show ¬ (364 : Int32) ≤ nI (nxf A c) from nI_ge (b := 364) (by omega) (by decide))]
      have ne : ¬ A (nxf A c) = A c := fun q => by have := (si (nxf A c) (by omega)).mp (q ▸ Int64.le_refl _); omega
      simp only [b_X0_behind_9, b_X0_behind_31, xf11, r33 (show nxf A c < 364 by omega), r33 hc, hA _ (show nxf A c < 364 by omega), hA c hc, ne, if_false, Option.bind_some]
  | succ d ih =>
    intro g t ht hct hg
    obtain ⟨g, rfl⟩ : ∃ g', g = g' + 1 := ⟨g - 1, by omega⟩
    show b_X0_behind_2 _ fu ev _ _ _ _ = _
    unfold b_X0_behind_2
    rw [if_neg (show ¬ (364 : Int32) ≤ nI t from nI_ge (b := 364) (by omega) (by decide))]
    have eq : A t = A c := by
      refine Int64.le_antisymm ((si t (by omega)).mpr (by omega)) ?_
      by_cases e : c = t
      · rw [e]; exact Int64.le_refl _
      · exact hs c t (by omega) (by omega)
    simp only [b_X0_behind_9, b_X0_behind_25, xf11, r33 (show t < 364 by omega), r33 hc, hA t (show t < 364 by omega), hA c hc, eq, if_true, Option.bind_some, nI_1]
    exact ih g (t + 1) (by omega) (by omega) (by omega)
theorem X0_behindV (hf : 400 ≤ fu) (hs : srt A 364) (hA : ∀ i : Nat, i < 364 → w.1 33 i = A i) (hc : c < 364) : f_X0_behind fu ev (mem ev w) ev.1 (nI c) = some (nI (nxf A c), mem ev w) := by
  have hb := nxf_b hs hc
  exact be_l (ev := ev) (fu := fu) hs hA hc (nxf A c - c) fu c (by omega) (Nat.le_refl _) (by omega)
theorem sh_62 (hf : 400 ≤ fu) (hs : srt A 364) (hA : ∀ i : Nat, i < 364 → w.1 33 i = A i) (hc : c ≤ 364) : b_X0_shell_62 fu ev (mem ev w) ev.1 x3 (nI c) = some (shR A x3 c, mem ev w) := by
  unfold b_X0_shell_62 shR
  by_cases e : c = 364
  · subst e
    rfl
  · have e2 : ¬ nI c = (364 : Int32) := nI_ne (b := 364) (by omega) (by decide) e
    rw [if_neg e, if_neg e2]
    by_cases e3 : x3 = 0
    · simp only [b_X0_shell_73, b_X0_shell_77, b_X0_shell_99, e3, xf11, r33 (show c < 364 by omega), hA c (by omega), if_true, Option.bind_some]
    · simp only [b_X0_shell_73, b_X0_shell_88, b_X0_shell_99, e3, xis, X0_behindV hf hs hA (show c < 364 by omega), if_false, Option.bind_some, bd2]
theorem itN_364 : ∀ l : Nat, itN (nxf A) l 364 = 364 := by
  intro l
  induction l with
  | zero => rfl
  | succ l ih => exact ih
theorem sh_c (hf : 400 ≤ fu) (hs : srt A 364) (hA : ∀ i : Nat, i < 364 → w.1 33 i = A i) : ∀ (l g c : Nat), c ≤ 364 → l < 2 ^ 31 → l < g → L_X0_shell_35 fu ev g (mem ev w) ev.1 x3 (nI c) (nI l) = some (shR A x3 (itN (nxf A) l c), mem ev w) := by
  intro l
  induction l with
  | zero =>
    intro g c hc hl hg
    obtain ⟨g, rfl⟩ : ∃ g', g = g' + 1 := ⟨g - 1, by omega⟩
    show b_X0_shell_35 _ fu ev _ _ _ _ _ = _
    unfold b_X0_shell_35
    rw [if_pos (show nI 0 ≤ 0 by decide)]
    exact sh_62 hf hs hA hc
  | succ l ih =>
    intro g c hc hl hg
    obtain ⟨g, rfl⟩ : ∃ g', g = g' + 1 := ⟨g - 1, by omega⟩
    have e2 : nI (l + 1) + -1 = nI l := by rw [← Int32.sub_eq_add_neg, show (1 : Int32) = nI 1 from rfl, ← nI_add, Int32.add_sub_cancel]
    show b_X0_shell_35 _ fu ev _ _ _ _ _ = _
    unfold b_X0_shell_35
    rw [if_neg (nI_nle (by omega) hl)]
    by_cases e : c = 364
    · subst e
      unfold b_X0_shell_40
      rw [if_pos (by decide), itN_364]
      exact sh_62 hf hs hA (Nat.le_refl _)
    · unfold b_X0_shell_40
      rw [if_neg (show ¬ (364 : Int32) ≤ nI c from nI_ge (b := 364) (by omega) (by decide))]
      simp only [b_X0_shell_48, xis, X0_behindV hf hs hA (show c < 364 by omega), Option.bind_some, bd2, e2]
      exact ih g (nxf A c) (nxf_b hs (by omega)).2 (by omega) (by omega)
/-! the model -/
theorem sh_m (hf : 730 ≤ fu) (hv : OkV v) (hs : srt A 364) (hc : ∀ P : Int64 → Bool, cpN A P 364 = cpN (sqf v) P 364) (hk : k + 1 < 2 ^ 31) : ∀ (d g i c : Nat) (ab : Int64) (w : Wd), i + d = k → d + 2 < g → sl w 6 = v → ab ≠ -9223372036854775808 → c = cpN A (fun z => decide (z ≤ ab)) 364 → ∃ w' : Wd, Sq w w' ∧ L_X2_shell_38 fu ev g (mem ev w) (ev.1 + 966) (nI k) x3 ab (nI i) = some (shR A x3 (itN (nxf A) d c), mem ev w') := by
  intro d
  induction d with
  | zero =>
    intro g i c ab w hi hg hw hab h0
    obtain ⟨g, rfl⟩ : ∃ g', g = g' + 2 := ⟨g - 2, by omega⟩
    obtain rfl : i = k := by omega
    obtain ⟨le, cn, k1, k2⟩ := X2_nextV (ev := ev) (fu := fu) hf hv hw hs hc h0
    have cle : c ≤ 364 := h0 ▸ cpN_le
    refine ⟨wI w 966 31 (nI cn), ⟨fun _ _ _ => rfl, fun q j hq => ?_, rfl⟩, ?_⟩
    · show (if q = 966 ∧ j = 31 then _ else w.2.1 q j) = _
      rw [if_neg]
      rintro ⟨rfl, rfl⟩
      exact hq (by unfold sI; omega)
    · have hd : L_X2_shell_38 fu ev (g + 2) (mem ev w) (ev.1 + 966) (nI i) x3 ab (nI i) = b_X2_shell_69 fu ev (mem ev (wI w 966 31 (nI cn))) (ev.1 + 966) x3 le := by
        show b_X2_shell_38 _ fu ev _ _ _ _ _ _ = _
        unfold b_X2_shell_38 b_X2_shell_44 b_X2_shell_53
        rw [if_neg (fun e => by have := (nI_ltI (by omega) (by omega)).mp e; omega), if_neg hab, mis, Option.bind_some, k1]
        show L_X2_shell_38 fu ev (g + 1) _ _ _ _ _ _ = _
        rw [nI_1]
        show b_X2_shell_38 _ fu ev _ _ _ _ _ _ = _
        unfold b_X2_shell_38
        rw [if_pos (nI_lt (by omega) (by omega))]
      rw [hd]
      show _ = some (shR A x3 c, _)
      unfold b_X2_shell_69 shR
      by_cases e : c = 364
      · rw [if_pos e] at k2 ⊢
        rw [if_pos k2]
        rfl
      · rw [if_neg e] at k2 ⊢
        obtain ⟨k2, k3⟩ := k2
        rw [if_neg (by rw [k2]; exact A_no hv hc (by omega))]
        by_cases e3 : x3 = 0
        · simp only [b_X2_shell_83, b_X2_shell_87, b_X2_shell_97, e3, k2, if_true]
        · have hb := nxf_b hs (show c < 364 by omega)
          have e4 : nI (2 * (nxf A c - c)) = 2 * (nI (nxf A c) - nI c) := by
            rw [← pk_mul, show nI (nxf A c) = nI (nxf A c - c) + nI c from by rw [nI_add, show nxf A c - c + c = nxf A c by omega], Int32.add_sub_cancel]
            rfl
          simp only [b_X2_shell_83, b_X2_shell_93, b_X2_shell_97, e3, mi31, g31, k3, e4, if_false, Option.bind_some]
  | succ d ih =>
    intro g i c ab w hi hg hw hab h0
    obtain ⟨g, rfl⟩ : ∃ g', g = g' + 2 := ⟨g - 2, by omega⟩
    obtain ⟨le, cn, k1, k2⟩ := X2_nextV (ev := ev) (fu := fu) hf hv hw hs hc h0
    have cle : c ≤ 364 := h0 ▸ cpN_le
    have sq : Sq w (wI w 966 31 (nI cn)) := by
      refine ⟨fun _ _ _ => rfl, fun q j hq => ?_, rfl⟩
      show (if q = 966 ∧ j = 31 then _ else w.2.1 q j) = _
      rw [if_neg]
      rintro ⟨rfl, rfl⟩
      exact hq (by unfold sI; omega)
    have hd : L_X2_shell_38 fu ev (g + 2) (mem ev w) (ev.1 + 966) (nI k) x3 ab (nI i) = L_X2_shell_38 fu ev (g + 1) (mem ev (wI w 966 31 (nI cn))) (ev.1 + 966) (nI k) x3 le (nI (i + 1)) := by
      show b_X2_shell_38 _ fu ev _ _ _ _ _ _ = _
      unfold b_X2_shell_38 b_X2_shell_44 b_X2_shell_53
      rw [if_neg (fun e => by have := (nI_ltI (by omega) (by omega)).mp e; omega), if_neg hab, mis, Option.bind_some, k1]
      show L_X2_shell_38 fu ev (g + 1) _ _ _ _ _ _ = _
      rw [nI_1]
    rw [hd]
    by_cases e : c = 364
    · rw [if_pos e] at k2
      refine ⟨wI w 966 31 (nI cn), sq, ?_⟩
      rw [e, itN_364]
      show b_X2_shell_38 _ fu ev _ _ _ _ _ _ = _
      unfold b_X2_shell_38 b_X2_shell_44 b_X2_shell_69
      rw [if_pos k2, if_pos k2]
      split <;> rfl
    · rw [if_neg e] at k2
      obtain ⟨k2, k3⟩ := k2
      obtain ⟨w2, m1, m2⟩ := ih (g + 1) (i + 1) (nxf A c) le (wI w 966 31 (nI cn)) (by omega) (by omega) hw (by rw [k2]; exact A_no hv hc (by omega)) (by rw [k2]; unfold nxf; rw [if_neg e])
      exact ⟨w2, Sq_trans sq m1, m2⟩
theorem itN_end (hs : srt A 364) : ∀ l c : Nat, c ≤ 364 → 364 ≤ c + l → itN (nxf A) l c = 364 := by
  intro l
  induction l with
  | zero => intro c h1 h2; show c = 364; omega
  | succ l ih =>
    intro c h1 h2
    by_cases e : c = 364
    · rw [e]; exact itN_364 _
    · have b := nxf_b hs (show c < 364 by omega)
      exact ih (nxf A c) b.2 (by omega)
theorem sh_m2 (hf : 730 ≤ fu) (hv : OkV v) (hs : srt A 364) (hc : ∀ P : Int64 → Bool, cpN A P 364 = cpN (sqf v) P 364) (hk : k < 2 ^ 31) : ∀ (e g i c : Nat) (ab : Int64) (w : Wd), 364 ≤ c + e → i + e ≤ k → e + 2 < g → sl w 6 = v → ab ≠ -9223372036854775808 → c = cpN A (fun z => decide (z ≤ ab)) 364 → ∃ w' : Wd, Sq w w' ∧ L_X2_shell_38 fu ev g (mem ev w) (ev.1 + 966) (nI k) x3 ab (nI i) = some (-2, mem ev w') := by
  intro e
  induction e with
  | zero =>
    intro g i c ab w hce hi hg hw hab h0
    obtain ⟨g, rfl⟩ : ∃ g', g = g' + 2 := ⟨g - 2, by omega⟩
    obtain ⟨le, cn, k1, k2⟩ := X2_nextV (ev := ev) (fu := fu) hf hv hw hs hc h0
    have cle : c ≤ 364 := h0 ▸ cpN_le
    rw [if_pos (by omega)] at k2
    refine ⟨wI w 966 31 (nI cn), ?_, ?_⟩
    · refine ⟨fun _ _ _ => rfl, fun q j hq => ?_, rfl⟩
      show (if q = 966 ∧ j = 31 then _ else w.2.1 q j) = _
      rw [if_neg]
      rintro ⟨rfl, rfl⟩
      exact hq (by unfold sI; omega)
    · show b_X2_shell_38 _ fu ev _ _ _ _ _ _ = _
      unfold b_X2_shell_38 b_X2_shell_44 b_X2_shell_53
      rw [if_neg (fun e => by have := (nI_ltI (by omega) (by omega)).mp e; omega), if_neg hab, mis, Option.bind_some, k1]
      show b_X2_shell_38 _ fu ev _ _ _ _ _ _ = _
      unfold b_X2_shell_38 b_X2_shell_44 b_X2_shell_69
      rw [if_pos k2, if_pos k2]
      split <;> rfl
  | succ e ih =>
    intro g i c ab w hce hi hg hw hab h0
    obtain ⟨g, rfl⟩ : ∃ g', g = g' + 2 := ⟨g - 2, by omega⟩
    obtain ⟨le, cn, k1, k2⟩ := X2_nextV (ev := ev) (fu := fu) hf hv hw hs hc h0
    have cle : c ≤ 364 := h0 ▸ cpN_le
    have sq : Sq w (wI w 966 31 (nI cn)) := by
      refine ⟨fun _ _ _ => rfl, fun q j hq => ?_, rfl⟩
      show (if q = 966 ∧ j = 31 then _ else w.2.1 q j) = _
      rw [if_neg]
      rintro ⟨rfl, rfl⟩
      exact hq (by unfold sI; omega)
    have hd : L_X2_shell_38 fu ev (g + 2) (mem ev w) (ev.1 + 966) (nI k) x3 ab (nI i) = L_X2_shell_38 fu ev (g + 1) (mem ev (wI w 966 31 (nI cn))) (ev.1 + 966) (nI k) x3 le (nI (i + 1)) := by
      show b_X2_shell_38 _ fu ev _ _ _ _ _ _ = _
      unfold b_X2_shell_38 b_X2_shell_44 b_X2_shell_53
      rw [if_neg (fun e => by have := (nI_ltI (by omega) (by omega)).mp e; omega), if_neg hab, mis, Option.bind_some, k1]
      show L_X2_shell_38 fu ev (g + 1) _ _ _ _ _ _ = _
      rw [nI_1]
    rw [hd]
    by_cases e3 : c = 364
    · rw [if_pos e3] at k2
      refine ⟨wI w 966 31 (nI cn), sq, ?_⟩
      show b_X2_shell_38 _ fu ev _ _ _ _ _ _ = _
      unfold b_X2_shell_38 b_X2_shell_44 b_X2_shell_69
      rw [if_pos k2, if_pos k2]
      split <;> rfl
    · rw [if_neg e3] at k2
      obtain ⟨k2, k3⟩ := k2
      have b := nxf_b hs (show c < 364 by omega)
      obtain ⟨w2, m1, m2⟩ := ih (g + 1) (i + 1) (nxf A c) le (wI w 966 31 (nI cn)) (by omega) (by omega) (by omega) hw (by rw [k2]; exact A_no hv hc (by omega)) (by rw [k2]; unfold nxf; rw [if_neg e3])
      exact ⟨w2, Sq_trans sq m1, m2⟩
theorem op_shell (hf : ∀ N : Nat, N ≤ 10 ^ 46 → N + 428 ≤ fu) (hR : Rel ev w M Kp T) : ∃ (r : Int32) (w1 w2 : Wd), f_X0_shell fu ev (mem ev w) ev.1 u z x3 = some (r, mem ev w1) ∧ f_X2_shell fu ev (mem ev w1) (ev.1 + 966) u z x3 = some (r, mem ev w2) ∧ Sq w w2 := by
  obtain ⟨⟨C, F, q, rc⟩, -⟩ := hR
  obtain ⟨hM6, hM, hN, hc⟩ := rc.1
  by_cases a1 : isc u M = true
  · obtain ⟨c, hck, rfl⟩ := isc_of hM6 a1
    obtain ⟨he, hok⟩ := hc c hck
    obtain ⟨v, hv⟩ : ∃ v, v = sl w c := ⟨_, rfl⟩
    rw [← hv] at he hok
    by_cases a2 : z < 0
    · exact ⟨-1, w, w, by simp only [b_X0_shell_22, b_X0_shell_99, b_X0_shell_88, b_X0_shell_77, b_X0_shell_73, b_X0_shell_70, b_X0_shell_62, b_X0_shell_48, b_X0_shell_40, b_X0_shell_35, b_X0_shell_24, b_X0_shell_12, b_X0_shell_8, b_X0_shell_0, f_X0_shell, xis, X0_isCell hM, a1, a2, Option.bind_some, bd2, b01, if_true, if_false, not_true_eq_false, not_false_eq_true, Bool.false_eq_true, eq_self, Int32.reduceAdd, Int32.reduceMul, Int32.reduceLE, Int32.reduceLT, reduceIte, Int32.add_assoc, ie_0_1, ie_0_2, ie_0_3, ie_0_4, ie_0_5, ie_0_6, ie_0_7, ie_0_8, ie_0_9, ie_1_0, ie_1_2, ie_1_3, ie_1_4, ie_1_5, ie_1_6, ie_1_7, ie_1_8, ie_1_9, ie_2_0, ie_2_1, ie_2_3, ie_2_4, ie_2_5, ie_2_6, ie_2_7, ie_2_8, ie_2_9, ie_3_0, ie_3_1, ie_3_2, ie_3_4, ie_3_5, ie_3_6, ie_3_7, ie_3_8, ie_3_9, ie_4_0, ie_4_1, ie_4_2, ie_4_3, ie_4_5, ie_4_6, ie_4_7, ie_4_8, ie_4_9, ie_5_0, ie_5_1, ie_5_2, ie_5_3, ie_5_4, ie_5_6, ie_5_7, ie_5_8, ie_5_9, ie_6_0, ie_6_1, ie_6_2, ie_6_3, ie_6_4, ie_6_5, ie_6_7, ie_6_8, ie_6_9, ie_7_0, ie_7_1, ie_7_2, ie_7_3, ie_7_4, ie_7_5, ie_7_6, ie_7_8, ie_7_9, ie_8_0, ie_8_1, ie_8_2, ie_8_3, ie_8_4, ie_8_5, ie_8_6, ie_8_7, ie_8_9, ie_9_0, ie_9_1, ie_9_2, ie_9_3, ie_9_4, ie_9_5, ie_9_6, ie_9_7, ie_9_8, nI_1, nI_pred, setC_21, setS_21, wI_same, Int32.reduceSub], by simp only [b_X2_shell_22, b_X2_shell_97, b_X2_shell_93, b_X2_shell_87, b_X2_shell_83, b_X2_shell_78, b_X2_shell_69, b_X2_shell_53, b_X2_shell_44, b_X2_shell_38, b_X2_shell_24, b_X2_shell_12, b_X2_shell_8, b_X2_shell_0, f_X2_shell, mis, X2_isCell hN, a1, a2, Option.bind_some, bd2, b01, if_true, if_false, not_true_eq_false, not_false_eq_true, Bool.false_eq_true, eq_self, Int32.reduceAdd, Int32.reduceMul, Int32.reduceLE, Int32.reduceLT, reduceIte, Int32.add_assoc, ie_0_1, ie_0_2, ie_0_3, ie_0_4, ie_0_5, ie_0_6, ie_0_7, ie_0_8, ie_0_9, ie_1_0, ie_1_2, ie_1_3, ie_1_4, ie_1_5, ie_1_6, ie_1_7, ie_1_8, ie_1_9, ie_2_0, ie_2_1, ie_2_3, ie_2_4, ie_2_5, ie_2_6, ie_2_7, ie_2_8, ie_2_9, ie_3_0, ie_3_1, ie_3_2, ie_3_4, ie_3_5, ie_3_6, ie_3_7, ie_3_8, ie_3_9, ie_4_0, ie_4_1, ie_4_2, ie_4_3, ie_4_5, ie_4_6, ie_4_7, ie_4_8, ie_4_9, ie_5_0, ie_5_1, ie_5_2, ie_5_3, ie_5_4, ie_5_6, ie_5_7, ie_5_8, ie_5_9, ie_6_0, ie_6_1, ie_6_2, ie_6_3, ie_6_4, ie_6_5, ie_6_7, ie_6_8, ie_6_9, ie_7_0, ie_7_1, ie_7_2, ie_7_3, ie_7_4, ie_7_5, ie_7_6, ie_7_8, ie_7_9, ie_8_0, ie_8_1, ie_8_2, ie_8_3, ie_8_4, ie_8_5, ie_8_6, ie_8_7, ie_8_9, ie_9_0, ie_9_1, ie_9_2, ie_9_3, ie_9_4, ie_9_5, ie_9_6, ie_9_7, ie_9_8, nI_1, nI_pred, setC_21, setS_21, wI_same, Int32.reduceSub], Sq_refl w⟩
    · obtain ⟨k, hk, rfl⟩ := nI_of a2
      by_cases a3 : inJ x3.toInt64 0 1 = true
      · obtain ⟨N, hN46, hEn, hG, hEq⟩ := good_ends (OkV_fresh hok).1
        have hfu := hf N hN46
        have hfk : (2 : Nat) ^ 32 ≤ fu := by have := hf (2 ^ 32) (by decide); omega
        have mv : Mk v := hv ▸ Mk_sl
        have hokN := OkV_it N _ (OkV_fresh hok) hEn
        obtain ⟨w1, q1, e1⟩ := X0_sqV (ev := ev) (fu := fu) hfu (show c < 6 by omega) he hok hEn
        obtain ⟨s1, -, s3, s4⟩ := q1
        obtain ⟨A, hA⟩ : ∃ A, A = w1.1 33 := ⟨_, rfl⟩
        rw [← hA] at s3 s4
        have c1 := sh_c (ev := ev) (fu := fu) (w := w1) (x3 := x3) (by omega) s3 (fun i _ => by rw [hA]) k fu 0 (by decide) hk (by omega)
        rw [nI_0] at c1
        have t1 : sl w1 c = v := by rw [Sq_sl s1 (by omega), hv]
        have nm := X2_normals (ev := ev) (w := w1) (K := c) (K2 := 6) (fu := fu) (N := N) (by omega) (by decide) (by omega) (by rw [t1]; exact hEn) (by rw [t1]; exact hEq) (by omega)
        rw [t1] at nm
        have nm' : f_X2_normals fu ev (mem ev w1) (ev.1 + 966) (nI c) 6 = some (nI N, mem ev (setS w1 6 (itV N (sFresh v)))) := nm
        have hN1 : w1.2.1 966 2 = nI M := by rw [s1.2.1 966 2 (by unfold sI; omega)]; exact hN
        have z0 : 0 = cpN A (fun z => decide (z ≤ 0)) 364 := by
          apply Classical.byContradiction
          intro e
          obtain ⟨i, i1, i2⟩ := (cpN_pos 364).mp (show 0 < cpN A (fun z => decide (z ≤ 0)) 364 by omega)
          have p := all_pos hokN s4 i1
          have := Int64.le_iff_toInt_le.mp (of_decide_eq_true i2)
          rw [j0] at this
          omega
        by_cases hk1 : k + 1 < 2 ^ 31
        · obtain ⟨w2, m1, m2⟩ := sh_m (ev := ev) (fu := fu) (x3 := x3) (by omega) hokN s3 s4 hk1 k fu 0 0 0 (setS w1 6 (itV N (sFresh v))) (by omega) (by omega) (sl_mk (Mk_it (Mk_fresh mv) N)) (by decide) z0
          rw [nI_0] at m2
          exact ⟨shR A x3 (itN (nxf A) k 0), w1, w2, by simp only [b_X0_shell_22, b_X0_shell_99, b_X0_shell_88, b_X0_shell_77, b_X0_shell_73, b_X0_shell_70, b_X0_shell_62, b_X0_shell_48, b_X0_shell_40, b_X0_shell_35, b_X0_shell_24, b_X0_shell_12, b_X0_shell_8, b_X0_shell_0, f_X0_shell, xis, X0_isCell hM, X0_isIn, a1, a2, a3, e1, c1, Option.bind_some, bd2, b01, if_true, if_false, not_true_eq_false, not_false_eq_true, Bool.false_eq_true, eq_self, Int32.reduceAdd, Int32.reduceMul, Int32.reduceLE, Int32.reduceLT, reduceIte, Int32.add_assoc, ie_0_1, ie_0_2, ie_0_3, ie_0_4, ie_0_5, ie_0_6, ie_0_7, ie_0_8, ie_0_9, ie_1_0, ie_1_2, ie_1_3, ie_1_4, ie_1_5, ie_1_6, ie_1_7, ie_1_8, ie_1_9, ie_2_0, ie_2_1, ie_2_3, ie_2_4, ie_2_5, ie_2_6, ie_2_7, ie_2_8, ie_2_9, ie_3_0, ie_3_1, ie_3_2, ie_3_4, ie_3_5, ie_3_6, ie_3_7, ie_3_8, ie_3_9, ie_4_0, ie_4_1, ie_4_2, ie_4_3, ie_4_5, ie_4_6, ie_4_7, ie_4_8, ie_4_9, ie_5_0, ie_5_1, ie_5_2, ie_5_3, ie_5_4, ie_5_6, ie_5_7, ie_5_8, ie_5_9, ie_6_0, ie_6_1, ie_6_2, ie_6_3, ie_6_4, ie_6_5, ie_6_7, ie_6_8, ie_6_9, ie_7_0, ie_7_1, ie_7_2, ie_7_3, ie_7_4, ie_7_5, ie_7_6, ie_7_8, ie_7_9, ie_8_0, ie_8_1, ie_8_2, ie_8_3, ie_8_4, ie_8_5, ie_8_6, ie_8_7, ie_8_9, ie_9_0, ie_9_1, ie_9_2, ie_9_3, ie_9_4, ie_9_5, ie_9_6, ie_9_7, ie_9_8, nI_1, nI_pred, setC_21, setS_21, wI_same, Int32.reduceSub], by simp only [b_X2_shell_22, b_X2_shell_97, b_X2_shell_93, b_X2_shell_87, b_X2_shell_83, b_X2_shell_78, b_X2_shell_69, b_X2_shell_53, b_X2_shell_44, b_X2_shell_38, b_X2_shell_24, b_X2_shell_12, b_X2_shell_8, b_X2_shell_0, f_X2_shell, mis, X2_isCell hN1, X2_isIn, a1, a2, a3, nm', m2, Option.bind_some, bd2, b01, if_true, if_false, not_true_eq_false, not_false_eq_true, Bool.false_eq_true, eq_self, Int32.reduceAdd, Int32.reduceMul, Int32.reduceLE, Int32.reduceLT, reduceIte, Int32.add_assoc, ie_0_1, ie_0_2, ie_0_3, ie_0_4, ie_0_5, ie_0_6, ie_0_7, ie_0_8, ie_0_9, ie_1_0, ie_1_2, ie_1_3, ie_1_4, ie_1_5, ie_1_6, ie_1_7, ie_1_8, ie_1_9, ie_2_0, ie_2_1, ie_2_3, ie_2_4, ie_2_5, ie_2_6, ie_2_7, ie_2_8, ie_2_9, ie_3_0, ie_3_1, ie_3_2, ie_3_4, ie_3_5, ie_3_6, ie_3_7, ie_3_8, ie_3_9, ie_4_0, ie_4_1, ie_4_2, ie_4_3, ie_4_5, ie_4_6, ie_4_7, ie_4_8, ie_4_9, ie_5_0, ie_5_1, ie_5_2, ie_5_3, ie_5_4, ie_5_6, ie_5_7, ie_5_8, ie_5_9, ie_6_0, ie_6_1, ie_6_2, ie_6_3, ie_6_4, ie_6_5, ie_6_7, ie_6_8, ie_6_9, ie_7_0, ie_7_1, ie_7_2, ie_7_3, ie_7_4, ie_7_5, ie_7_6, ie_7_8, ie_7_9, ie_8_0, ie_8_1, ie_8_2, ie_8_3, ie_8_4, ie_8_5, ie_8_6, ie_8_7, ie_8_9, ie_9_0, ie_9_1, ie_9_2, ie_9_3, ie_9_4, ie_9_5, ie_9_6, ie_9_7, ie_9_8, nI_1, nI_pred, setC_21, setS_21, wI_same, Int32.reduceSub], Sq_trans s1 (Sq_trans (Sq_setS (Or.inl rfl)) m1)⟩
        · obtain ⟨w2, m1, m2⟩ := sh_m2 (ev := ev) (fu := fu) (x3 := x3) (by omega) hokN s3 s4 hk 364 fu 0 0 0 (setS w1 6 (itV N (sFresh v))) (by omega) (by omega) (by omega) (sl_mk (Mk_it (Mk_fresh mv) N)) (by decide) z0
          rw [nI_0] at m2
          have ie : shR A x3 (itN (nxf A) k 0) = -2 := by rw [itN_end s3 k 0 (by decide) (by omega)]; rfl
          rw [ie] at c1
          exact ⟨-2, w1, w2, by simp only [b_X0_shell_22, b_X0_shell_99, b_X0_shell_88, b_X0_shell_77, b_X0_shell_73, b_X0_shell_70, b_X0_shell_62, b_X0_shell_48, b_X0_shell_40, b_X0_shell_35, b_X0_shell_24, b_X0_shell_12, b_X0_shell_8, b_X0_shell_0, f_X0_shell, xis, X0_isCell hM, X0_isIn, a1, a2, a3, e1, c1, Option.bind_some, bd2, b01, if_true, if_false, not_true_eq_false, not_false_eq_true, Bool.false_eq_true, eq_self, Int32.reduceAdd, Int32.reduceMul, Int32.reduceLE, Int32.reduceLT, reduceIte, Int32.add_assoc, ie_0_1, ie_0_2, ie_0_3, ie_0_4, ie_0_5, ie_0_6, ie_0_7, ie_0_8, ie_0_9, ie_1_0, ie_1_2, ie_1_3, ie_1_4, ie_1_5, ie_1_6, ie_1_7, ie_1_8, ie_1_9, ie_2_0, ie_2_1, ie_2_3, ie_2_4, ie_2_5, ie_2_6, ie_2_7, ie_2_8, ie_2_9, ie_3_0, ie_3_1, ie_3_2, ie_3_4, ie_3_5, ie_3_6, ie_3_7, ie_3_8, ie_3_9, ie_4_0, ie_4_1, ie_4_2, ie_4_3, ie_4_5, ie_4_6, ie_4_7, ie_4_8, ie_4_9, ie_5_0, ie_5_1, ie_5_2, ie_5_3, ie_5_4, ie_5_6, ie_5_7, ie_5_8, ie_5_9, ie_6_0, ie_6_1, ie_6_2, ie_6_3, ie_6_4, ie_6_5, ie_6_7, ie_6_8, ie_6_9, ie_7_0, ie_7_1, ie_7_2, ie_7_3, ie_7_4, ie_7_5, ie_7_6, ie_7_8, ie_7_9, ie_8_0, ie_8_1, ie_8_2, ie_8_3, ie_8_4, ie_8_5, ie_8_6, ie_8_7, ie_8_9, ie_9_0, ie_9_1, ie_9_2, ie_9_3, ie_9_4, ie_9_5, ie_9_6, ie_9_7, ie_9_8, nI_1, nI_pred, setC_21, setS_21, wI_same, Int32.reduceSub], by simp only [b_X2_shell_22, b_X2_shell_97, b_X2_shell_93, b_X2_shell_87, b_X2_shell_83, b_X2_shell_78, b_X2_shell_69, b_X2_shell_53, b_X2_shell_44, b_X2_shell_38, b_X2_shell_24, b_X2_shell_12, b_X2_shell_8, b_X2_shell_0, f_X2_shell, mis, X2_isCell hN1, X2_isIn, a1, a2, a3, nm', m2, Option.bind_some, bd2, b01, if_true, if_false, not_true_eq_false, not_false_eq_true, Bool.false_eq_true, eq_self, Int32.reduceAdd, Int32.reduceMul, Int32.reduceLE, Int32.reduceLT, reduceIte, Int32.add_assoc, ie_0_1, ie_0_2, ie_0_3, ie_0_4, ie_0_5, ie_0_6, ie_0_7, ie_0_8, ie_0_9, ie_1_0, ie_1_2, ie_1_3, ie_1_4, ie_1_5, ie_1_6, ie_1_7, ie_1_8, ie_1_9, ie_2_0, ie_2_1, ie_2_3, ie_2_4, ie_2_5, ie_2_6, ie_2_7, ie_2_8, ie_2_9, ie_3_0, ie_3_1, ie_3_2, ie_3_4, ie_3_5, ie_3_6, ie_3_7, ie_3_8, ie_3_9, ie_4_0, ie_4_1, ie_4_2, ie_4_3, ie_4_5, ie_4_6, ie_4_7, ie_4_8, ie_4_9, ie_5_0, ie_5_1, ie_5_2, ie_5_3, ie_5_4, ie_5_6, ie_5_7, ie_5_8, ie_5_9, ie_6_0, ie_6_1, ie_6_2, ie_6_3, ie_6_4, ie_6_5, ie_6_7, ie_6_8, ie_6_9, ie_7_0, ie_7_1, ie_7_2, ie_7_3, ie_7_4, ie_7_5, ie_7_6, ie_7_8, ie_7_9, ie_8_0, ie_8_1, ie_8_2, ie_8_3, ie_8_4, ie_8_5, ie_8_6, ie_8_7, ie_8_9, ie_9_0, ie_9_1, ie_9_2, ie_9_3, ie_9_4, ie_9_5, ie_9_6, ie_9_7, ie_9_8, nI_1, nI_pred, setC_21, setS_21, wI_same, Int32.reduceSub], Sq_trans s1 (Sq_trans (Sq_setS (Or.inl rfl)) m1)⟩
      · exact ⟨-1, w, w, by simp only [b_X0_shell_22, b_X0_shell_99, b_X0_shell_88, b_X0_shell_77, b_X0_shell_73, b_X0_shell_70, b_X0_shell_62, b_X0_shell_48, b_X0_shell_40, b_X0_shell_35, b_X0_shell_24, b_X0_shell_12, b_X0_shell_8, b_X0_shell_0, f_X0_shell, xis, X0_isCell hM, X0_isIn, a1, a2, a3, Option.bind_some, bd2, b01, if_true, if_false, not_true_eq_false, not_false_eq_true, Bool.false_eq_true, eq_self, Int32.reduceAdd, Int32.reduceMul, Int32.reduceLE, Int32.reduceLT, reduceIte, Int32.add_assoc, ie_0_1, ie_0_2, ie_0_3, ie_0_4, ie_0_5, ie_0_6, ie_0_7, ie_0_8, ie_0_9, ie_1_0, ie_1_2, ie_1_3, ie_1_4, ie_1_5, ie_1_6, ie_1_7, ie_1_8, ie_1_9, ie_2_0, ie_2_1, ie_2_3, ie_2_4, ie_2_5, ie_2_6, ie_2_7, ie_2_8, ie_2_9, ie_3_0, ie_3_1, ie_3_2, ie_3_4, ie_3_5, ie_3_6, ie_3_7, ie_3_8, ie_3_9, ie_4_0, ie_4_1, ie_4_2, ie_4_3, ie_4_5, ie_4_6, ie_4_7, ie_4_8, ie_4_9, ie_5_0, ie_5_1, ie_5_2, ie_5_3, ie_5_4, ie_5_6, ie_5_7, ie_5_8, ie_5_9, ie_6_0, ie_6_1, ie_6_2, ie_6_3, ie_6_4, ie_6_5, ie_6_7, ie_6_8, ie_6_9, ie_7_0, ie_7_1, ie_7_2, ie_7_3, ie_7_4, ie_7_5, ie_7_6, ie_7_8, ie_7_9, ie_8_0, ie_8_1, ie_8_2, ie_8_3, ie_8_4, ie_8_5, ie_8_6, ie_8_7, ie_8_9, ie_9_0, ie_9_1, ie_9_2, ie_9_3, ie_9_4, ie_9_5, ie_9_6, ie_9_7, ie_9_8, nI_1, nI_pred, setC_21, setS_21, wI_same, Int32.reduceSub], by simp only [b_X2_shell_22, b_X2_shell_97, b_X2_shell_93, b_X2_shell_87, b_X2_shell_83, b_X2_shell_78, b_X2_shell_69, b_X2_shell_53, b_X2_shell_44, b_X2_shell_38, b_X2_shell_24, b_X2_shell_12, b_X2_shell_8, b_X2_shell_0, f_X2_shell, mis, X2_isCell hN, X2_isIn, a1, a2, a3, Option.bind_some, bd2, b01, if_true, if_false, not_true_eq_false, not_false_eq_true, Bool.false_eq_true, eq_self, Int32.reduceAdd, Int32.reduceMul, Int32.reduceLE, Int32.reduceLT, reduceIte, Int32.add_assoc, ie_0_1, ie_0_2, ie_0_3, ie_0_4, ie_0_5, ie_0_6, ie_0_7, ie_0_8, ie_0_9, ie_1_0, ie_1_2, ie_1_3, ie_1_4, ie_1_5, ie_1_6, ie_1_7, ie_1_8, ie_1_9, ie_2_0, ie_2_1, ie_2_3, ie_2_4, ie_2_5, ie_2_6, ie_2_7, ie_2_8, ie_2_9, ie_3_0, ie_3_1, ie_3_2, ie_3_4, ie_3_5, ie_3_6, ie_3_7, ie_3_8, ie_3_9, ie_4_0, ie_4_1, ie_4_2, ie_4_3, ie_4_5, ie_4_6, ie_4_7, ie_4_8, ie_4_9, ie_5_0, ie_5_1, ie_5_2, ie_5_3, ie_5_4, ie_5_6, ie_5_7, ie_5_8, ie_5_9, ie_6_0, ie_6_1, ie_6_2, ie_6_3, ie_6_4, ie_6_5, ie_6_7, ie_6_8, ie_6_9, ie_7_0, ie_7_1, ie_7_2, ie_7_3, ie_7_4, ie_7_5, ie_7_6, ie_7_8, ie_7_9, ie_8_0, ie_8_1, ie_8_2, ie_8_3, ie_8_4, ie_8_5, ie_8_6, ie_8_7, ie_8_9, ie_9_0, ie_9_1, ie_9_2, ie_9_3, ie_9_4, ie_9_5, ie_9_6, ie_9_7, ie_9_8, nI_1, nI_pred, setC_21, setS_21, wI_same, Int32.reduceSub], Sq_refl w⟩
  · exact ⟨-1, w, w, by simp only [b_X0_shell_22, b_X0_shell_99, b_X0_shell_88, b_X0_shell_77, b_X0_shell_73, b_X0_shell_70, b_X0_shell_62, b_X0_shell_48, b_X0_shell_40, b_X0_shell_35, b_X0_shell_24, b_X0_shell_12, b_X0_shell_8, b_X0_shell_0, f_X0_shell, xis, X0_isCell hM, a1, Option.bind_some, bd2, b01, if_true, if_false, not_true_eq_false, not_false_eq_true, Bool.false_eq_true, eq_self, Int32.reduceAdd, Int32.reduceMul, Int32.reduceLE, Int32.reduceLT, reduceIte, Int32.add_assoc, ie_0_1, ie_0_2, ie_0_3, ie_0_4, ie_0_5, ie_0_6, ie_0_7, ie_0_8, ie_0_9, ie_1_0, ie_1_2, ie_1_3, ie_1_4, ie_1_5, ie_1_6, ie_1_7, ie_1_8, ie_1_9, ie_2_0, ie_2_1, ie_2_3, ie_2_4, ie_2_5, ie_2_6, ie_2_7, ie_2_8, ie_2_9, ie_3_0, ie_3_1, ie_3_2, ie_3_4, ie_3_5, ie_3_6, ie_3_7, ie_3_8, ie_3_9, ie_4_0, ie_4_1, ie_4_2, ie_4_3, ie_4_5, ie_4_6, ie_4_7, ie_4_8, ie_4_9, ie_5_0, ie_5_1, ie_5_2, ie_5_3, ie_5_4, ie_5_6, ie_5_7, ie_5_8, ie_5_9, ie_6_0, ie_6_1, ie_6_2, ie_6_3, ie_6_4, ie_6_5, ie_6_7, ie_6_8, ie_6_9, ie_7_0, ie_7_1, ie_7_2, ie_7_3, ie_7_4, ie_7_5, ie_7_6, ie_7_8, ie_7_9, ie_8_0, ie_8_1, ie_8_2, ie_8_3, ie_8_4, ie_8_5, ie_8_6, ie_8_7, ie_8_9, ie_9_0, ie_9_1, ie_9_2, ie_9_3, ie_9_4, ie_9_5, ie_9_6, ie_9_7, ie_9_8, nI_1, nI_pred, setC_21, setS_21, wI_same, Int32.reduceSub], by simp only [b_X2_shell_22, b_X2_shell_97, b_X2_shell_93, b_X2_shell_87, b_X2_shell_83, b_X2_shell_78, b_X2_shell_69, b_X2_shell_53, b_X2_shell_44, b_X2_shell_38, b_X2_shell_24, b_X2_shell_12, b_X2_shell_8, b_X2_shell_0, f_X2_shell, mis, X2_isCell hN, a1, Option.bind_some, bd2, b01, if_true, if_false, not_true_eq_false, not_false_eq_true, Bool.false_eq_true, eq_self, Int32.reduceAdd, Int32.reduceMul, Int32.reduceLE, Int32.reduceLT, reduceIte, Int32.add_assoc, ie_0_1, ie_0_2, ie_0_3, ie_0_4, ie_0_5, ie_0_6, ie_0_7, ie_0_8, ie_0_9, ie_1_0, ie_1_2, ie_1_3, ie_1_4, ie_1_5, ie_1_6, ie_1_7, ie_1_8, ie_1_9, ie_2_0, ie_2_1, ie_2_3, ie_2_4, ie_2_5, ie_2_6, ie_2_7, ie_2_8, ie_2_9, ie_3_0, ie_3_1, ie_3_2, ie_3_4, ie_3_5, ie_3_6, ie_3_7, ie_3_8, ie_3_9, ie_4_0, ie_4_1, ie_4_2, ie_4_3, ie_4_5, ie_4_6, ie_4_7, ie_4_8, ie_4_9, ie_5_0, ie_5_1, ie_5_2, ie_5_3, ie_5_4, ie_5_6, ie_5_7, ie_5_8, ie_5_9, ie_6_0, ie_6_1, ie_6_2, ie_6_3, ie_6_4, ie_6_5, ie_6_7, ie_6_8, ie_6_9, ie_7_0, ie_7_1, ie_7_2, ie_7_3, ie_7_4, ie_7_5, ie_7_6, ie_7_8, ie_7_9, ie_8_0, ie_8_1, ie_8_2, ie_8_3, ie_8_4, ie_8_5, ie_8_6, ie_8_7, ie_8_9, ie_9_0, ie_9_1, ie_9_2, ie_9_3, ie_9_4, ie_9_5, ie_9_6, ie_9_7, ie_9_8, nI_1, nI_pred, setC_21, setS_21, wI_same, Int32.reduceSub], Sq_refl w⟩
end XSP
