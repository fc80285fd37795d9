/-! WHAT GOES OUT OF THE LOG -/
def Dlg (c s : Int32) (v : Nat) : Bool := (decide (c < 0) || decide (nI v / 10 = c)) && (decide (s = 0) || decide (nI v - nI v / 10 * 10 = s))
def flt (D : Nat → Bool) : Nat → Nat → (Nat → Nat) → Nat × (Nat → Nat)
  | 0, i, qs => (i, qs)
  | d + 1, i, qs => if D (qs i) = true then flt D d i (dl i qs) else flt D d (i + 1) qs
def FrT (t n' : Nat) (ad' : Nat → Nat) (w w' : Wd) : Prop := w'.1 = w.1 ∧ FrX [4] w w' ∧ w'.2.2.2.2 = w.2.2.2.2 ∧ (∀ a : Nat, a < szW w → a ≠ t → (∀ i x p : Option Nat, dyn w a ≠ nd i x p) → dyn w' a = dyn w a) ∧ ∀ j : Nat, j < n' → dyn w' (ad' j) = dyn w (ad' j)
section XFO
variable {ev : Ev} {w w' w'' : Wd} {fu k n n' t n0 : Nat} {c st x : Int32} {ad qs ad' : Nat → Nat} {s : Nat × (Nat → Nat)} {D : Nat → Bool}
theorem flt_le : ∀ (d i : Nat) (qs : Nat → Nat), i ≤ (flt D d i qs).1 ∧ (flt D d i qs).1 ≤ i + d := by
  intro d
  induction d with
  | zero => intro i qs; exact ⟨Nat.le_refl _, Nat.le_refl _⟩
  | succ d ih =>
    intro i qs
    unfold flt
    split
    · have := ih i (dl i qs)
      omega
    · have := ih (i + 1) qs
      omega
theorem flt_lt {B : Nat} : ∀ (d i : Nat) (qs : Nat → Nat), (∀ j : Nat, j < i + d → qs j < B) → ∀ j : Nat, j < (flt D d i qs).1 → (flt D d i qs).2 j < B := by
  intro d
  induction d with
  | zero => intro i qs h; exact h
  | succ d ih =>
    intro i qs h
    unfold flt
    split
    · refine ih i (dl i qs) (fun j hj => ?_)
      unfold dl
      split
      · exact h j (by omega)
      · exact h (j + 1) (by omega)
    · exact ih (i + 1) qs (fun j hj => h j (by omega))
theorem FrT_refl : FrT t n' ad' w w := ⟨rfl, FrX_refl, rfl, fun _ _ _ _ => rfl, fun _ _ => rfl⟩
theorem FrT_trans (h1 : FrT t n' ad' w w') (h2 : FrT t n' ad' w' w'') : FrT t n' ad' w w'' := by
  obtain ⟨a1, b1, c1, d1, e1⟩ := h1
  obtain ⟨a2, b2, c2, d2, e2⟩ := h2
  have hs : szW w' = szW w := congrArg Prod.fst c1
  exact ⟨a2.trans a1, FrX_trans b1 b2 (by decide) (by decide), c2.trans c1, fun a ha hn hd => (d2 a (by omega) hn (fun i x p z => hd i x p ((d1 a ha hn hd).symm.trans z))).trans (d1 a ha hn hd), fun j hj => (e2 j hj).trans (e1 j hj)⟩
theorem FrT_wD {o : Option Ob} (h : ∀ j : Nat, j < n' → ad' j ≠ t) : FrT t n' ad' w (wD w t o) := ⟨rfl, FrX_row rfl (fun _ _ _ _ => rfl) (fun _ _ _ _ => rfl), rfl, fun a _ hn _ => by rw [dyn_wD, if_neg hn], fun j hj => by rw [dyn_wD, if_neg (h j hj)]⟩
theorem forg_br {R : Mm → Int32 → Int32 → Int32 → Option Nat → Option (Int32 × Mm)} {σ : Mm} {v a : Nat} : (if c < 0 then b_X0_forgets_49 R fu ev σ c st x a (nI v) else b_X0_forgets_40 R fu ev σ c st x a (nI v)) = if Dlg c st v = true then b_X0_forgets_62 R fu ev σ c st x a else b_X0_forgets_72 R fu ev σ c st x a := by
  unfold b_X0_forgets_40 b_X0_forgets_49 b_X0_forgets_53 Dlg
  generalize nI v - nI v / 10 * 10 = m
  generalize nI v / 10 = q
  by_cases h1 : c < 0 <;> by_cases h2 : q = c <;> by_cases h3 : st = 0 <;> by_cases h4 : m = st <;> simp only [h1, h2, h3, h4, if_true, if_false, decide_true, decide_false, Bool.true_or, Bool.or_true, Bool.or_false, Bool.false_or, Bool.and_true, Bool.true_and, Bool.and_false, Bool.false_and, Bool.false_eq_true]
theorem Lx_forg (hE : EvOk ev) : ∀ (d f i : Nat) (w : Wd) (ad qs : Nat → Nat) (l : Option Nat) (x : Int32), LL ev w 28 (i + d) ad qs → i + d ≤ 30 → (∀ j : Nat, j < i + d → qs j < 60) → It ev w 28 t (i + d) ad i l → (∀ a b : Nat, a < i + d → b < n' → ad a ≠ ad' b) → (∀ b : Nat, b < n' → ad' b < szW w ∧ ad' b ≠ t) → d < f →
    ∃ w' : Wd, L_X0_forgets_11 fu ev f (mem ev w) c st x (some t) = some (x + nI (i + d - (flt (Dlg c st) d i qs).1), mem ev w') ∧ Ls ev w' (flt (Dlg c st) d i qs) n' ad' ∧ FrT t n' ad' w w' := by
  have hr : Hd 28 := Or.inl rfl
  intro d
  induction d with
  | zero =>
    intro f i w ad qs l x hL h30 h60 hT hne hb hf
    obtain ⟨g, rfl⟩ : ∃ g, f = g + 1 := ⟨f - 1, by omega⟩
    refine ⟨w, ?_, ⟨by show i ≤ 30; omega, ad, hL, hne⟩, FrT_refl⟩
    have hn := ll_hasNext (fu := fu) hr hL (by omega) hT
    rw [if_neg (by omega)] at hn
    have e0 : i + 0 - (flt (Dlg c st) 0 i qs).1 = 0 := by show i + 0 - i = 0; omega
    show b_X0_forgets_11 _ fu ev _ _ _ _ _ = _
    unfold b_X0_forgets_11
    rw [Option.bind_some, it_is hT.2.1 hT.1, Option.bind_some, hn, e0, nI_0, Int32.add_zero]
    rfl
  | succ d ih =>
    intro f i w ad qs l x hL h30 h60 hT hne hb hf
    obtain ⟨g, rfl⟩ : ∃ g, f = g + 1 := ⟨f - 1, by omega⟩
    have hn := ll_hasNext (fu := fu) hr hL (by omega) hT
    rw [if_pos (by omega)] at hn
    obtain ⟨wa, e1, La, Ta, hwa⟩ := ll_next (fu := fu) hr hL (by omega) hT
    have h60i := h60 i (by omega)
    have Fa : FrT t n' ad' w wa := by rw [hwa]; exact FrT_wD (fun j hj => (hb j hj).2)
    have za : szW wa = szW w := by rw [hwa]; rfl
    have hd : b_X0_forgets_11 (L_X0_forgets_11 fu ev g) fu ev (mem ev w) c st x (some t) = if Dlg c st (qs i) = true then b_X0_forgets_62 (L_X0_forgets_11 fu ev g) fu ev (mem ev wa) c st x t else b_X0_forgets_72 (L_X0_forgets_11 fu ev g) fu ev (mem ev wa) c st x t := by
      unfold b_X0_forgets_11
      rw [Option.bind_some, it_is hT.2.1 hT.1, Option.bind_some, hn]
      show b_X0_forgets_21 (L_X0_forgets_11 fu ev g) fu ev (mem ev w) c st x t = _
      unfold b_X0_forgets_21
      rw [it_is hT.2.1 hT.1, Option.bind_some, e1]
      show (ckC (mem ev wa) (some (ia ev (qs i))) "java/lang/Integer").bind _ = _
      rw [ia_ck hE (by omega), Option.bind_some]
      show (isC (mem ev wa) (ia ev (qs i)) 15).bind _ = _
      rw [ia_is hE (by omega), Option.bind_some, ia_val hE (by omega)]
      exact forg_br
    by_cases hD : Dlg c st (qs i) = true
    · obtain ⟨wb, e2, Lb, Tb, b1, b2, b3, b4⟩ := ll_remove (fu := fu) (n := i + d) hr La (by omega) Ta
      have Fb : FrT t n' ad' wa wb := ⟨b1, FrX_row b1 (fun q j _ z => by rw [(b2 q (fun y => z (by subst y; exact List.mem_cons_self))).1]) (fun q j _ z => by rw [(b2 q (fun y => z (by subst y; decide))).2]), b4, fun a ha hn hd => b3 a ha hn (fun j hj z => hd _ _ _ (z ▸ La.2.2.2.2.1 j hj)), fun j hj => b3 _ (by rw [za]; exact (hb j hj).1) (hb j hj).2 (fun m hm z => hne m j hm hj z.symm)⟩
      have zb : szW wb = szW wa := congrArg Prod.fst b4
      obtain ⟨w', e3, r3, f3⟩ := ih g i wb (dl i ad) (dl i qs) none (x + 1) Lb (by omega) (fun j hj => by unfold dl; split; exact h60 j (by omega); exact h60 (j + 1) (by omega)) Tb (fun a b ha hb' => by unfold dl; split; exact hne a b (by omega) hb'; exact hne (a + 1) b (by omega) hb') (fun b hb' => ⟨by rw [zb, za]; exact (hb b hb').1, (hb b hb').2⟩) (by omega)
      have e4 : flt (Dlg c st) (d + 1) i qs = flt (Dlg c st) d i (dl i qs) := by
        show (if Dlg c st (qs i) = true then _ else _) = _
        rw [if_pos hD]
      have le := flt_le (D := Dlg c st) d i (dl i qs)
      refine ⟨w', ?_, by rw [e4]; exact r3, FrT_trans (FrT_trans Fa Fb) f3⟩
      show b_X0_forgets_11 (L_X0_forgets_11 fu ev g) fu ev (mem ev w) c st x (some t) = _
      rw [hd, if_pos hD, e4]
      unfold b_X0_forgets_62
      rw [it_is Ta.2.1 Ta.1, Option.bind_some, e2]
      show L_X0_forgets_11 fu ev g (mem ev wb) c st (x + 1) (some t) = _
      rw [e3, Int32.add_assoc, show (1 : Int32) = nI 1 from rfl, nI_add, show i + (d + 1) - (flt (Dlg c st) d i (dl i qs)).1 = 1 + (i + d - (flt (Dlg c st) d i (dl i qs)).1) by omega]
    · have e5 : i + 1 + d = i + (d + 1) := by omega
      obtain ⟨w', e3, r3, f3⟩ := ih g (i + 1) wa ad qs (some (ad i)) x (by rw [e5]; exact La) (by omega) (by rw [e5]; exact h60) (by rw [e5]; exact Ta) (by rw [e5]; exact hne) (fun b hb' => ⟨by rw [za]; exact (hb b hb').1, (hb b hb').2⟩) (by omega)
      have e4 : flt (Dlg c st) (d + 1) i qs = flt (Dlg c st) d (i + 1) qs := by
        show (if Dlg c st (qs i) = true then _ else _) = _
        rw [if_neg hD]
      refine ⟨w', ?_, by rw [e4]; exact r3, FrT_trans Fa f3⟩
      show b_X0_forgets_11 (L_X0_forgets_11 fu ev g) fu ev (mem ev w) c st x (some t) = _
      rw [hd, if_neg hD, e4, ← e5]
      exact e3
theorem cx_forgets (hE : EvOk ev) (hf : 1001 ≤ fu) (h : Ls ev w s n' ad') (h60 : ∀ j : Nat, j < s.1 → s.2 j < 60) (hb : ∀ j : Nat, j < n' → ad' j < szW w) (h0 : ev.1 + 984 ≤ szW w) (h1 : szW w + 1 ≤ ev.2.1) (h2 : slW w + 5 ≤ ev.2.2.1) :
    ∃ w' : Wd, f_X0_forgets fu ev (mem ev w) ev.1 c st = some (nI (s.1 - (flt (Dlg c st) s.1 0 s.2).1), mem ev w') ∧ Ls ev w' (flt (Dlg c st) s.1 0 s.2) n' ad' ∧ w'.1 = w.1 ∧ FrX [4] w w' ∧ FrK n' ad' w w' ∧ szW w' = szW w + 1 ∧ slW w' = slW w + 5 := by
  have hr : Hd 28 := Or.inl rfl
  obtain ⟨h30, ad, hL, hne⟩ := h
  obtain ⟨wa, e1, La, Ta, hwa⟩ := ll_iter (fu := fu) hr hf hL h0 h1 h2
  have za : szW wa = szW w + 1 := by rw [hwa]; rfl
  have ya : slW wa = slW w + 5 := by rw [hwa]; rfl
  have Fa : FrX [4] w wa := by rw [hwa]; exact FrX_row rfl (fun _ _ _ _ => rfl) (fun _ _ _ _ => rfl)
  have da : ∀ a : Nat, a < szW w → dyn wa a = dyn w a := fun a ha => by rw [hwa, dyn_nw, if_neg (by omega)]
  have e0 : 0 + s.1 = s.1 := Nat.zero_add _
  obtain ⟨w', e2, L2, f1, f2, f3, f4, f5⟩ := Lx_forg (c := c) (st := st) (fu := fu) (t := szW w) (n' := n') (ad' := ad') hE s.1 fu 0 wa ad s.2 none 0 (by rw [e0]; exact La) (by omega) (by rw [e0]; exact h60) (by rw [e0]; exact Ta) (by rw [e0]; exact hne) (fun b hb' => by have := hb b hb'; omega) (by omega)
  have zz : szW w' = szW wa := congrArg Prod.fst f3
  have yy : slW w' = slW wa := congrArg Prod.snd f3
  rw [Int32.zero_add, e0] at e2
  refine ⟨w', ?_, L2, f1.trans (by rw [hwa]; rfl), FrX_trans Fa f2 (by decide) (by decide), ⟨⟨by omega, fun a ha hn => ?_⟩, fun j hj => ?_⟩, by omega, by omega⟩
  · unfold f_X0_forgets b_X0_forgets_0
    rw [xf9, Option.bind_some, Option.bind_some, hIs hr, Option.bind_some, e1]
    exact e2
  · rw [f4 a (by omega) (by omega) (fun i x p z => hn i x p ((da a ha).symm.trans z)), da a ha]
  · rw [f5 j hj, da _ (hb j hj)]
theorem leav_br {R : Mm → Nat → Int32 → Int32 → Int32 → Int32 → Option (Int32 × Mm)} {v : Nat} {x3 : Int32} (hk : k < 30) (hv : w.2.1 969 k = nI v) : b_X2_leavesLog_14 R fu ev (mem ev w) (ev.1 + 966) c st x3 (nI k) = if Dlg c st v = true then b_X2_leavesLog_78 R fu ev (mem ev w) (ev.1 + 966) c st x3 (nI k) else b_X2_leavesLog_62 R fu ev (mem ev w) (ev.1 + 966) c st x3 (nI k) := by
  have ld := rdI (ev := ev) (w := w) (r := 969) (k := k) (N := 30) rfl (by decide) (by decide) hk
  rw [hv] at ld
  unfold b_X2_leavesLog_14 b_X2_leavesLog_18 b_X2_leavesLog_32 b_X2_leavesLog_36 b_X2_leavesLog_50 b_X2_leavesLog_54 b_X2_leavesLog_55 Dlg
  simp only [mf12, ld, Option.bind_some]
  generalize nI v - nI v / 10 * 10 = m
  generalize nI v / 10 = q
  by_cases h1 : c < 0 <;> by_cases h2 : q = c <;> by_cases h3 : st = 0 <;> by_cases h4 : m = st <;> simp only [h1, h2, h3, h4, if_true, if_false, decide_true, decide_false, Bool.true_or, Bool.or_true, Bool.or_false, Bool.false_or, Bool.and_true, Bool.true_and, Bool.and_false, Bool.false_and, Bool.false_eq_true, ie_1_0]
theorem Lm_forg : ∀ (d f i k : Nat) (w : Wd) (qs : Nat → Nat), k + d = n0 → i ≤ k → w.2.1 966 4 = nI n0 → n0 ≤ 30 → (∀ j : Nat, j < i → w.2.1 969 j = nI (qs j)) → (∀ j : Nat, j < d → w.2.1 969 (k + j) = nI (qs (i + j))) → d < f →
    ∃ w' : Wd, L_X2_leavesLog_5 fu ev f (mem ev w) (ev.1 + 966) c st (nI i) (nI k) = some (nI n0 - nI (flt (Dlg c st) d i qs).1, mem ev w') ∧ w'.2.1 966 4 = nI (flt (Dlg c st) d i qs).1 ∧ (∀ j : Nat, j < (flt (Dlg c st) d i qs).1 → w'.2.1 969 j = nI ((flt (Dlg c st) d i qs).2 j)) ∧ Ri (fun q i => q = 969 ∨ (q = 966 ∧ i = 4)) w w' := by
  intro d
  induction d with
  | zero =>
    intro f i k w qs hk hik h4 h30 hi hd hf
    obtain ⟨g, rfl⟩ : ∃ g, f = g + 1 := ⟨f - 1, by omega⟩
    refine ⟨wI w 966 4 (nI i), ?_, wI_same, fun j hj => ?_, Ri_trans Ri_wI Ri_refl (fun _ _ z => Or.inr z) (fun _ _ z => z)⟩
    · show b_X2_leavesLog_5 _ fu ev _ _ _ _ _ _ = _
      unfold b_X2_leavesLog_5
      rw [mi4, Option.bind_some, h4, if_pos (nI_le (by omega) (by omega))]
      unfold b_X2_leavesLog_84
      rw [mi4, Option.bind_some, h4, mp4, Option.bind_some]
      rfl
    · rw [wI_ne (by omega)]
      exact hi j hj
  | succ d ih =>
    intro f i k w qs hk hik h4 h30 hi hd hf
    obtain ⟨g, rfl⟩ : ∃ g, f = g + 1 := ⟨f - 1, by omega⟩
    have hv : w.2.1 969 k = nI (qs i) := hd 0 (by omega)
    have hh : L_X2_leavesLog_5 fu ev (g + 1) (mem ev w) (ev.1 + 966) c st (nI i) (nI k) = if Dlg c st (qs i) = true then b_X2_leavesLog_78 (L_X2_leavesLog_5 fu ev g) fu ev (mem ev w) (ev.1 + 966) c st (nI i) (nI k) else b_X2_leavesLog_62 (L_X2_leavesLog_5 fu ev g) fu ev (mem ev w) (ev.1 + 966) c st (nI i) (nI k) := by
      show b_X2_leavesLog_5 _ fu ev _ _ _ _ _ _ = _
      unfold b_X2_leavesLog_5
      rw [mi4, Option.bind_some, h4, if_neg (nI_ge (by omega) (by omega))]
      exact leav_br (by omega) hv
    by_cases hD : Dlg c st (qs i) = true
    · obtain ⟨w', e1, e2, e3, e4⟩ := ih g i (k + 1) w (dl i qs) (by omega) (by omega) h4 h30 (fun j hj => by unfold dl; rw [if_pos hj]; exact hi j hj) (fun j hj => by unfold dl; rw [if_neg (by omega), show k + 1 + j = k + (j + 1) by omega, hd (j + 1) (by omega), show i + j + 1 = i + (j + 1) by omega]) (by omega)
      have e5 : flt (Dlg c st) (d + 1) i qs = flt (Dlg c st) d i (dl i qs) := by
        show (if Dlg c st (qs i) = true then _ else _) = _
        rw [if_pos hD]
      rw [e5]
      refine ⟨w', ?_, e2, e3, e4⟩
      rw [hh, if_pos hD]
      unfold b_X2_leavesLog_78
      rw [nI_1]
      exact e1
    · obtain ⟨wa, hwa⟩ : ∃ wa, wa = wI w 969 i (nI (qs i)) := ⟨_, rfl⟩
      obtain ⟨w', e1, e2, e3, e4⟩ := ih g (i + 1) (k + 1) wa qs (by omega) (by omega) (by rw [hwa, wI_ne (by omega)]; exact h4) h30 (fun j hj => by
          rw [hwa]
          by_cases e : j = i
          · rw [e, wI_same]
          · rw [wI_ne (by omega)]
            exact hi j (by omega)) (fun j hj => by rw [hwa, wI_ne (by omega), show k + 1 + j = k + (j + 1) by omega, hd (j + 1) (by omega), show i + 1 + j = i + (j + 1) by omega]) (by omega)
      have e5 : flt (Dlg c st) (d + 1) i qs = flt (Dlg c st) d (i + 1) qs := by
        show (if Dlg c st (qs i) = true then _ else _) = _
        rw [if_neg hD]
      rw [e5]
      refine ⟨w', ?_, e2, e3, ?_⟩
      · rw [hh, if_neg hD]
        unfold b_X2_leavesLog_62
        rw [mf12, Option.bind_some, Option.bind_some, Option.bind_some, rdI (N := 30) rfl (by decide) (by decide) (by omega), hv, Option.bind_some, Option.bind_some, wrI (N := 30) rfl (by decide) (by decide) (by omega), Option.bind_some, ← hwa, nI_1]
        unfold b_X2_leavesLog_78
        rw [nI_1]
        exact e1
      · rw [hwa] at e4
        exact Ri_trans Ri_wI e4 (fun _ _ z => Or.inl z.1) (fun _ _ z => z)
theorem mx_forgets (hf : 40 ≤ fu) (h : LM w 4 969 s.1 s.2) : ∃ w' : Wd, f_X2_leavesLog fu ev (mem ev w) (ev.1 + 966) c st = some (nI (s.1 - (flt (Dlg c st) s.1 0 s.2).1), mem ev w') ∧ LM w' 4 969 (flt (Dlg c st) s.1 0 s.2).1 (flt (Dlg c st) s.1 0 s.2).2 ∧ w'.1 = w.1 ∧ w'.2.2 = w.2.2 ∧ FrX [14] w w' := by
  obtain ⟨h30, h4, hv⟩ := h
  obtain ⟨w', e1, e2, e3, e4⟩ := Lm_forg (c := c) (st := st) (fu := fu) (ev := ev) (n0 := s.1) s.1 fu 0 0 w s.2 (by omega) (by omega) h4 h30 (fun j hj => absurd hj (by omega)) (fun j hj => by rw [Nat.zero_add]; exact (hv j hj).1) (by omega)
  have le := flt_le (D := Dlg c st) s.1 0 s.2
  refine ⟨w', ?_, ⟨by omega, e2, fun i hi => ⟨e3 i hi, flt_lt s.1 0 s.2 (fun j hj => (hv j (by omega)).2) i hi⟩⟩, e4.1, e4.2.1, FrX_Ri e4 (fun q i z => Or.inr ?_)⟩
  · unfold f_X2_leavesLog b_X2_leavesLog_0
    rw [← nI_0, e1, pk_sub (by omega)]
  · rcases z with rfl | ⟨rfl, rfl⟩
    · exact List.mem_cons_self
    · decide
/-- forgetting, in both -/
theorem Rel_forg {M T : Nat} {K : Option Nat} (hE : EvOk ev) (hf : 1001 ≤ fu) (hR : Rel ev w M K T) (h1 : szW w + 1 ≤ ev.2.1) (h2 : slW w + 5 ≤ ev.2.2.1) : ∃ (r : Int32) (w1 w2 : Wd), f_X0_forgets fu ev (mem ev w) ev.1 c st = some (r, mem ev w1) ∧ f_X2_leavesLog fu ev (mem ev w1) (ev.1 + 966) c st = some (r, mem ev w2) ∧ Rel ev w2 M K T ∧ szW w2 = szW w + 1 ∧ slW w2 = slW w + 5 ∧ w2.1 = w.1 ∧ FrX [4, 14] w w2 := by
  have hR0 := hR
  obtain ⟨⟨C, F, p, r⟩, -, -, ⟨n, ad, qs, n', ad', qs', ⟨l1, l2⟩, l3, l4⟩, -, -, -, -, st', h984⟩ := hR0
  obtain ⟨w1, e1, e2, e3, e4, e5, e6, e7⟩ := cx_forgets (c := c) (st := st) (fu := fu) (s := (n, qs)) (w := w) hE hf ⟨l2.1, ad, l1, l4⟩ (fun j hj => (l2.2.2 j hj).2) (fun j hj => (l3.1.2.2.2.2.2.1 j hj).2) h984 h1 h2
  obtain ⟨w2, m1, m2, m3, m4, m5⟩ := mx_forgets (c := c) (st := st) (fu := fu) (ev := ev) (s := (n, qs)) (w := w1) (by omega) (LM4_x l2 e4 (by decide))
  have f : FrX [4, 14] w w2 := FrX_trans e4 m5 (by decide) (by decide)
  have fk : FrK n' ad' w w2 := FrK_trans e5 (FrK_eq (by rw [m4]))
  refine ⟨_, w1, w2, e1, m1, Rel_mk1 hR (FrX_mono f (by decide)) fk.1 ⟨C, F, p, RCK_x r f (by decide) (by decide) (by decide)⟩ (RLg_mk l3 f (by decide) (by decide) fk (Ls_x e2 m5 (by decide) (by rw [m4])) m2) (St_x st' f (by decide) (by decide)), by unfold szW at *; rw [m4]; omega, by unfold slW at *; rw [m4]; omega, m3.trans e3, f⟩
theorem op_forget {M T : Nat} {K : Option Nat} (hE : EvOk ev) (hf : 1001 ≤ fu) (hR : Rel ev w M K T) (h1 : szW w + 1 ≤ ev.2.1) (h2 : slW w + 5 ≤ ev.2.2.1) : ∃ (r : Int32) (w1 w2 : Wd), f_X0_forget fu ev (mem ev w) ev.1 x = some (r, mem ev w1) ∧ f_X2_forget fu ev (mem ev w1) (ev.1 + 966) x = some (r, mem ev w2) ∧ Rel ev w2 M K T ∧ szW w2 ≤ szW w + 1 ∧ slW w2 ≤ slW w + 5 ∧ w2.1 = w.1 := by
  by_cases a : inJ x.toInt64 0 8 = true
  · obtain ⟨r, w1, w2, e1, e2, e3, e4, e5, e6, e7⟩ := Rel_forg (c := -1) (st := x) hE hf hR h1 h2
    exact ⟨r, w1, w2, by simp only [b_X0_forget_22, b_X0_forget_21, b_X0_forget_12, b_X0_forget_0, f_X0_forget, X0_isIn, a, xis, e1, Option.bind_some, bd2, b01, if_true, if_false, not_true_eq_false, not_false_eq_true, Bool.false_eq_true, eq_self, Int32.reduceAdd, Int32.reduceMul, Int32.reduceLE, Int32.reduceLT, reduceIte, Int32.add_assoc, ie_0_1, ie_0_2, ie_0_3, ie_0_4, ie_0_5, ie_0_6, ie_0_7, ie_0_8, ie_0_9, ie_1_0, ie_1_2, ie_1_3, ie_1_4, ie_1_5, ie_1_6, ie_1_7, ie_1_8, ie_1_9, ie_2_0, ie_2_1, ie_2_3, ie_2_4, ie_2_5, ie_2_6, ie_2_7, ie_2_8, ie_2_9, ie_3_0, ie_3_1, ie_3_2, ie_3_4, ie_3_5, ie_3_6, ie_3_7, ie_3_8, ie_3_9, ie_4_0, ie_4_1, ie_4_2, ie_4_3, ie_4_5, ie_4_6, ie_4_7, ie_4_8, ie_4_9, ie_5_0, ie_5_1, ie_5_2, ie_5_3, ie_5_4, ie_5_6, ie_5_7, ie_5_8, ie_5_9, ie_6_0, ie_6_1, ie_6_2, ie_6_3, ie_6_4, ie_6_5, ie_6_7, ie_6_8, ie_6_9, ie_7_0, ie_7_1, ie_7_2, ie_7_3, ie_7_4, ie_7_5, ie_7_6, ie_7_8, ie_7_9, ie_8_0, ie_8_1, ie_8_2, ie_8_3, ie_8_4, ie_8_5, ie_8_6, ie_8_7, ie_8_9, ie_9_0, ie_9_1, ie_9_2, ie_9_3, ie_9_4, ie_9_5, ie_9_6, ie_9_7, ie_9_8, nI_1, nI_pred, setC_21, setS_21, wI_same, Int32.reduceSub], by simp only [b_X2_forget_22, b_X2_forget_21, b_X2_forget_12, b_X2_forget_0, f_X2_forget, X2_isIn, a, mis, e2, Option.bind_some, bd2, b01, if_true, if_false, not_true_eq_false, not_false_eq_true, Bool.false_eq_true, eq_self, Int32.reduceAdd, Int32.reduceMul, Int32.reduceLE, Int32.reduceLT, reduceIte, Int32.add_assoc, ie_0_1, ie_0_2, ie_0_3, ie_0_4, ie_0_5, ie_0_6, ie_0_7, ie_0_8, ie_0_9, ie_1_0, ie_1_2, ie_1_3, ie_1_4, ie_1_5, ie_1_6, ie_1_7, ie_1_8, ie_1_9, ie_2_0, ie_2_1, ie_2_3, ie_2_4, ie_2_5, ie_2_6, ie_2_7, ie_2_8, ie_2_9, ie_3_0, ie_3_1, ie_3_2, ie_3_4, ie_3_5, ie_3_6, ie_3_7, ie_3_8, ie_3_9, ie_4_0, ie_4_1, ie_4_2, ie_4_3, ie_4_5, ie_4_6, ie_4_7, ie_4_8, ie_4_9, ie_5_0, ie_5_1, ie_5_2, ie_5_3, ie_5_4, ie_5_6, ie_5_7, ie_5_8, ie_5_9, ie_6_0, ie_6_1, ie_6_2, ie_6_3, ie_6_4, ie_6_5, ie_6_7, ie_6_8, ie_6_9, ie_7_0, ie_7_1, ie_7_2, ie_7_3, ie_7_4, ie_7_5, ie_7_6, ie_7_8, ie_7_9, ie_8_0, ie_8_1, ie_8_2, ie_8_3, ie_8_4, ie_8_5, ie_8_6, ie_8_7, ie_8_9, ie_9_0, ie_9_1, ie_9_2, ie_9_3, ie_9_4, ie_9_5, ie_9_6, ie_9_7, ie_9_8, nI_1, nI_pred, setC_21, setS_21, wI_same, Int32.reduceSub], e3, by omega, by omega, e6⟩
  · exact ⟨-1, w, w, by simp only [b_X0_forget_22, b_X0_forget_21, b_X0_forget_12, b_X0_forget_0, f_X0_forget, X0_isIn, a, Option.bind_some, bd2, b01, if_true, if_false, not_true_eq_false, not_false_eq_true, Bool.false_eq_true, eq_self, Int32.reduceAdd, Int32.reduceMul, Int32.reduceLE, Int32.reduceLT, reduceIte, Int32.add_assoc, ie_0_1, ie_0_2, ie_0_3, ie_0_4, ie_0_5, ie_0_6, ie_0_7, ie_0_8, ie_0_9, ie_1_0, ie_1_2, ie_1_3, ie_1_4, ie_1_5, ie_1_6, ie_1_7, ie_1_8, ie_1_9, ie_2_0, ie_2_1, ie_2_3, ie_2_4, ie_2_5, ie_2_6, ie_2_7, ie_2_8, ie_2_9, ie_3_0, ie_3_1, ie_3_2, ie_3_4, ie_3_5, ie_3_6, ie_3_7, ie_3_8, ie_3_9, ie_4_0, ie_4_1, ie_4_2, ie_4_3, ie_4_5, ie_4_6, ie_4_7, ie_4_8, ie_4_9, ie_5_0, ie_5_1, ie_5_2, ie_5_3, ie_5_4, ie_5_6, ie_5_7, ie_5_8, ie_5_9, ie_6_0, ie_6_1, ie_6_2, ie_6_3, ie_6_4, ie_6_5, ie_6_7, ie_6_8, ie_6_9, ie_7_0, ie_7_1, ie_7_2, ie_7_3, ie_7_4, ie_7_5, ie_7_6, ie_7_8, ie_7_9, ie_8_0, ie_8_1, ie_8_2, ie_8_3, ie_8_4, ie_8_5, ie_8_6, ie_8_7, ie_8_9, ie_9_0, ie_9_1, ie_9_2, ie_9_3, ie_9_4, ie_9_5, ie_9_6, ie_9_7, ie_9_8, nI_1, nI_pred, setC_21, setS_21, wI_same, Int32.reduceSub], by simp only [b_X2_forget_22, b_X2_forget_21, b_X2_forget_12, b_X2_forget_0, f_X2_forget, X2_isIn, a, Option.bind_some, bd2, b01, if_true, if_false, not_true_eq_false, not_false_eq_true, Bool.false_eq_true, eq_self, Int32.reduceAdd, Int32.reduceMul, Int32.reduceLE, Int32.reduceLT, reduceIte, Int32.add_assoc, ie_0_1, ie_0_2, ie_0_3, ie_0_4, ie_0_5, ie_0_6, ie_0_7, ie_0_8, ie_0_9, ie_1_0, ie_1_2, ie_1_3, ie_1_4, ie_1_5, ie_1_6, ie_1_7, ie_1_8, ie_1_9, ie_2_0, ie_2_1, ie_2_3, ie_2_4, ie_2_5, ie_2_6, ie_2_7, ie_2_8, ie_2_9, ie_3_0, ie_3_1, ie_3_2, ie_3_4, ie_3_5, ie_3_6, ie_3_7, ie_3_8, ie_3_9, ie_4_0, ie_4_1, ie_4_2, ie_4_3, ie_4_5, ie_4_6, ie_4_7, ie_4_8, ie_4_9, ie_5_0, ie_5_1, ie_5_2, ie_5_3, ie_5_4, ie_5_6, ie_5_7, ie_5_8, ie_5_9, ie_6_0, ie_6_1, ie_6_2, ie_6_3, ie_6_4, ie_6_5, ie_6_7, ie_6_8, ie_6_9, ie_7_0, ie_7_1, ie_7_2, ie_7_3, ie_7_4, ie_7_5, ie_7_6, ie_7_8, ie_7_9, ie_8_0, ie_8_1, ie_8_2, ie_8_3, ie_8_4, ie_8_5, ie_8_6, ie_8_7, ie_8_9, ie_9_0, ie_9_1, ie_9_2, ie_9_3, ie_9_4, ie_9_5, ie_9_6, ie_9_7, ie_9_8, nI_1, nI_pred, setC_21, setS_21, wI_same, Int32.reduceSub], hR, by omega, by omega, rfl⟩
end XFO
