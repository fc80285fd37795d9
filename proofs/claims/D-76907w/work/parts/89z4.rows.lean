/-! OPERATIONS list, set, get -/
def isl (x : Int32) : Bool := inJ x.toInt64 0 3
/-- what is made later and is no row stays -/
def FrR (w w' : Wd) : Prop := szW w ≤ szW w' ∧ ∀ a : Nat, a < szW w → (∀ (n : Nat) (f : Nat → Int64), dyn w a ≠ some (.inl (1, n, .inr (.inl f)))) → dyn w' a = dyn w a
def nwL (w : Wd) (n : Nat) (f : Nat → Int64) : Wd := (w.1, w.2.1, w.2.2.1, va_up w.2.2.2.1 w.2.2.2.2.1 (some (.inl (1, n, .inr (.inl f)))), w.2.2.2.2.1 + 1, w.2.2.2.2.2 + n)
def bmW (w : Wd) (k j : Nat) : Wd := (w.1, w.2.1, w.2.2.1, w.2.2.2.1, w.2.2.2.2.1 + k, w.2.2.2.2.2 + j)
section XRW
variable {ev : Ev} {w w' : Wd} {fu k n M T a l i : Nat} {x y : Int32} {K : Option Nat} {z : Int64} {f : Nat → Int64}
theorem isl_of (h : isl x = true) : ∃ l : Nat, l < 4 ∧ x = nI l := by
  obtain ⟨N, -, h2, h3⟩ := inJ_nI (A := 0) (B := 3) (by decide) (by decide) (by decide) h
  exact ⟨N, by omega, h3⟩
theorem X0_isList {σ : Mm} : f_X0_isList fu ev σ x = some (if isl x = true then 1 else 0, σ) := by
  simp only [b_X0_isList_0, f_X0_isList, Option.bind_some, bd2, X0_isIn, zb_ite]
  rfl
theorem X2_isList {σ : Mm} : f_X2_isList fu ev σ x = some (if isl x = true then 1 else 0, σ) := by
  simp only [b_X2_isList_0, f_X2_isList, Option.bind_some, bd2, X2_isIn, zb_ite]
  rfl
theorem bump_mem {k j : Nat} : bump (mem ev w) k j = mem ev (bmW w k j) := rfl
theorem inW_le (h : szW w ≤ szW w') (ha : inW ev w a) : inW ev w' a := ha.elim Or.inl (fun y => Or.inr ⟨y.1, Nat.lt_of_lt_of_le y.2 h⟩)
theorem mem_R (hD : FrR w w') (ha : inW ev w a) (hn : ∀ (n : Nat) (f : Nat → Int64), (mem ev w).1 a ≠ some (.inl (1, n, .inr (.inl f)))) : (mem ev w').1 a = (mem ev w).1 a := by
  rcases ha with h | ⟨h1, h2⟩
  · rw [mem_old h, mem_old h]
  · rw [mem_dyn h1, mem_dyn h1]
    rw [mem_dyn h1] at hn
    exact hD.2 a h2 hn
theorem Rel_row (h : Rel ev w M K T) (f : FrX [8, 18] w w') (d : FrR w w') (r : RRw ev w') : Rel ev w' M K T := by
  obtain ⟨⟨C, F, p, rc⟩, h2, h3, h4, h5, h6, -, h8, h9, h10⟩ := h
  refine ⟨⟨C, F, p, RCK_x rc f (by decide) (by decide) (by decide)⟩, RT_x h2 f (by decide) (by decide), RIm_x h3 f (by decide) (by decide), RLg_x h4 f (by decide) (by decide) (by decide) (by decide) d.1 (fun a i x p ha hd => d.2 a ha (fun n f z => by rw [hd] at z; unfold nd at z; cases z)), RQa_x h5 f (by decide) (by decide), RQb_x h6 f (by decide) (by decide), r, ?_, St_x h9 f (by decide) (by decide), Nat.le_trans h10 d.1⟩
  refine ⟨?_, BS_x h8.2 f (by decide)⟩
  obtain ⟨⟨a, b, L, g, tl, p1, p2, p3, p4, p5, p6, p7, p8⟩, -⟩ := h8
  refine ⟨a, b, L, g, tl, (f.2.1 0 19 (by decide) (by decide)).trans p1, (mem_R d p4 (fun n f z => ?_)).trans p2, (mem_R d p5 (fun n f z => ?_)).trans p3, inW_le d.1 p4, inW_le d.1 p5, p6, (f.1 966 26 (by decide) (by decide)).trans p7, fun i hi => ?_⟩
  · rw [p2] at z
    cases z
  · rw [p3] at z
    cases z
  · rw [f.1 978 i (by show (19 : Nat) ≠ 0; decide) (by show (19 : Nat) ∉ _; decide)]
    exact p8 i hi
theorem FrX_bm {k j : Nat} : FrX [] w (bmW w k j) := FrX_row rfl (fun _ _ _ _ => rfl) (fun _ _ _ _ => rfl)
theorem FrR_bm {k j : Nat} : FrR w (bmW w k j) := ⟨Nat.le_add_right _ _, fun _ _ _ => rfl⟩
theorem RRw_bm {k j : Nat} (h : RRw ev w) : RRw ev (bmW w k j) := RRw_x h FrX_bm (by decide) (by decide) ⟨Nat.le_add_right _ _, fun _ _ _ => rfl⟩
theorem Rel_bm {k j : Nat} (h : Rel ev w M K T) : Rel ev (bmW w k j) M K T := Rel_row h (FrX_mono FrX_bm (by decide)) FrR_bm (RRw_bm h.2.2.2.2.2.2.1)
theorem cr_bd {c : Nat} (h : c < 118) : 2 ≤ cr c ∧ cr c + 7 < 966 := by unfold cr; split <;> omega
theorem cv_wJ {c q j : Nat} (hc : c < 118) (hq : 966 ≤ q) : cv (wJ w q j z) c = cv w c := by
  have := cr_bd hc
  funext i
  simp only [cv]
  rw [wJ_row (by omega), wJ_row (by omega), wJ_row (by omega), wJ_row (by omega), wJ_row (by omega)]
theorem sl_wJ {K q j : Nat} (hq : q ≠ 967 ∧ q ≠ 968) : sl (wJ w q j z) K = sl w K := by
  funext i
  unfold sl
  rw [wJ_row (fun e => hq.1 e.symm), wJ_row (fun e => hq.2 e.symm)]
theorem FrX_wJ {j : Nat} : FrX [18] w (wJ w 983 j z) := ⟨fun _ _ _ _ => rfl, fun _ _ _ _ => rfl, fun q hq y i => (by rcases hq with rfl | rfl; exact absurd (by decide) y; exact congrFun (wJ_row (by decide)) i), ⟨fun _ k hk => cv_wJ (by omega) (by decide), fun _ k _ => sl_wJ (by decide)⟩, ⟨fun _ k hk => cv_wJ (by omega) (by decide), fun _ k _ => sl_wJ (by decide)⟩, fun _ k hk => ⟨cv_wJ (by omega) (by decide), sl_wJ (by decide)⟩⟩
theorem rdJ {r N : Nat} (hd : ds r = (1, 1, N)) (hr : r < 984) (hN : N < 1000) (h : k < N) : aldJ (mem ev w) (ev.1 + r) (nI k) = some (w.1 r k) := by
  rw [ldJ hd hr (vp_in_nI h (by omega)), nI_clamp (by omega)]
theorem wrJ {r N : Nat} (hd : ds r = (1, 1, N)) (hr : r < 984) (hN : N < 1000) (h : k < N) : astJ ev (mem ev w) (ev.1 + r) (nI k) z = some (mem ev (wJ w r k z)) := by
  rw [stJ hd hr (vp_in_nI h (by omega)), nI_clamp (by omega)]
theorem d_nwA (h : ev.1 + 984 ≤ szW w) (hn : n ≤ 16) (h1 : szW w + 1 ≤ ev.2.1) (h2 : slW w + n ≤ ev.2.2.1) : nwA ev (mem ev w) 1 (nI n) 8 (.inr (.inl f)) = some (szW w, mem ev (nwL w n f)) := by
  unfold nwA
  have e1 : (mem ev w).2.1 = szW w := rfl
  have e2 : (mem ev w).2.2 = slW w := rfl
  rw [e1, e2, nI_clamp (by omega), if_pos ⟨nI_pos (by omega), by omega, h1, h2⟩]
  refine congrArg (fun q => some (szW w, q)) ?_
  refine Prod.ext ?_ rfl
  have := congrArg Prod.fst (mem_upd (ev := ev) (w := w) (a := szW w) (o := some (.inl (1, n, .inr (.inl f)))) h)
  exact this
theorem d_ldJ (h : ev.1 + 984 ≤ a) (hd : dyn w a = some (.inl (1, n, .inr (.inl f)))) (hk : k < n) (hn : n < 2 ^ 31) : aldJ (mem ev w) a (nI k) = some (f k) := by
  unfold aldJ
  rw [mem_dyn h]
  unfold dyn at hd
  rw [hd]
  show (if 1 = 1 ∧ ¬ (nI k < 0 ∨ n ≤ (nI k).toNatClampNeg) then some (f (nI k).toNatClampNeg) else none) = _
  rw [if_pos ⟨rfl, nI_in hk hn⟩, nI_clamp (by omega)]
theorem d_stJ (h : ev.1 + 984 ≤ a) (hd : dyn w a = some (.inl (1, n, .inr (.inl f)))) (hk : k < n) (hn : n < 2 ^ 31) : astJ ev (mem ev w) a (nI k) z = some (mem ev (wD w a (some (.inl (1, n, .inr (.inl (vp_updL f k z))))))) := by
  unfold astJ
  rw [mem_dyn h]
  unfold dyn at hd
  rw [hd]
  show (if 1 = 1 ∧ ev.1 ≤ a ∧ ¬ (nI k < 0 ∨ n ≤ (nI k).toNatClampNeg) then some (va_up (mem ev w).1 a (some (.inl (1, n, .inr (.inl (vp_updL f (nI k).toNatClampNeg z))))), (mem ev w).2) else none) = _
  rw [if_pos ⟨rfl, by omega, nI_in hk hn⟩, nI_clamp (by omega), mem_upd h]
theorem d_len (h : ev.1 + 984 ≤ a) (hd : dyn w a = some (.inl (1, n, .inr (.inl f)))) : alen (mem ev w) a = some (nI n) := by
  unfold alen
  rw [mem_dyn h]
  unfold dyn at hd
  rw [hd]
  rfl
theorem xrow (h : l < 4) : aldA 6 (mem ev w) (ev.1 + 41) (nI l) = some (w.2.2.1 41 l) := by
  have e := ldA (ev := ev) (w := w) (r := 41) (κ := 6) (n := 4) rfl (by decide) (i := nI l) (vp_in_nI h (by omega))
  rw [nI_clamp (by omega)] at e
  rw [e]
  rfl
/-- the model's row becomes nought -/
theorem Lm_list (hl : l < 4) : ∀ (d f i : Nat) (w : Wd), i + d = 16 → d < f → ∃ w' : Wd, L_X2_list_31 fu ev f (mem ev w) (ev.1 + 966) (nI l) (nI i) = some (1, mem ev w') ∧ (∀ j : Nat, w'.1 983 j = if 16 * l + i ≤ j ∧ j < 16 * l + 16 then 0 else w.1 983 j) ∧ w'.2 = w.2 ∧ FrX [18] w w' := by
  intro d
  induction d with
  | zero =>
    intro f i w hi hf
    obtain ⟨g, rfl⟩ : ∃ g, f = g + 1 := ⟨f - 1, by omega⟩
    obtain rfl : i = 16 := by omega
    refine ⟨w, ?_, fun j => by rw [if_neg (by omega)], rfl, FrX_refl⟩
    show b_X2_list_31 _ fu ev _ _ _ _ = _
    unfold b_X2_list_31
    rw [if_pos (show (16 : Int32) ≤ nI 16 by decide)]
    rfl
  | succ d ih =>
    intro f i w hi hf
    obtain ⟨g, rfl⟩ : ∃ g, f = g + 1 := ⟨f - 1, by omega⟩
    have e16 : (16 : Int32) * nI l + nI i = nI (16 * l + i) := by rw [show (16 : Int32) = nI 16 from rfl, pk_mul, nI_add]
    have st := wrJ (ev := ev) (w := w) (r := 983) (k := 16 * l + i) (N := 64) (z := 0) rfl (by decide) (by decide) (by omega)
    obtain ⟨w', e1, e2, e3, e4⟩ := ih g (i + 1) (wJ w 983 (16 * l + i) 0) (by omega) (by omega)
    refine ⟨w', ?_, fun j => ?_, by rw [e3]; rfl, FrX_trans FrX_wJ e4 (by decide) (by decide)⟩
    · show b_X2_list_31 _ fu ev _ _ _ _ = _
      unfold b_X2_list_31
      rw [if_neg (show ¬ (16 : Int32) ≤ nI i from nI_ge (b := 16) (by omega) (by decide))]
      unfold b_X2_list_37
      rw [mf30, Option.bind_some, Option.bind_some, e16, st, Option.bind_some, nI_1]
      exact e1
    · rw [e2]
      by_cases c1 : 16 * l + (i + 1) ≤ j ∧ j < 16 * l + 16
      · rw [if_pos c1, if_pos (by omega)]
      · rw [if_neg c1]
        show (if 983 = 983 ∧ j = 16 * l + i then (0 : Int64) else w.1 983 j) = _
        by_cases c2 : j = 16 * l + i
        · rw [if_pos ⟨rfl, c2⟩, if_pos (by omega)]
        · rw [if_neg (fun q => c2 q.2), if_neg (by omega)]
theorem op_list {P : Mm → Prop} (hf : 40 ≤ fu) (hR : Rel ev w M K T) (h1 : szW w + 3 ≤ ev.2.1) (h2 : slW w + 54 ≤ ev.2.2.1) (hP : ∀ w2 : Wd, Rel ev w2 M K T → szW w2 ≤ szW w + 3 → slW w2 ≤ slW w + 54 → (∀ l : Nat, l < 6 → sl w2 l = sl w l) → P (mem ev w2)) : xp_list fu ev (mem ev w) ev.1 x y (fun r σ1 => isC σ1 (ev.1 + 966) 2 = some () ∧ ∃ σ2 : Mm, f_X2_list fu ev σ1 (ev.1 + 966) x y = some (r, σ2) ∧ P σ2) := by
  obtain ⟨-, -, -, -, -, -, hRw, -, -, h984⟩ := id hR
  by_cases a : isl x = true
  · obtain ⟨l, hl, rfl⟩ := isl_of a
    by_cases b : y ≤ 16
    · by_cases c : y < 0
      · refine Or.inr ⟨1, mem ev w, some (ev.1 + 41), by rw [X0_isList, if_pos a], by decide, xf20, c, ⟨by show szW w + 3 ≤ _; omega, by show slW w + _ ≤ _; omega⟩, fun k j hk hj => ?_⟩
        rw [bump_mem]
        refine ⟨mis, _, ?_, hP (bmW w k j) (Rel_bm hR) (by show szW w + k ≤ _; omega) (by show slW w + j ≤ _; omega) (fun _ _ => rfl)⟩
        simp only [f_X2_list, b_X2_list_0, b_X2_list_7, b_X2_list_15, b_X2_list_19, X2_isList, a, b, show ¬ (0 : Int32) ≤ y from Int32.not_le.mpr c, Option.bind_some, bd2, b01, if_true, if_false, not_true_eq_false, not_false_eq_true, Bool.false_eq_true, eq_self, Int32.reduceAdd, Int32.reduceMul, Int32.reduceLE, Int32.reduceLT, reduceIte, Int32.add_assoc, ie_0_1, ie_0_2, ie_0_3, ie_0_4, ie_0_5, ie_0_6, ie_0_7, ie_0_8, ie_0_9, ie_1_0, ie_1_2, ie_1_3, ie_1_4, ie_1_5, ie_1_6, ie_1_7, ie_1_8, ie_1_9, ie_2_0, ie_2_1, ie_2_3, ie_2_4, ie_2_5, ie_2_6, ie_2_7, ie_2_8, ie_2_9, ie_3_0, ie_3_1, ie_3_2, ie_3_4, ie_3_5, ie_3_6, ie_3_7, ie_3_8, ie_3_9, ie_4_0, ie_4_1, ie_4_2, ie_4_3, ie_4_5, ie_4_6, ie_4_7, ie_4_8, ie_4_9, ie_5_0, ie_5_1, ie_5_2, ie_5_3, ie_5_4, ie_5_6, ie_5_7, ie_5_8, ie_5_9, ie_6_0, ie_6_1, ie_6_2, ie_6_3, ie_6_4, ie_6_5, ie_6_7, ie_6_8, ie_6_9, ie_7_0, ie_7_1, ie_7_2, ie_7_3, ie_7_4, ie_7_5, ie_7_6, ie_7_8, ie_7_9, ie_8_0, ie_8_1, ie_8_2, ie_8_3, ie_8_4, ie_8_5, ie_8_6, ie_8_7, ie_8_9, ie_9_0, ie_9_1, ie_9_2, ie_9_3, ie_9_4, ie_9_5, ie_9_6, ie_9_7, ie_9_8, nI_1, nI_pred, setC_21, setS_21, wI_same, Int32.reduceSub]
      · obtain ⟨n, hn, rfl⟩ := nI_of c
        have hn16 : n ≤ 16 := (nI_leI (b := 16) hn (by decide)).mp b
        have nw := d_nwA (ev := ev) (w := w) (f := fun _ => 0) h984 hn16 (by omega) (by omega)
        obtain ⟨wa, hwa⟩ : ∃ wa, wa = nwL w n (fun _ => 0) := ⟨_, rfl⟩
        rw [← hwa] at nw
        have za : szW wa = szW w + 1 := by rw [hwa]; rfl
        have ya : slW wa = slW w + n := by rw [hwa]; rfl
        have dya : ∀ b : Nat, dyn wa b = if b = szW w then some (.inl (1, n, .inr (.inl fun _ => 0))) else dyn w b := fun b => by rw [hwa]; rfl
        have sa : astJJ ev (mem ev wa) (ev.1 + 41) (nI l) (szW w) = some (mem ev (wA wa 41 l (some (szW w)))) := by
          unfold astJJ
          have hb : (some (szW w)).all (asg (mem ev wa) 6) = true := by
            show asg (mem ev wa) 6 (szW w) = true
            have e0 : (mem ev wa).1 (szW w) = some (.inl (1, n, .inr (.inl fun _ => 0))) := by
              rw [mem_dyn h984]
              show dyn wa (szW w) = _
              rw [dya, if_pos rfl]
            unfold asg
            rw [e0]
            rfl
          rw [if_pos (by omega), stA (r := 41) (κ := 6) (n := 4) rfl (by decide) (fun _ => rfl) (vp_in_nI hl (by omega)) hb, nI_clamp (by omega)]
        obtain ⟨w1, hw1⟩ : ∃ w1, w1 = wA wa 41 l (some (szW w)) := ⟨_, rfl⟩
        rw [← hw1] at sa
        have e1 : f_X0_list fu ev (mem ev w) ev.1 (nI l) (nI n) = some (1, mem ev w1) := by
          simp only [f_X0_list, b_X0_list_0, b_X0_list_7, b_X0_list_15, b_X0_list_31, X0_isList, a, b, xf20, nw, sa, Option.bind_some, bd2, b01, if_true, if_false, not_true_eq_false, not_false_eq_true, Bool.false_eq_true, eq_self, Int32.reduceAdd, Int32.reduceMul, Int32.reduceLE, Int32.reduceLT, reduceIte, Int32.add_assoc, ie_0_1, ie_0_2, ie_0_3, ie_0_4, ie_0_5, ie_0_6, ie_0_7, ie_0_8, ie_0_9, ie_1_0, ie_1_2, ie_1_3, ie_1_4, ie_1_5, ie_1_6, ie_1_7, ie_1_8, ie_1_9, ie_2_0, ie_2_1, ie_2_3, ie_2_4, ie_2_5, ie_2_6, ie_2_7, ie_2_8, ie_2_9, ie_3_0, ie_3_1, ie_3_2, ie_3_4, ie_3_5, ie_3_6, ie_3_7, ie_3_8, ie_3_9, ie_4_0, ie_4_1, ie_4_2, ie_4_3, ie_4_5, ie_4_6, ie_4_7, ie_4_8, ie_4_9, ie_5_0, ie_5_1, ie_5_2, ie_5_3, ie_5_4, ie_5_6, ie_5_7, ie_5_8, ie_5_9, ie_6_0, ie_6_1, ie_6_2, ie_6_3, ie_6_4, ie_6_5, ie_6_7, ie_6_8, ie_6_9, ie_7_0, ie_7_1, ie_7_2, ie_7_3, ie_7_4, ie_7_5, ie_7_6, ie_7_8, ie_7_9, ie_8_0, ie_8_1, ie_8_2, ie_8_3, ie_8_4, ie_8_5, ie_8_6, ie_8_7, ie_8_9, ie_9_0, ie_9_1, ie_9_2, ie_9_3, ie_9_4, ie_9_5, ie_9_6, ie_9_7, ie_9_8, nI_1, nI_pred, setC_21, setS_21, wI_same, Int32.reduceSub]
        obtain ⟨wb, hwb⟩ : ∃ wb, wb = wI w1 982 l (nI n) := ⟨_, rfl⟩
        obtain ⟨w2, g1, g2, g3, g4⟩ := Lm_list (ev := ev) (fu := fu) hl 16 fu 0 wb (by omega) (by omega)
        have e2 : f_X2_list fu ev (mem ev w1) (ev.1 + 966) (nI l) (nI n) = some (1, mem ev w2) := by
          have wr := wrI (ev := ev) (w := w1) (r := 982) (k := l) (N := 4) (x := nI n) rfl (by decide) (by decide) hl
          rw [← hwb] at wr
          simp only [f_X2_list, b_X2_list_0, b_X2_list_7, b_X2_list_15, b_X2_list_22, X2_isList, a, b, nI_pos' (show n < 2 ^ 31 by omega), mf29, wr, Option.bind_some, bd2, b01, if_true, if_false, not_true_eq_false, not_false_eq_true, Bool.false_eq_true, eq_self, Int32.reduceAdd, Int32.reduceMul, Int32.reduceLE, Int32.reduceLT, reduceIte, Int32.add_assoc, ie_0_1, ie_0_2, ie_0_3, ie_0_4, ie_0_5, ie_0_6, ie_0_7, ie_0_8, ie_0_9, ie_1_0, ie_1_2, ie_1_3, ie_1_4, ie_1_5, ie_1_6, ie_1_7, ie_1_8, ie_1_9, ie_2_0, ie_2_1, ie_2_3, ie_2_4, ie_2_5, ie_2_6, ie_2_7, ie_2_8, ie_2_9, ie_3_0, ie_3_1, ie_3_2, ie_3_4, ie_3_5, ie_3_6, ie_3_7, ie_3_8, ie_3_9, ie_4_0, ie_4_1, ie_4_2, ie_4_3, ie_4_5, ie_4_6, ie_4_7, ie_4_8, ie_4_9, ie_5_0, ie_5_1, ie_5_2, ie_5_3, ie_5_4, ie_5_6, ie_5_7, ie_5_8, ie_5_9, ie_6_0, ie_6_1, ie_6_2, ie_6_3, ie_6_4, ie_6_5, ie_6_7, ie_6_8, ie_6_9, ie_7_0, ie_7_1, ie_7_2, ie_7_3, ie_7_4, ie_7_5, ie_7_6, ie_7_8, ie_7_9, ie_8_0, ie_8_1, ie_8_2, ie_8_3, ie_8_4, ie_8_5, ie_8_6, ie_8_7, ie_8_9, ie_9_0, ie_9_1, ie_9_2, ie_9_3, ie_9_4, ie_9_5, ie_9_6, ie_9_7, ie_9_8, nI_1, nI_pred, setC_21, setS_21, wI_same, Int32.reduceSub]
          exact g1
        have jb : wb.1 = w.1 := by rw [hwb, hw1, hwa]; rfl
        have f1 : FrX [8] w w1 := by
          refine FrX_row (by rw [hw1, hwa]; rfl) (fun q i _ _ => by rw [hw1, hwa]; rfl) (fun q i _ hq => ?_)
          rw [hw1, wA_ne (fun e => hq (by rw [e.1]; decide)), hwa]
          rfl
        have f2 : FrX [18] w1 w2 := FrX_trans (U := [18]) (w' := wb) (S := [18]) (by rw [hwb]; exact FrX_wI (Or.inr (by exact List.mem_cons_self))) g4 (by decide) (by decide)
        have d2 : w2.2.2.2 = wa.2.2.2 := by rw [g3, hwb, hw1]; rfl
        have z2 : szW w2 = szW w + 1 := by unfold szW; rw [d2]; exact za
        have y2 : slW w2 = slW w + n := by unfold slW; rw [d2]; exact ya
        have dy2 : ∀ b : Nat, dyn w2 b = if b = szW w then some (.inl (1, n, .inr (.inl fun _ => 0))) else dyn w b := fun b => by
          rw [← dya]
          unfold dyn
          rw [d2]
        have A2 : ∀ l' : Nat, w2.2.2.1 41 l' = if l' = l then some (szW w) else w.2.2.1 41 l' := by
          intro l'
          rw [g3, hwb]
          show w1.2.2.1 41 l' = _
          rw [hw1]
          by_cases e : l' = l
          · rw [if_pos e, e, wA_same]
          · rw [if_neg e, wA_ne (fun q => e q.2), hwa]
            rfl
        have I2 : ∀ l' : Nat, w2.2.1 982 l' = if l' = l then nI n else w.2.1 982 l' := by
          intro l'
          rw [g3, hwb]
          by_cases e : l' = l
          · rw [if_pos e, e, wI_same]
          · rw [if_neg e, wI_ne (fun q => e q.2), hw1, hwa]
            rfl
        have J2 : ∀ j : Nat, w2.1 983 j = if 16 * l ≤ j ∧ j < 16 * l + 16 then 0 else w.1 983 j := fun j => by rw [g2, jb, Nat.add_zero]
        refine Or.inl ⟨1, mem ev w1, e1, mis, mem ev w2, e2, hP w2 (Rel_row hR (FrX_trans f1 f2 (by decide) (by decide)) ⟨by omega, fun b hb _ => by rw [dy2, if_neg (by omega)]⟩ ⟨fun l' hl' => ?_, fun l1 l2 b hl1 hl2 q1 q2 => ?_⟩) (by omega) (by omega) (fun K hK => (FrX_trans (U := [8, 18]) f1 f2 (by decide) (by decide)).2.2.2.2.1.2 (by decide) K hK)⟩
        · by_cases e : l' = l
          · subst e
            exact Or.inr ⟨szW w, n, fun _ => 0, by rw [A2, if_pos rfl], by rw [dy2, if_pos rfl], hn16, by rw [I2, if_pos rfl], fun i hi => by rw [J2, if_pos (by omega)], h984, by omega⟩
          · rcases hRw.1 l' hl' with ⟨q1, q2⟩ | ⟨b, m, g, q1, q2, q3, q4, q5, q6, q7⟩
            · exact Or.inl ⟨by rw [A2, if_neg e]; exact q1, by rw [I2, if_neg e]; exact q2⟩
            · exact Or.inr ⟨b, m, g, by rw [A2, if_neg e]; exact q1, by rw [dy2, if_neg (by omega)]; exact q2, q3, by rw [I2, if_neg e]; exact q4, fun i hi => by rw [J2, if_neg (by omega)]; exact q5 i hi, q6, by omega⟩
        · rw [A2] at q1 q2
          have old : ∀ l' : Nat, l' < 4 → w.2.2.1 41 l' = some b → b < szW w := fun l' hl' q => by
            rcases hRw.1 l' hl' with ⟨p1, -⟩ | ⟨b', m, g, p1, -, -, -, -, -, p7⟩
            · rw [p1] at q; cases q
            · rw [p1] at q; cases q; exact p7
          by_cases c1 : l1 = l <;> by_cases c2 : l2 = l
          · omega
          · rw [if_pos c1] at q1
            rw [if_neg c2] at q2
            have := old l2 hl2 q2
            cases q1
            omega
          · rw [if_neg c1] at q1
            rw [if_pos c2] at q2
            have := old l1 hl1 q1
            cases q2
            omega
          · rw [if_neg c1] at q1
            rw [if_neg c2] at q2
            exact hRw.2 l1 l2 b hl1 hl2 q1 q2
    · exact Or.inl ⟨-1, mem ev w, by simp only [f_X0_list, b_X0_list_0, b_X0_list_7, b_X0_list_13, X0_isList, a, b, Option.bind_some, bd2, b01, if_true, if_false, not_true_eq_false, not_false_eq_true, Bool.false_eq_true, eq_self, Int32.reduceAdd, Int32.reduceMul, Int32.reduceLE, Int32.reduceLT, reduceIte, Int32.add_assoc, ie_0_1, ie_0_2, ie_0_3, ie_0_4, ie_0_5, ie_0_6, ie_0_7, ie_0_8, ie_0_9, ie_1_0, ie_1_2, ie_1_3, ie_1_4, ie_1_5, ie_1_6, ie_1_7, ie_1_8, ie_1_9, ie_2_0, ie_2_1, ie_2_3, ie_2_4, ie_2_5, ie_2_6, ie_2_7, ie_2_8, ie_2_9, ie_3_0, ie_3_1, ie_3_2, ie_3_4, ie_3_5, ie_3_6, ie_3_7, ie_3_8, ie_3_9, ie_4_0, ie_4_1, ie_4_2, ie_4_3, ie_4_5, ie_4_6, ie_4_7, ie_4_8, ie_4_9, ie_5_0, ie_5_1, ie_5_2, ie_5_3, ie_5_4, ie_5_6, ie_5_7, ie_5_8, ie_5_9, ie_6_0, ie_6_1, ie_6_2, ie_6_3, ie_6_4, ie_6_5, ie_6_7, ie_6_8, ie_6_9, ie_7_0, ie_7_1, ie_7_2, ie_7_3, ie_7_4, ie_7_5, ie_7_6, ie_7_8, ie_7_9, ie_8_0, ie_8_1, ie_8_2, ie_8_3, ie_8_4, ie_8_5, ie_8_6, ie_8_7, ie_8_9, ie_9_0, ie_9_1, ie_9_2, ie_9_3, ie_9_4, ie_9_5, ie_9_6, ie_9_7, ie_9_8, nI_1, nI_pred, setC_21, setS_21, wI_same, Int32.reduceSub], mis, mem ev w, by simp only [f_X2_list, b_X2_list_0, b_X2_list_7, b_X2_list_13, X2_isList, a, b, Option.bind_some, bd2, b01, if_true, if_false, not_true_eq_false, not_false_eq_true, Bool.false_eq_true, eq_self, Int32.reduceAdd, Int32.reduceMul, Int32.reduceLE, Int32.reduceLT, reduceIte, Int32.add_assoc, ie_0_1, ie_0_2, ie_0_3, ie_0_4, ie_0_5, ie_0_6, ie_0_7, ie_0_8, ie_0_9, ie_1_0, ie_1_2, ie_1_3, ie_1_4, ie_1_5, ie_1_6, ie_1_7, ie_1_8, ie_1_9, ie_2_0, ie_2_1, ie_2_3, ie_2_4, ie_2_5, ie_2_6, ie_2_7, ie_2_8, ie_2_9, ie_3_0, ie_3_1, ie_3_2, ie_3_4, ie_3_5, ie_3_6, ie_3_7, ie_3_8, ie_3_9, ie_4_0, ie_4_1, ie_4_2, ie_4_3, ie_4_5, ie_4_6, ie_4_7, ie_4_8, ie_4_9, ie_5_0, ie_5_1, ie_5_2, ie_5_3, ie_5_4, ie_5_6, ie_5_7, ie_5_8, ie_5_9, ie_6_0, ie_6_1, ie_6_2, ie_6_3, ie_6_4, ie_6_5, ie_6_7, ie_6_8, ie_6_9, ie_7_0, ie_7_1, ie_7_2, ie_7_3, ie_7_4, ie_7_5, ie_7_6, ie_7_8, ie_7_9, ie_8_0, ie_8_1, ie_8_2, ie_8_3, ie_8_4, ie_8_5, ie_8_6, ie_8_7, ie_8_9, ie_9_0, ie_9_1, ie_9_2, ie_9_3, ie_9_4, ie_9_5, ie_9_6, ie_9_7, ie_9_8, nI_1, nI_pred, setC_21, setS_21, wI_same, Int32.reduceSub], hP w hR (by omega) (by omega) (fun _ _ => rfl)⟩
  · exact Or.inl ⟨-1, mem ev w, by simp only [f_X0_list, b_X0_list_0, b_X0_list_13, X0_isList, a, Option.bind_some, bd2, b01, if_true, if_false, not_true_eq_false, not_false_eq_true, Bool.false_eq_true, eq_self, Int32.reduceAdd, Int32.reduceMul, Int32.reduceLE, Int32.reduceLT, reduceIte, Int32.add_assoc, ie_0_1, ie_0_2, ie_0_3, ie_0_4, ie_0_5, ie_0_6, ie_0_7, ie_0_8, ie_0_9, ie_1_0, ie_1_2, ie_1_3, ie_1_4, ie_1_5, ie_1_6, ie_1_7, ie_1_8, ie_1_9, ie_2_0, ie_2_1, ie_2_3, ie_2_4, ie_2_5, ie_2_6, ie_2_7, ie_2_8, ie_2_9, ie_3_0, ie_3_1, ie_3_2, ie_3_4, ie_3_5, ie_3_6, ie_3_7, ie_3_8, ie_3_9, ie_4_0, ie_4_1, ie_4_2, ie_4_3, ie_4_5, ie_4_6, ie_4_7, ie_4_8, ie_4_9, ie_5_0, ie_5_1, ie_5_2, ie_5_3, ie_5_4, ie_5_6, ie_5_7, ie_5_8, ie_5_9, ie_6_0, ie_6_1, ie_6_2, ie_6_3, ie_6_4, ie_6_5, ie_6_7, ie_6_8, ie_6_9, ie_7_0, ie_7_1, ie_7_2, ie_7_3, ie_7_4, ie_7_5, ie_7_6, ie_7_8, ie_7_9, ie_8_0, ie_8_1, ie_8_2, ie_8_3, ie_8_4, ie_8_5, ie_8_6, ie_8_7, ie_8_9, ie_9_0, ie_9_1, ie_9_2, ie_9_3, ie_9_4, ie_9_5, ie_9_6, ie_9_7, ie_9_8, nI_1, nI_pred, setC_21, setS_21, wI_same, Int32.reduceSub], mis, mem ev w, by simp only [f_X2_list, b_X2_list_0, b_X2_list_13, X2_isList, a, Option.bind_some, bd2, b01, if_true, if_false, not_true_eq_false, not_false_eq_true, Bool.false_eq_true, eq_self, Int32.reduceAdd, Int32.reduceMul, Int32.reduceLE, Int32.reduceLT, reduceIte, Int32.add_assoc, ie_0_1, ie_0_2, ie_0_3, ie_0_4, ie_0_5, ie_0_6, ie_0_7, ie_0_8, ie_0_9, ie_1_0, ie_1_2, ie_1_3, ie_1_4, ie_1_5, ie_1_6, ie_1_7, ie_1_8, ie_1_9, ie_2_0, ie_2_1, ie_2_3, ie_2_4, ie_2_5, ie_2_6, ie_2_7, ie_2_8, ie_2_9, ie_3_0, ie_3_1, ie_3_2, ie_3_4, ie_3_5, ie_3_6, ie_3_7, ie_3_8, ie_3_9, ie_4_0, ie_4_1, ie_4_2, ie_4_3, ie_4_5, ie_4_6, ie_4_7, ie_4_8, ie_4_9, ie_5_0, ie_5_1, ie_5_2, ie_5_3, ie_5_4, ie_5_6, ie_5_7, ie_5_8, ie_5_9, ie_6_0, ie_6_1, ie_6_2, ie_6_3, ie_6_4, ie_6_5, ie_6_7, ie_6_8, ie_6_9, ie_7_0, ie_7_1, ie_7_2, ie_7_3, ie_7_4, ie_7_5, ie_7_6, ie_7_8, ie_7_9, ie_8_0, ie_8_1, ie_8_2, ie_8_3, ie_8_4, ie_8_5, ie_8_6, ie_8_7, ie_8_9, ie_9_0, ie_9_1, ie_9_2, ie_9_3, ie_9_4, ie_9_5, ie_9_6, ie_9_7, ie_9_8, nI_1, nI_pred, setC_21, setS_21, wI_same, Int32.reduceSub], hP w hR (by omega) (by omega) (fun _ _ => rfl)⟩
/-! set, get -/
theorem vp_at (hn : n ≤ 16) : vp_in y n ↔ ∃ i : Nat, i < n ∧ y = nI i := by
  refine ⟨fun h => ?_, fun ⟨i, hi, e⟩ => by rw [e]; exact vp_in_nI hi (by omega)⟩
  have h1 : ¬ y < 0 := fun q => h (Or.inl q)
  have h2 : ¬ n ≤ y.toNatClampNeg := fun q => h (Or.inr q)
  obtain ⟨j, hj, rfl⟩ := nI_of h1
  rw [nI_clamp hj] at h2
  exact ⟨j, by omega, rfl⟩
theorem isI_at (hn : n ≤ 16) : inJ y.toInt64 0 (nI n - 1).toInt64 = true ↔ ∃ i : Nat, i < n ∧ y = nI i := by
  rw [inJ_iff, i_l, i_l, show (nI n - 1 : Int32) = nI n - nI 1 from rfl, pk_sub_toInt (by omega) (by omega), show (0 : Int64).toInt = 0 from by decide]
  constructor
  · intro h
    refine ⟨y.toInt.toNat, by omega, Int32.toInt_inj.mp ?_⟩
    rw [nI_toInt (by omega)]
    omega
  · rintro ⟨i, hi, rfl⟩
    rw [nI_toInt (by omega)]
    omega
/-- a row of both gets a number -/
theorem Rel_set {g : Nat → Int64} (hR : Rel ev w M K T) (hl : l < 4) (q1 : w.2.2.1 41 l = some a) (q2 : dyn w a = some (.inl (1, n, .inr (.inl g)))) (hn : n ≤ 16) (hi : i < n) : Rel ev (wJ (wD w a (some (.inl (1, n, .inr (.inl (vp_updL g i z)))))) 983 (16 * l + i) z) M K T := by
  obtain ⟨-, -, -, -, -, -, hRw, -, -, h984⟩ := id hR
  have f0 : FrX [8] w (wD w a (some (.inl (1, n, .inr (.inl (vp_updL g i z)))))) := FrX_row rfl (fun _ _ _ _ => rfl) (fun _ _ _ _ => rfl)
  have inj : ∀ l' : Nat, l' < 4 → w.2.2.1 41 l' = some a → l' = l := fun l' hl' q => hRw.2 l' l a hl' hl q q1
  refine Rel_row hR (FrX_trans f0 (FrX_wJ (w := wD w a _)) (by decide) (by decide)) ⟨Nat.le_refl _, fun b hb hn' => ?_⟩ ⟨fun l' hl' => ?_, fun l1 l2 b h1 h2 => hRw.2 l1 l2 b h1 h2⟩
  · show dyn (wD w a _) b = _
    rw [dyn_wD, if_neg (fun e => hn' n g (by rw [e]; exact q2))]
  · have J : ∀ j : Nat, (wJ (wD w a (some (.inl (1, n, .inr (.inl (vp_updL g i z)))))) 983 (16 * l + i) z).1 983 j = if j = 16 * l + i then z else w.1 983 j := fun j => by
      show (if 983 = 983 ∧ j = 16 * l + i then z else w.1 983 j) = _
      by_cases e : j = 16 * l + i
      · rw [if_pos ⟨rfl, e⟩, if_pos e]
      · rw [if_neg (fun q => e q.2), if_neg e]
    rcases hRw.1 l' hl' with ⟨p1, p2⟩ | ⟨b, m, g', p1, p2, p3, p4, p5, p6, p7⟩
    · exact Or.inl ⟨p1, p2⟩
    · by_cases e : b = a
      · subst e
        obtain rfl := inj l' hl' p1
        rw [q2] at p2
        have e1 : n = m := by injection p2 with p2; injection p2 with p2; injection p2 with _ p2; injection p2
        have e2 : g = g' := by injection p2 with p2; injection p2 with p2; injection p2 with _ p2; injection p2 with _ p2; injection p2 with p2; injection p2
        subst e1 e2
        refine Or.inr ⟨b, n, vp_updL g i z, p1, ?_, p3, p4, fun j hj => ?_, p6, p7⟩
        · show dyn (wD w b _) b = _
          rw [dyn_wD, if_pos rfl]
        · rw [J]
          show (if j = i then z else g j) = _
          by_cases e : j = i
          · rw [if_pos e, if_pos (by omega)]
          · rw [if_neg e, if_neg (by omega)]
            exact p5 j hj
      · refine Or.inr ⟨b, m, g', p1, ?_, p3, p4, fun j hj => ?_, p6, p7⟩
        · show dyn (wD w a _) b = _
          rw [dyn_wD, if_neg e]
          exact p2
        · have hne : l' ≠ l := fun q => e (by rw [q, q1] at p1; exact (Option.some.inj p1).symm)
          rw [J, if_neg (by omega)]
          exact p5 j hj
theorem op_set {P : Mm → Prop} {v : Int64} (hR : Rel ev w M K T) (h1 : szW w + 3 ≤ ev.2.1) (h2 : slW w + 222 ≤ ev.2.2.1) (hP : ∀ w2 : Wd, Rel ev w2 M K T → szW w2 ≤ szW w + 3 → slW w2 ≤ slW w + 222 → (∀ l : Nat, l < 6 → sl w2 l = sl w l) → P (mem ev w2)) : xp_set fu ev (mem ev w) ev.1 x y v (fun r σ1 => isC σ1 (ev.1 + 966) 2 = some () ∧ ∃ σ2 : Mm, f_X2_set fu ev σ1 (ev.1 + 966) x y v = some (r, σ2) ∧ P σ2) := by
  obtain ⟨-, -, -, -, -, -, hRw, -, -, h984⟩ := id hR
  by_cases a : isl x = true
  · obtain ⟨l, hl, rfl⟩ := isl_of a
    have li : f_X0_isList fu ev (mem ev w) (nI l) = some (1, mem ev w) := by rw [X0_isList, if_pos a]
    rcases hRw.1 l hl with ⟨p1, p2⟩ | ⟨b, n, g, p1, p2, p3, p4, p5, p6, p7⟩
    · refine Or.inr ⟨1, mem ev w, ev.1 + 41, li, by decide, xf20, Or.inl ⟨by rw [xrow hl, p1], ⟨by show szW w + 1 ≤ _; omega, by show slW w + 8 ≤ _; omega⟩, fun k j hk hj => ?_⟩⟩
      rw [bump_mem]
      refine ⟨mis, _, ?_, hP (bmW w k j) (Rel_bm hR) (by show szW w + k ≤ _; omega) (by show slW w + j ≤ _; omega) (fun _ _ => rfl)⟩
      have ld := rdI (ev := ev) (w := bmW w k j) (r := 982) (k := l) (N := 4) rfl (by decide) (by decide) hl
      have e0 : (bmW w k j).2.1 982 l = -1 := p2
      rw [e0] at ld
      simp only [f_X2_set, b_X2_set_0, b_X2_set_9, b_X2_set_18, X2_isList, a, mf29, ld, Option.bind_some, bd2, b01, if_true, if_false, not_true_eq_false, not_false_eq_true, Bool.false_eq_true, eq_self, Int32.reduceAdd, Int32.reduceMul, Int32.reduceLE, Int32.reduceLT, reduceIte, Int32.add_assoc, ie_0_1, ie_0_2, ie_0_3, ie_0_4, ie_0_5, ie_0_6, ie_0_7, ie_0_8, ie_0_9, ie_1_0, ie_1_2, ie_1_3, ie_1_4, ie_1_5, ie_1_6, ie_1_7, ie_1_8, ie_1_9, ie_2_0, ie_2_1, ie_2_3, ie_2_4, ie_2_5, ie_2_6, ie_2_7, ie_2_8, ie_2_9, ie_3_0, ie_3_1, ie_3_2, ie_3_4, ie_3_5, ie_3_6, ie_3_7, ie_3_8, ie_3_9, ie_4_0, ie_4_1, ie_4_2, ie_4_3, ie_4_5, ie_4_6, ie_4_7, ie_4_8, ie_4_9, ie_5_0, ie_5_1, ie_5_2, ie_5_3, ie_5_4, ie_5_6, ie_5_7, ie_5_8, ie_5_9, ie_6_0, ie_6_1, ie_6_2, ie_6_3, ie_6_4, ie_6_5, ie_6_7, ie_6_8, ie_6_9, ie_7_0, ie_7_1, ie_7_2, ie_7_3, ie_7_4, ie_7_5, ie_7_6, ie_7_8, ie_7_9, ie_8_0, ie_8_1, ie_8_2, ie_8_3, ie_8_4, ie_8_5, ie_8_6, ie_8_7, ie_8_9, ie_9_0, ie_9_1, ie_9_2, ie_9_3, ie_9_4, ie_9_5, ie_9_6, ie_9_7, ie_9_8, nI_1, nI_pred, setC_21, setS_21, wI_same, Int32.reduceSub]
    · by_cases c : vp_in y n
      · obtain ⟨i, hi, rfl⟩ := (vp_at p3).mp c
        have s1 := d_stJ (ev := ev) (w := w) (z := v) p6 p2 hi (by omega)
        obtain ⟨w1, hw1⟩ : ∃ w1, w1 = wD w b (some (.inl (1, n, .inr (.inl (vp_updL g i v))))) := ⟨_, rfl⟩
        rw [← hw1] at s1
        have e1 : f_X0_set fu ev (mem ev w) ev.1 (nI l) (nI i) v = some (1, mem ev w1) := by
          simp only [f_X0_set, b_X0_set_0, b_X0_set_9, b_X0_set_31, X0_isList, a, xf20, xrow hl, p1, s1, Option.bind_some, bd2, b01, if_true, if_false, not_true_eq_false, not_false_eq_true, Bool.false_eq_true, eq_self, Int32.reduceAdd, Int32.reduceMul, Int32.reduceLE, Int32.reduceLT, reduceIte, Int32.add_assoc, ie_0_1, ie_0_2, ie_0_3, ie_0_4, ie_0_5, ie_0_6, ie_0_7, ie_0_8, ie_0_9, ie_1_0, ie_1_2, ie_1_3, ie_1_4, ie_1_5, ie_1_6, ie_1_7, ie_1_8, ie_1_9, ie_2_0, ie_2_1, ie_2_3, ie_2_4, ie_2_5, ie_2_6, ie_2_7, ie_2_8, ie_2_9, ie_3_0, ie_3_1, ie_3_2, ie_3_4, ie_3_5, ie_3_6, ie_3_7, ie_3_8, ie_3_9, ie_4_0, ie_4_1, ie_4_2, ie_4_3, ie_4_5, ie_4_6, ie_4_7, ie_4_8, ie_4_9, ie_5_0, ie_5_1, ie_5_2, ie_5_3, ie_5_4, ie_5_6, ie_5_7, ie_5_8, ie_5_9, ie_6_0, ie_6_1, ie_6_2, ie_6_3, ie_6_4, ie_6_5, ie_6_7, ie_6_8, ie_6_9, ie_7_0, ie_7_1, ie_7_2, ie_7_3, ie_7_4, ie_7_5, ie_7_6, ie_7_8, ie_7_9, ie_8_0, ie_8_1, ie_8_2, ie_8_3, ie_8_4, ie_8_5, ie_8_6, ie_8_7, ie_8_9, ie_9_0, ie_9_1, ie_9_2, ie_9_3, ie_9_4, ie_9_5, ie_9_6, ie_9_7, ie_9_8, nI_1, nI_pred, setC_21, setS_21, wI_same, Int32.reduceSub]
        have ld := rdI (ev := ev) (w := w1) (r := 982) (k := l) (N := 4) rfl (by decide) (by decide) hl
        have e0 : w1.2.1 982 l = nI n := by rw [hw1]; exact p4
        rw [e0] at ld
        have st := wrJ (ev := ev) (w := w1) (r := 983) (k := 16 * l + i) (N := 64) (z := v) rfl (by decide) (by decide) (by omega)
        have e16 : (16 : Int32) * nI l + nI i = nI (16 * l + i) := by rw [show (16 : Int32) = nI 16 from rfl, pk_mul, nI_add]
        have hin : inJ (nI i).toInt64 0 (nI n - 1).toInt64 = true := (isI_at p3).mpr ⟨i, hi, rfl⟩
        have e2 : f_X2_set fu ev (mem ev w1) (ev.1 + 966) (nI l) (nI i) v = some (1, mem ev (wJ w1 983 (16 * l + i) v)) := by
          simp only [b_X2_set_42, b_X2_set_39, b_X2_set_21, b_X2_set_18, b_X2_set_9, b_X2_set_7, b_X2_set_0, f_X2_set, X2_isList, X2_isIn, a, mf29, mf30, ld, nI_pos' (show n < 2 ^ 31 by omega), hin, e16, st, Option.bind_some, bd2, b01, if_true, if_false, not_true_eq_false, not_false_eq_true, Bool.false_eq_true, eq_self, Int32.reduceAdd, Int32.reduceMul, Int32.reduceLE, Int32.reduceLT, reduceIte, Int32.add_assoc, ie_0_1, ie_0_2, ie_0_3, ie_0_4, ie_0_5, ie_0_6, ie_0_7, ie_0_8, ie_0_9, ie_1_0, ie_1_2, ie_1_3, ie_1_4, ie_1_5, ie_1_6, ie_1_7, ie_1_8, ie_1_9, ie_2_0, ie_2_1, ie_2_3, ie_2_4, ie_2_5, ie_2_6, ie_2_7, ie_2_8, ie_2_9, ie_3_0, ie_3_1, ie_3_2, ie_3_4, ie_3_5, ie_3_6, ie_3_7, ie_3_8, ie_3_9, ie_4_0, ie_4_1, ie_4_2, ie_4_3, ie_4_5, ie_4_6, ie_4_7, ie_4_8, ie_4_9, ie_5_0, ie_5_1, ie_5_2, ie_5_3, ie_5_4, ie_5_6, ie_5_7, ie_5_8, ie_5_9, ie_6_0, ie_6_1, ie_6_2, ie_6_3, ie_6_4, ie_6_5, ie_6_7, ie_6_8, ie_6_9, ie_7_0, ie_7_1, ie_7_2, ie_7_3, ie_7_4, ie_7_5, ie_7_6, ie_7_8, ie_7_9, ie_8_0, ie_8_1, ie_8_2, ie_8_3, ie_8_4, ie_8_5, ie_8_6, ie_8_7, ie_8_9, ie_9_0, ie_9_1, ie_9_2, ie_9_3, ie_9_4, ie_9_5, ie_9_6, ie_9_7, ie_9_8, nI_1, nI_pred, setC_21, setS_21, wI_same, Int32.reduceSub]
        have hr := Rel_set (z := v) hR hl p1 p2 p3 hi
        rw [← hw1] at hr
        have j2 : ∀ q : Nat, q ≠ 983 → (wJ w1 983 (16 * l + i) v).1 q = w.1 q := fun q hq => by rw [wJ_row hq, hw1]; rfl
        refine Or.inl ⟨1, mem ev w1, e1, mis, _, e2, hP _ hr (by show szW w1 ≤ _; rw [hw1]; show szW w ≤ _; omega) (by show slW w1 ≤ _; rw [hw1]; show slW w ≤ _; omega) (fun K _ => ?_)⟩
        funext q
        unfold sl
        rw [j2 967 (by decide), j2 968 (by decide)]
      · refine Or.inr ⟨1, mem ev w, ev.1 + 41, li, by decide, xf20, Or.inr ⟨b, n, g, by rw [xrow hl, p1], by omega, by rw [mem_dyn p6]; exact p2, by omega, c, ⟨by show szW w + 3 ≤ _; omega, by show slW w + (212 + 10) ≤ _; omega⟩, fun k j hk hj => ?_⟩⟩
        rw [bump_mem]
        refine ⟨mis, _, ?_, hP (bmW w k j) (Rel_bm hR) (by show szW w + k ≤ _; omega) (by show slW w + j ≤ _; omega) (fun _ _ => rfl)⟩
        have ld := rdI (ev := ev) (w := bmW w k j) (r := 982) (k := l) (N := 4) rfl (by decide) (by decide) hl
        have e0 : (bmW w k j).2.1 982 l = nI n := p4
        rw [e0] at ld
        have hin : ¬ inJ y.toInt64 0 (nI n - 1).toInt64 = true := fun q => c ((vp_at p3).mpr ((isI_at p3).mp q))
        simp only [b_X2_set_42, b_X2_set_39, b_X2_set_21, b_X2_set_18, b_X2_set_9, b_X2_set_7, b_X2_set_0, f_X2_set, X2_isList, X2_isIn, a, mf29, ld, nI_pos' (show n < 2 ^ 31 by omega), hin, Option.bind_some, bd2, b01, if_true, if_false, not_true_eq_false, not_false_eq_true, Bool.false_eq_true, eq_self, Int32.reduceAdd, Int32.reduceMul, Int32.reduceLE, Int32.reduceLT, reduceIte, Int32.add_assoc, ie_0_1, ie_0_2, ie_0_3, ie_0_4, ie_0_5, ie_0_6, ie_0_7, ie_0_8, ie_0_9, ie_1_0, ie_1_2, ie_1_3, ie_1_4, ie_1_5, ie_1_6, ie_1_7, ie_1_8, ie_1_9, ie_2_0, ie_2_1, ie_2_3, ie_2_4, ie_2_5, ie_2_6, ie_2_7, ie_2_8, ie_2_9, ie_3_0, ie_3_1, ie_3_2, ie_3_4, ie_3_5, ie_3_6, ie_3_7, ie_3_8, ie_3_9, ie_4_0, ie_4_1, ie_4_2, ie_4_3, ie_4_5, ie_4_6, ie_4_7, ie_4_8, ie_4_9, ie_5_0, ie_5_1, ie_5_2, ie_5_3, ie_5_4, ie_5_6, ie_5_7, ie_5_8, ie_5_9, ie_6_0, ie_6_1, ie_6_2, ie_6_3, ie_6_4, ie_6_5, ie_6_7, ie_6_8, ie_6_9, ie_7_0, ie_7_1, ie_7_2, ie_7_3, ie_7_4, ie_7_5, ie_7_6, ie_7_8, ie_7_9, ie_8_0, ie_8_1, ie_8_2, ie_8_3, ie_8_4, ie_8_5, ie_8_6, ie_8_7, ie_8_9, ie_9_0, ie_9_1, ie_9_2, ie_9_3, ie_9_4, ie_9_5, ie_9_6, ie_9_7, ie_9_8, nI_1, nI_pred, setC_21, setS_21, wI_same, Int32.reduceSub]
  · exact Or.inl ⟨-1, mem ev w, by simp only [f_X0_set, b_X0_set_0, b_X0_set_7, X0_isList, a, Option.bind_some, bd2, b01, if_true, if_false, not_true_eq_false, not_false_eq_true, Bool.false_eq_true, eq_self, Int32.reduceAdd, Int32.reduceMul, Int32.reduceLE, Int32.reduceLT, reduceIte, Int32.add_assoc, ie_0_1, ie_0_2, ie_0_3, ie_0_4, ie_0_5, ie_0_6, ie_0_7, ie_0_8, ie_0_9, ie_1_0, ie_1_2, ie_1_3, ie_1_4, ie_1_5, ie_1_6, ie_1_7, ie_1_8, ie_1_9, ie_2_0, ie_2_1, ie_2_3, ie_2_4, ie_2_5, ie_2_6, ie_2_7, ie_2_8, ie_2_9, ie_3_0, ie_3_1, ie_3_2, ie_3_4, ie_3_5, ie_3_6, ie_3_7, ie_3_8, ie_3_9, ie_4_0, ie_4_1, ie_4_2, ie_4_3, ie_4_5, ie_4_6, ie_4_7, ie_4_8, ie_4_9, ie_5_0, ie_5_1, ie_5_2, ie_5_3, ie_5_4, ie_5_6, ie_5_7, ie_5_8, ie_5_9, ie_6_0, ie_6_1, ie_6_2, ie_6_3, ie_6_4, ie_6_5, ie_6_7, ie_6_8, ie_6_9, ie_7_0, ie_7_1, ie_7_2, ie_7_3, ie_7_4, ie_7_5, ie_7_6, ie_7_8, ie_7_9, ie_8_0, ie_8_1, ie_8_2, ie_8_3, ie_8_4, ie_8_5, ie_8_6, ie_8_7, ie_8_9, ie_9_0, ie_9_1, ie_9_2, ie_9_3, ie_9_4, ie_9_5, ie_9_6, ie_9_7, ie_9_8, nI_1, nI_pred, setC_21, setS_21, wI_same, Int32.reduceSub], mis, mem ev w, by simp only [f_X2_set, b_X2_set_0, b_X2_set_7, X2_isList, a, Option.bind_some, bd2, b01, if_true, if_false, not_true_eq_false, not_false_eq_true, Bool.false_eq_true, eq_self, Int32.reduceAdd, Int32.reduceMul, Int32.reduceLE, Int32.reduceLT, reduceIte, Int32.add_assoc, ie_0_1, ie_0_2, ie_0_3, ie_0_4, ie_0_5, ie_0_6, ie_0_7, ie_0_8, ie_0_9, ie_1_0, ie_1_2, ie_1_3, ie_1_4, ie_1_5, ie_1_6, ie_1_7, ie_1_8, ie_1_9, ie_2_0, ie_2_1, ie_2_3, ie_2_4, ie_2_5, ie_2_6, ie_2_7, ie_2_8, ie_2_9, ie_3_0, ie_3_1, ie_3_2, ie_3_4, ie_3_5, ie_3_6, ie_3_7, ie_3_8, ie_3_9, ie_4_0, ie_4_1, ie_4_2, ie_4_3, ie_4_5, ie_4_6, ie_4_7, ie_4_8, ie_4_9, ie_5_0, ie_5_1, ie_5_2, ie_5_3, ie_5_4, ie_5_6, ie_5_7, ie_5_8, ie_5_9, ie_6_0, ie_6_1, ie_6_2, ie_6_3, ie_6_4, ie_6_5, ie_6_7, ie_6_8, ie_6_9, ie_7_0, ie_7_1, ie_7_2, ie_7_3, ie_7_4, ie_7_5, ie_7_6, ie_7_8, ie_7_9, ie_8_0, ie_8_1, ie_8_2, ie_8_3, ie_8_4, ie_8_5, ie_8_6, ie_8_7, ie_8_9, ie_9_0, ie_9_1, ie_9_2, ie_9_3, ie_9_4, ie_9_5, ie_9_6, ie_9_7, ie_9_8, nI_1, nI_pred, setC_21, setS_21, wI_same, Int32.reduceSub], hP w hR (by omega) (by omega) (fun _ _ => rfl)⟩
theorem op_get {P : Mm → Prop} (hR : Rel ev w M K T) (h1 : szW w + 3 ≤ ev.2.1) (h2 : slW w + 222 ≤ ev.2.2.1) (hP : ∀ w2 : Wd, Rel ev w2 M K T → szW w2 ≤ szW w + 3 → slW w2 ≤ slW w + 222 → (∀ l : Nat, l < 6 → sl w2 l = sl w l) → P (mem ev w2)) : xp_get fu ev (mem ev w) ev.1 x y (fun r σ1 => isC σ1 (ev.1 + 966) 2 = some () ∧ ∃ σ2 : Mm, f_X2_get fu ev σ1 (ev.1 + 966) x y = some (r, σ2) ∧ P σ2) := by
  obtain ⟨-, -, -, -, -, -, hRw, -, -, h984⟩ := id hR
  by_cases a : isl x = true
  · obtain ⟨l, hl, rfl⟩ := isl_of a
    have li : f_X0_isList fu ev (mem ev w) (nI l) = some (1, mem ev w) := by rw [X0_isList, if_pos a]
    rcases hRw.1 l hl with ⟨p1, p2⟩ | ⟨b, n, g, p1, p2, p3, p4, p5, p6, p7⟩
    · refine Or.inr ⟨1, mem ev w, ev.1 + 41, li, by decide, xf20, Or.inl ⟨by rw [xrow hl, p1], ⟨by show szW w + 1 ≤ _; omega, by show slW w + 8 ≤ _; omega⟩, fun k j hk hj => ?_⟩⟩
      rw [bump_mem]
      refine ⟨mis, _, ?_, hP (bmW w k j) (Rel_bm hR) (by show szW w + k ≤ _; omega) (by show slW w + j ≤ _; omega) (fun _ _ => rfl)⟩
      have ld := rdI (ev := ev) (w := bmW w k j) (r := 982) (k := l) (N := 4) rfl (by decide) (by decide) hl
      have e0 : (bmW w k j).2.1 982 l = -1 := p2
      rw [e0] at ld
      have hin : ¬ inJ y.toInt64 0 (-2 : Int32).toInt64 = true := fun q => by
        have := inJ_iff.mp q
        rw [show ((0 : Int64).toInt) = 0 from by decide, show (-2 : Int32).toInt64.toInt = -2 from by decide] at this
        omega
      simp only [b_X2_get_42, b_X2_get_39, b_X2_get_25, b_X2_get_7, b_X2_get_0, f_X2_get, X2_isList, X2_isIn, a, mf29, ld, hin, Option.bind_some, bd2, b01, if_true, if_false, not_true_eq_false, not_false_eq_true, Bool.false_eq_true, eq_self, Int32.reduceAdd, Int32.reduceMul, Int32.reduceLE, Int32.reduceLT, reduceIte, Int32.add_assoc, ie_0_1, ie_0_2, ie_0_3, ie_0_4, ie_0_5, ie_0_6, ie_0_7, ie_0_8, ie_0_9, ie_1_0, ie_1_2, ie_1_3, ie_1_4, ie_1_5, ie_1_6, ie_1_7, ie_1_8, ie_1_9, ie_2_0, ie_2_1, ie_2_3, ie_2_4, ie_2_5, ie_2_6, ie_2_7, ie_2_8, ie_2_9, ie_3_0, ie_3_1, ie_3_2, ie_3_4, ie_3_5, ie_3_6, ie_3_7, ie_3_8, ie_3_9, ie_4_0, ie_4_1, ie_4_2, ie_4_3, ie_4_5, ie_4_6, ie_4_7, ie_4_8, ie_4_9, ie_5_0, ie_5_1, ie_5_2, ie_5_3, ie_5_4, ie_5_6, ie_5_7, ie_5_8, ie_5_9, ie_6_0, ie_6_1, ie_6_2, ie_6_3, ie_6_4, ie_6_5, ie_6_7, ie_6_8, ie_6_9, ie_7_0, ie_7_1, ie_7_2, ie_7_3, ie_7_4, ie_7_5, ie_7_6, ie_7_8, ie_7_9, ie_8_0, ie_8_1, ie_8_2, ie_8_3, ie_8_4, ie_8_5, ie_8_6, ie_8_7, ie_8_9, ie_9_0, ie_9_1, ie_9_2, ie_9_3, ie_9_4, ie_9_5, ie_9_6, ie_9_7, ie_9_8, nI_1, nI_pred, setC_21, setS_21, wI_same, Int32.reduceSub]
    · by_cases c : vp_in y n
      · obtain ⟨i, hi, rfl⟩ := (vp_at p3).mp c
        have s1 := d_ldJ (ev := ev) (w := w) p6 p2 hi (by omega)
        have e1 : f_X0_get fu ev (mem ev w) ev.1 (nI l) (nI i) = some (g i, mem ev w) := by
          simp only [f_X0_get, b_X0_get_0, b_X0_get_11, X0_isList, a, xf20, xrow hl, p1, s1, Option.bind_some, bd2, b01, if_true, if_false, not_true_eq_false, not_false_eq_true, Bool.false_eq_true, eq_self, Int32.reduceAdd, Int32.reduceMul, Int32.reduceLE, Int32.reduceLT, reduceIte, Int32.add_assoc, ie_0_1, ie_0_2, ie_0_3, ie_0_4, ie_0_5, ie_0_6, ie_0_7, ie_0_8, ie_0_9, ie_1_0, ie_1_2, ie_1_3, ie_1_4, ie_1_5, ie_1_6, ie_1_7, ie_1_8, ie_1_9, ie_2_0, ie_2_1, ie_2_3, ie_2_4, ie_2_5, ie_2_6, ie_2_7, ie_2_8, ie_2_9, ie_3_0, ie_3_1, ie_3_2, ie_3_4, ie_3_5, ie_3_6, ie_3_7, ie_3_8, ie_3_9, ie_4_0, ie_4_1, ie_4_2, ie_4_3, ie_4_5, ie_4_6, ie_4_7, ie_4_8, ie_4_9, ie_5_0, ie_5_1, ie_5_2, ie_5_3, ie_5_4, ie_5_6, ie_5_7, ie_5_8, ie_5_9, ie_6_0, ie_6_1, ie_6_2, ie_6_3, ie_6_4, ie_6_5, ie_6_7, ie_6_8, ie_6_9, ie_7_0, ie_7_1, ie_7_2, ie_7_3, ie_7_4, ie_7_5, ie_7_6, ie_7_8, ie_7_9, ie_8_0, ie_8_1, ie_8_2, ie_8_3, ie_8_4, ie_8_5, ie_8_6, ie_8_7, ie_8_9, ie_9_0, ie_9_1, ie_9_2, ie_9_3, ie_9_4, ie_9_5, ie_9_6, ie_9_7, ie_9_8, nI_1, nI_pred, setC_21, setS_21, wI_same, Int32.reduceSub]
        have ld := rdI (ev := ev) (w := w) (r := 982) (k := l) (N := 4) rfl (by decide) (by decide) hl
        rw [p4] at ld
        have lj := rdJ (ev := ev) (w := w) (r := 983) (k := 16 * l + i) (N := 64) rfl (by decide) (by decide) (by omega)
        rw [← p5 i hi] at lj
        have e16 : (16 : Int32) * nI l + nI i = nI (16 * l + i) := by rw [show (16 : Int32) = nI 16 from rfl, pk_mul, nI_add]
        have hin : inJ (nI i).toInt64 0 (nI n - 1).toInt64 = true := (isI_at p3).mpr ⟨i, hi, rfl⟩
        have e2 : f_X2_get fu ev (mem ev w) (ev.1 + 966) (nI l) (nI i) = some (g i, mem ev w) := by
          simp only [b_X2_get_42, b_X2_get_39, b_X2_get_25, b_X2_get_7, b_X2_get_0, f_X2_get, X2_isList, X2_isIn, a, mf29, mf30, ld, hin, e16, lj, Option.bind_some, bd2, b01, if_true, if_false, not_true_eq_false, not_false_eq_true, Bool.false_eq_true, eq_self, Int32.reduceAdd, Int32.reduceMul, Int32.reduceLE, Int32.reduceLT, reduceIte, Int32.add_assoc, ie_0_1, ie_0_2, ie_0_3, ie_0_4, ie_0_5, ie_0_6, ie_0_7, ie_0_8, ie_0_9, ie_1_0, ie_1_2, ie_1_3, ie_1_4, ie_1_5, ie_1_6, ie_1_7, ie_1_8, ie_1_9, ie_2_0, ie_2_1, ie_2_3, ie_2_4, ie_2_5, ie_2_6, ie_2_7, ie_2_8, ie_2_9, ie_3_0, ie_3_1, ie_3_2, ie_3_4, ie_3_5, ie_3_6, ie_3_7, ie_3_8, ie_3_9, ie_4_0, ie_4_1, ie_4_2, ie_4_3, ie_4_5, ie_4_6, ie_4_7, ie_4_8, ie_4_9, ie_5_0, ie_5_1, ie_5_2, ie_5_3, ie_5_4, ie_5_6, ie_5_7, ie_5_8, ie_5_9, ie_6_0, ie_6_1, ie_6_2, ie_6_3, ie_6_4, ie_6_5, ie_6_7, ie_6_8, ie_6_9, ie_7_0, ie_7_1, ie_7_2, ie_7_3, ie_7_4, ie_7_5, ie_7_6, ie_7_8, ie_7_9, ie_8_0, ie_8_1, ie_8_2, ie_8_3, ie_8_4, ie_8_5, ie_8_6, ie_8_7, ie_8_9, ie_9_0, ie_9_1, ie_9_2, ie_9_3, ie_9_4, ie_9_5, ie_9_6, ie_9_7, ie_9_8, nI_1, nI_pred, setC_21, setS_21, wI_same, Int32.reduceSub]
        exact Or.inl ⟨g i, mem ev w, e1, mis, _, e2, hP w hR (by omega) (by omega) (fun _ _ => rfl)⟩
      · refine Or.inr ⟨1, mem ev w, ev.1 + 41, li, by decide, xf20, Or.inr ⟨b, n, g, by rw [xrow hl, p1], by omega, by rw [mem_dyn p6]; exact p2, by omega, c, ⟨by show szW w + 3 ≤ _; omega, by show slW w + (212 + 10) ≤ _; omega⟩, fun k j hk hj => ?_⟩⟩
        rw [bump_mem]
        refine ⟨mis, _, ?_, hP (bmW w k j) (Rel_bm hR) (by show szW w + k ≤ _; omega) (by show slW w + j ≤ _; omega) (fun _ _ => rfl)⟩
        have ld := rdI (ev := ev) (w := bmW w k j) (r := 982) (k := l) (N := 4) rfl (by decide) (by decide) hl
        have e0 : (bmW w k j).2.1 982 l = nI n := p4
        rw [e0] at ld
        have hin : ¬ inJ y.toInt64 0 (nI n - 1).toInt64 = true := fun q => c ((vp_at p3).mpr ((isI_at p3).mp q))
        simp only [b_X2_get_42, b_X2_get_39, b_X2_get_25, b_X2_get_7, b_X2_get_0, f_X2_get, X2_isList, X2_isIn, a, mf29, ld, hin, Option.bind_some, bd2, b01, if_true, if_false, not_true_eq_false, not_false_eq_true, Bool.false_eq_true, eq_self, Int32.reduceAdd, Int32.reduceMul, Int32.reduceLE, Int32.reduceLT, reduceIte, Int32.add_assoc, ie_0_1, ie_0_2, ie_0_3, ie_0_4, ie_0_5, ie_0_6, ie_0_7, ie_0_8, ie_0_9, ie_1_0, ie_1_2, ie_1_3, ie_1_4, ie_1_5, ie_1_6, ie_1_7, ie_1_8, ie_1_9, ie_2_0, ie_2_1, ie_2_3, ie_2_4, ie_2_5, ie_2_6, ie_2_7, ie_2_8, ie_2_9, ie_3_0, ie_3_1, ie_3_2, ie_3_4, ie_3_5, ie_3_6, ie_3_7, ie_3_8, ie_3_9, ie_4_0, ie_4_1, ie_4_2, ie_4_3, ie_4_5, ie_4_6, ie_4_7, ie_4_8, ie_4_9, ie_5_0, ie_5_1, ie_5_2, ie_5_3, ie_5_4, ie_5_6, ie_5_7, ie_5_8, ie_5_9, ie_6_0, ie_6_1, ie_6_2, ie_6_3, ie_6_4, ie_6_5, ie_6_7, ie_6_8, ie_6_9, ie_7_0, ie_7_1, ie_7_2, ie_7_3, ie_7_4, ie_7_5, ie_7_6, ie_7_8, ie_7_9, ie_8_0, ie_8_1, ie_8_2, ie_8_3, ie_8_4, ie_8_5, ie_8_6, ie_8_7, ie_8_9, ie_9_0, ie_9_1, ie_9_2, ie_9_3, ie_9_4, ie_9_5, ie_9_6, ie_9_7, ie_9_8, nI_1, nI_pred, setC_21, setS_21, wI_same, Int32.reduceSub]
  · exact Or.inl ⟨-9223372036854775808, mem ev w, by simp only [f_X0_get, b_X0_get_0, b_X0_get_7, X0_isList, a, Option.bind_some, bd2, b01, if_true, if_false, not_true_eq_false, not_false_eq_true, Bool.false_eq_true, eq_self, Int32.reduceAdd, Int32.reduceMul, Int32.reduceLE, Int32.reduceLT, reduceIte, Int32.add_assoc, ie_0_1, ie_0_2, ie_0_3, ie_0_4, ie_0_5, ie_0_6, ie_0_7, ie_0_8, ie_0_9, ie_1_0, ie_1_2, ie_1_3, ie_1_4, ie_1_5, ie_1_6, ie_1_7, ie_1_8, ie_1_9, ie_2_0, ie_2_1, ie_2_3, ie_2_4, ie_2_5, ie_2_6, ie_2_7, ie_2_8, ie_2_9, ie_3_0, ie_3_1, ie_3_2, ie_3_4, ie_3_5, ie_3_6, ie_3_7, ie_3_8, ie_3_9, ie_4_0, ie_4_1, ie_4_2, ie_4_3, ie_4_5, ie_4_6, ie_4_7, ie_4_8, ie_4_9, ie_5_0, ie_5_1, ie_5_2, ie_5_3, ie_5_4, ie_5_6, ie_5_7, ie_5_8, ie_5_9, ie_6_0, ie_6_1, ie_6_2, ie_6_3, ie_6_4, ie_6_5, ie_6_7, ie_6_8, ie_6_9, ie_7_0, ie_7_1, ie_7_2, ie_7_3, ie_7_4, ie_7_5, ie_7_6, ie_7_8, ie_7_9, ie_8_0, ie_8_1, ie_8_2, ie_8_3, ie_8_4, ie_8_5, ie_8_6, ie_8_7, ie_8_9, ie_9_0, ie_9_1, ie_9_2, ie_9_3, ie_9_4, ie_9_5, ie_9_6, ie_9_7, ie_9_8, nI_1, nI_pred, setC_21, setS_21, wI_same, Int32.reduceSub], mis, mem ev w, by simp only [b_X2_get_42, b_X2_get_39, b_X2_get_25, b_X2_get_7, b_X2_get_0, f_X2_get, X2_isList, a, Option.bind_some, bd2, b01, if_true, if_false, not_true_eq_false, not_false_eq_true, Bool.false_eq_true, eq_self, Int32.reduceAdd, Int32.reduceMul, Int32.reduceLE, Int32.reduceLT, reduceIte, Int32.add_assoc, ie_0_1, ie_0_2, ie_0_3, ie_0_4, ie_0_5, ie_0_6, ie_0_7, ie_0_8, ie_0_9, ie_1_0, ie_1_2, ie_1_3, ie_1_4, ie_1_5, ie_1_6, ie_1_7, ie_1_8, ie_1_9, ie_2_0, ie_2_1, ie_2_3, ie_2_4, ie_2_5, ie_2_6, ie_2_7, ie_2_8, ie_2_9, ie_3_0, ie_3_1, ie_3_2, ie_3_4, ie_3_5, ie_3_6, ie_3_7, ie_3_8, ie_3_9, ie_4_0, ie_4_1, ie_4_2, ie_4_3, ie_4_5, ie_4_6, ie_4_7, ie_4_8, ie_4_9, ie_5_0, ie_5_1, ie_5_2, ie_5_3, ie_5_4, ie_5_6, ie_5_7, ie_5_8, ie_5_9, ie_6_0, ie_6_1, ie_6_2, ie_6_3, ie_6_4, ie_6_5, ie_6_7, ie_6_8, ie_6_9, ie_7_0, ie_7_1, ie_7_2, ie_7_3, ie_7_4, ie_7_5, ie_7_6, ie_7_8, ie_7_9, ie_8_0, ie_8_1, ie_8_2, ie_8_3, ie_8_4, ie_8_5, ie_8_6, ie_8_7, ie_8_9, ie_9_0, ie_9_1, ie_9_2, ie_9_3, ie_9_4, ie_9_5, ie_9_6, ie_9_7, ie_9_8, nI_1, nI_pred, setC_21, setS_21, wI_same, Int32.reduceSub], hP w hR (by omega) (by omega) (fun _ _ => rfl)⟩
end XRW
