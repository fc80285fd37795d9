/-! KEEPING: keeps of the class, remembers of the model -/
section XO8
variable {ev : Ev} {w : Wd} {fu M C F k c : Nat} {x y z : Int32} {p : Nat → Nat}
theorem stA {r n κ : Nat} (hd : ds r = (3, κ, n)) (hr : r < 984) (hmu : ∀ i : Nat, mu r i = true) {i : Int32} (hi : vp_in i n) {b : Option Nat} (hb : b.all (asg (mem ev w) κ) = true) : astA ev κ (mem ev w) (ev.1 + r) i b = some (mem ev (wA w r i.toNatClampNeg b)) := by
  have hlt : i.toNatClampNeg < n := Nat.not_le.mp fun q => hi (Or.inr q)
  have h : (mem ev w).1 (ev.1 + r) = some (.inl (κ, n, .inr (.inr (.inr (.inr fun i => if i < n then rf ev w r i else none))))) := by rw [mem_at hr, fx3 hd]
  unfold astA
  rw [h]
  show (if κ = κ ∧ ev.1 ≤ ev.1 + r ∧ b.all (asg (mem ev w) κ) = true ∧ ¬ (i < 0 ∨ n ≤ i.toNatClampNeg) then some (va_up (mem ev w).1 (ev.1 + r) (some (.inl (κ, n, .inr (.inr (.inr (.inr (va_up (fun i => if i < n then rf ev w r i else none) i.toNatClampNeg b))))))), (mem ev w).2) else none) = _
  rw [if_pos ⟨rfl, Nat.le_add_right _ _, hb, hi⟩]
  refine congrArg some (mem_up hr ?_ (fun q hq => ⟨rfl, rfl, wA_row hq⟩) rfl)
  rw [fx3 hd]
  refine congrArg (fun f => some (Sum.inl (κ, n, Sum.inr (Sum.inr (Sum.inr (Sum.inr f)))))) (funext fun j => ?_)
  show (if j < n then (if mu r j = true then (if r = r ∧ j = i.toNatClampNeg then b else w.2.2.1 r j) else _) else none) = va_up (fun i => if i < n then rf ev w r i else none) i.toNatClampNeg b j
  by_cases hj : j = i.toNatClampNeg
  · subst hj
    rw [if_pos hlt, if_pos (hmu _), if_pos ⟨rfl, rfl⟩]
    simp [va_up]
  · rw [if_neg (fun z : r = r ∧ j = i.toNatClampNeg => hj z.2)]
    simp only [va_up, hj, if_false]
    rfl
theorem asgC (h : c < 118) : (some (ev.1 + cr c)).all (asg (mem ev w) 5) = true := by
  have h1 := cr_lt h
  show asg (mem ev w) 5 (ev.1 + cr c) = true
  unfold asg
  rw [ob_at (r := cr c) (ci := 1) (n := 4) (dsC (q := 0) h (by decide)) (by omega)]
  rfl
theorem wI_ne {r i r' i' : Nat} {x : Int32} (h : ¬ (r' = r ∧ i' = i)) : (wI w r i x).2.1 r' i' = w.2.1 r' i' := if_neg h
theorem xwst (h : k < 12) (hc : c < 118) : astA ev 5 (mem ev w) (ev.1 + 26) (nI k) (some (ev.1 + cr c)) = some (mem ev (wA w 26 k (some (ev.1 + cr c)))) := by
  rw [stA (r := 26) (n := 12) (κ := 5) rfl (by decide) (fun _ => rfl) (vp_in_nI h (by decide)) (asgC hc), nI_clamp (by omega)]
theorem nI_ne12 (h : C < 12) : (nI C = 12) = False := eq_false (fun e => absurd ((nI_eq (by omega) (by decide)).mp (e.trans (show (12 : Int32) = nI 12 from rfl))) (by omega))
/-- where what was is kept: a permutation of twelve cells -/
def Wp (ev : Ev) (w : Wd) (p : Nat → Nat) : Prop := ∀ k : Nat, k < 12 → w.2.2.1 26 k = some (ev.1 + cr (15 + p k)) ∧ p k < 12
theorem xwas_0 : aldA 5 (mem ev w) (ev.1 + 26) (0 : Int32) = some (w.2.2.1 26 0) := xwas (k := 0) (by decide)
theorem xchd_0 : aldI 0 (mem ev w) (ev.1 + 27) (0 : Int32) = some (w.2.1 27 0) := xchd (k := 0) (by decide)
theorem xchs_0 : astI ev 0 (mem ev w) (ev.1 + 27) (0 : Int32) x = some (mem ev (wI w 27 0 x)) := xchs (k := 0) (by decide)
theorem xwst_0 (hc : c < 118) : astA ev 5 (mem ev w) (ev.1 + 26) (0 : Int32) (some (ev.1 + cr c)) = some (mem ev (wA w 26 0 (some (ev.1 + cr c)))) := xwst (k := 0) (by decide) hc
theorem xwas_1 : aldA 5 (mem ev w) (ev.1 + 26) (1 : Int32) = some (w.2.2.1 26 1) := xwas (k := 1) (by decide)
theorem xchd_1 : aldI 0 (mem ev w) (ev.1 + 27) (1 : Int32) = some (w.2.1 27 1) := xchd (k := 1) (by decide)
theorem xchs_1 : astI ev 0 (mem ev w) (ev.1 + 27) (1 : Int32) x = some (mem ev (wI w 27 1 x)) := xchs (k := 1) (by decide)
theorem xwst_1 (hc : c < 118) : astA ev 5 (mem ev w) (ev.1 + 26) (1 : Int32) (some (ev.1 + cr c)) = some (mem ev (wA w 26 1 (some (ev.1 + cr c)))) := xwst (k := 1) (by decide) hc
theorem xwas_2 : aldA 5 (mem ev w) (ev.1 + 26) (2 : Int32) = some (w.2.2.1 26 2) := xwas (k := 2) (by decide)
theorem xchd_2 : aldI 0 (mem ev w) (ev.1 + 27) (2 : Int32) = some (w.2.1 27 2) := xchd (k := 2) (by decide)
theorem xchs_2 : astI ev 0 (mem ev w) (ev.1 + 27) (2 : Int32) x = some (mem ev (wI w 27 2 x)) := xchs (k := 2) (by decide)
theorem xwst_2 (hc : c < 118) : astA ev 5 (mem ev w) (ev.1 + 26) (2 : Int32) (some (ev.1 + cr c)) = some (mem ev (wA w 26 2 (some (ev.1 + cr c)))) := xwst (k := 2) (by decide) hc
theorem xwas_3 : aldA 5 (mem ev w) (ev.1 + 26) (3 : Int32) = some (w.2.2.1 26 3) := xwas (k := 3) (by decide)
theorem xchd_3 : aldI 0 (mem ev w) (ev.1 + 27) (3 : Int32) = some (w.2.1 27 3) := xchd (k := 3) (by decide)
theorem xchs_3 : astI ev 0 (mem ev w) (ev.1 + 27) (3 : Int32) x = some (mem ev (wI w 27 3 x)) := xchs (k := 3) (by decide)
theorem xwst_3 (hc : c < 118) : astA ev 5 (mem ev w) (ev.1 + 26) (3 : Int32) (some (ev.1 + cr c)) = some (mem ev (wA w 26 3 (some (ev.1 + cr c)))) := xwst (k := 3) (by decide) hc
theorem xwas_4 : aldA 5 (mem ev w) (ev.1 + 26) (4 : Int32) = some (w.2.2.1 26 4) := xwas (k := 4) (by decide)
theorem xchd_4 : aldI 0 (mem ev w) (ev.1 + 27) (4 : Int32) = some (w.2.1 27 4) := xchd (k := 4) (by decide)
theorem xchs_4 : astI ev 0 (mem ev w) (ev.1 + 27) (4 : Int32) x = some (mem ev (wI w 27 4 x)) := xchs (k := 4) (by decide)
theorem xwst_4 (hc : c < 118) : astA ev 5 (mem ev w) (ev.1 + 26) (4 : Int32) (some (ev.1 + cr c)) = some (mem ev (wA w 26 4 (some (ev.1 + cr c)))) := xwst (k := 4) (by decide) hc
theorem xwas_5 : aldA 5 (mem ev w) (ev.1 + 26) (5 : Int32) = some (w.2.2.1 26 5) := xwas (k := 5) (by decide)
theorem xchd_5 : aldI 0 (mem ev w) (ev.1 + 27) (5 : Int32) = some (w.2.1 27 5) := xchd (k := 5) (by decide)
theorem xchs_5 : astI ev 0 (mem ev w) (ev.1 + 27) (5 : Int32) x = some (mem ev (wI w 27 5 x)) := xchs (k := 5) (by decide)
theorem xwst_5 (hc : c < 118) : astA ev 5 (mem ev w) (ev.1 + 26) (5 : Int32) (some (ev.1 + cr c)) = some (mem ev (wA w 26 5 (some (ev.1 + cr c)))) := xwst (k := 5) (by decide) hc
theorem xwas_6 : aldA 5 (mem ev w) (ev.1 + 26) (6 : Int32) = some (w.2.2.1 26 6) := xwas (k := 6) (by decide)
theorem xchd_6 : aldI 0 (mem ev w) (ev.1 + 27) (6 : Int32) = some (w.2.1 27 6) := xchd (k := 6) (by decide)
theorem xchs_6 : astI ev 0 (mem ev w) (ev.1 + 27) (6 : Int32) x = some (mem ev (wI w 27 6 x)) := xchs (k := 6) (by decide)
theorem xwst_6 (hc : c < 118) : astA ev 5 (mem ev w) (ev.1 + 26) (6 : Int32) (some (ev.1 + cr c)) = some (mem ev (wA w 26 6 (some (ev.1 + cr c)))) := xwst (k := 6) (by decide) hc
theorem xwas_7 : aldA 5 (mem ev w) (ev.1 + 26) (7 : Int32) = some (w.2.2.1 26 7) := xwas (k := 7) (by decide)
theorem xchd_7 : aldI 0 (mem ev w) (ev.1 + 27) (7 : Int32) = some (w.2.1 27 7) := xchd (k := 7) (by decide)
theorem xchs_7 : astI ev 0 (mem ev w) (ev.1 + 27) (7 : Int32) x = some (mem ev (wI w 27 7 x)) := xchs (k := 7) (by decide)
theorem xwst_7 (hc : c < 118) : astA ev 5 (mem ev w) (ev.1 + 26) (7 : Int32) (some (ev.1 + cr c)) = some (mem ev (wA w 26 7 (some (ev.1 + cr c)))) := xwst (k := 7) (by decide) hc
theorem xwas_8 : aldA 5 (mem ev w) (ev.1 + 26) (8 : Int32) = some (w.2.2.1 26 8) := xwas (k := 8) (by decide)
theorem xchd_8 : aldI 0 (mem ev w) (ev.1 + 27) (8 : Int32) = some (w.2.1 27 8) := xchd (k := 8) (by decide)
theorem xchs_8 : astI ev 0 (mem ev w) (ev.1 + 27) (8 : Int32) x = some (mem ev (wI w 27 8 x)) := xchs (k := 8) (by decide)
theorem xwst_8 (hc : c < 118) : astA ev 5 (mem ev w) (ev.1 + 26) (8 : Int32) (some (ev.1 + cr c)) = some (mem ev (wA w 26 8 (some (ev.1 + cr c)))) := xwst (k := 8) (by decide) hc
theorem xwas_9 : aldA 5 (mem ev w) (ev.1 + 26) (9 : Int32) = some (w.2.2.1 26 9) := xwas (k := 9) (by decide)
theorem xchd_9 : aldI 0 (mem ev w) (ev.1 + 27) (9 : Int32) = some (w.2.1 27 9) := xchd (k := 9) (by decide)
theorem xchs_9 : astI ev 0 (mem ev w) (ev.1 + 27) (9 : Int32) x = some (mem ev (wI w 27 9 x)) := xchs (k := 9) (by decide)
theorem xwst_9 (hc : c < 118) : astA ev 5 (mem ev w) (ev.1 + 26) (9 : Int32) (some (ev.1 + cr c)) = some (mem ev (wA w 26 9 (some (ev.1 + cr c)))) := xwst (k := 9) (by decide) hc
theorem xwas_10 : aldA 5 (mem ev w) (ev.1 + 26) (10 : Int32) = some (w.2.2.1 26 10) := xwas (k := 10) (by decide)
theorem xchd_10 : aldI 0 (mem ev w) (ev.1 + 27) (10 : Int32) = some (w.2.1 27 10) := xchd (k := 10) (by decide)
theorem xchs_10 : astI ev 0 (mem ev w) (ev.1 + 27) (10 : Int32) x = some (mem ev (wI w 27 10 x)) := xchs (k := 10) (by decide)
theorem xwst_10 (hc : c < 118) : astA ev 5 (mem ev w) (ev.1 + 26) (10 : Int32) (some (ev.1 + cr c)) = some (mem ev (wA w 26 10 (some (ev.1 + cr c)))) := xwst (k := 10) (by decide) hc
theorem xwas_11 : aldA 5 (mem ev w) (ev.1 + 26) (11 : Int32) = some (w.2.2.1 26 11) := xwas (k := 11) (by decide)
theorem xchd_11 : aldI 0 (mem ev w) (ev.1 + 27) (11 : Int32) = some (w.2.1 27 11) := xchd (k := 11) (by decide)
theorem xchs_11 : astI ev 0 (mem ev w) (ev.1 + 27) (11 : Int32) x = some (mem ev (wI w 27 11 x)) := xchs (k := 11) (by decide)
theorem xwst_11 (hc : c < 118) : astA ev 5 (mem ev w) (ev.1 + 26) (11 : Int32) (some (ev.1 + cr c)) = some (mem ev (wA w 26 11 (some (ev.1 + cr c)))) := xwst (k := 11) (by decide) hc
theorem X0_keeps_ok (hf : 4 ≤ fu) (hk : k < 6) (hC : w.2.1 0 8 = nI C) (h12 : C < 12) (hp : Wp ev w p) : f_X0_keeps fu ev (mem ev w) ev.1 (nI k) = some ((), mem ev (wI (wI (setC w (15 + p C) (cv w (3 + 2 * k))) 27 C (nI k)) 0 8 (nI (C + 1)))) := by
  have hpC := hp C h12
  have hw1 : (wI (setC w (15 + p C) (cv w (3 + 2 * k))) 27 C (nI k)).2.1 0 8 = nI C := by
    rw [wI_ne (by omega)]; exact hC
  simp only [b_X0_keeps_76, b_X0_keeps_58, b_X0_keeps_24, b_X0_keeps_18, L_X0_keeps_18, b_X0_keeps_9, b_X0_keeps_0, f_X0_keeps, xi8, hC, nI_ne12 h12, xf0, xf6, xf7, xwas h12, hpC.1, xcells hk, cis (show 15 + p C < 118 by omega), X1_takes (show 15 + p C < 118 by omega) (show 3 + 2 * k < 118 by omega) (show 3 + 2 * k ≠ 15 + p C by omega) hf, xchs h12, hw1, xp8, Option.bind_some, bd2, b01, if_true, if_false, not_true_eq_false, not_false_eq_true, Bool.false_eq_true, eq_self, Int32.reduceAdd, Int32.reduceMul, Int32.reduceLE, Int32.reduceLT, reduceIte, Int32.add_assoc, ie_0_1, ie_0_2, ie_0_3, ie_0_4, ie_0_5, ie_0_6, ie_0_7, ie_0_8, ie_0_9, ie_1_0, ie_1_2, ie_1_3, ie_1_4, ie_1_5, ie_1_6, ie_1_7, ie_1_8, ie_1_9, ie_2_0, ie_2_1, ie_2_3, ie_2_4, ie_2_5, ie_2_6, ie_2_7, ie_2_8, ie_2_9, ie_3_0, ie_3_1, ie_3_2, ie_3_4, ie_3_5, ie_3_6, ie_3_7, ie_3_8, ie_3_9, ie_4_0, ie_4_1, ie_4_2, ie_4_3, ie_4_5, ie_4_6, ie_4_7, ie_4_8, ie_4_9, ie_5_0, ie_5_1, ie_5_2, ie_5_3, ie_5_4, ie_5_6, ie_5_7, ie_5_8, ie_5_9, ie_6_0, ie_6_1, ie_6_2, ie_6_3, ie_6_4, ie_6_5, ie_6_7, ie_6_8, ie_6_9, ie_7_0, ie_7_1, ie_7_2, ie_7_3, ie_7_4, ie_7_5, ie_7_6, ie_7_8, ie_7_9, ie_8_0, ie_8_1, ie_8_2, ie_8_3, ie_8_4, ie_8_5, ie_8_6, ie_8_7, ie_8_9, ie_9_0, ie_9_1, ie_9_2, ie_9_3, ie_9_4, ie_9_5, ie_9_6, ie_9_7, ie_9_8, nI_1, nI_pred, setC_21, setS_21, wI_same]
theorem nI_mod {a : Nat} (h : a < 2 ^ 31) : nI a - nI a / (12 : Int32) * (12 : Int32) = nI (a % 12) := pk_rem h (by decide) (by decide)
theorem place_ok (hF : F < 12) (hC : C ≤ 12) : nI F + nI (C + 1) - 1 = nI (F + C) := by
  rw [nI_add, show F + (C + 1) = (F + C) + 1 by omega, nI_pred]
theorem X2_remembers_ok (hf : 10 ≤ fu) (hk : k < 6) (hC : w.2.1 966 9 = nI C) (h12 : C < 12) (hF : w.2.1 966 10 = nI F) (hF12 : F < 12) : f_X2_remembers fu ev (mem ev w) (ev.1 + 966) (nI k) = some ((), mem ev (setS (wI (wI w 966 9 (nI (C + 1))) 973 ((F + C) % 12) (nI k)) (14 + (F + C) % 12) (sl w k))) := by
  have hm : (F + C) % 12 < 12 := Nat.mod_lt _ (by decide)
  have hw1 : (wI w 966 9 (nI (C + 1))).2.1 966 10 = nI F := by
    rw [wI_ne (by omega)]; exact hF
  have hmv : f_X2_moves fu ev (mem ev (wI (wI w 966 9 (nI (C + 1))) 973 ((F + C) % 12) (nI k))) (ev.1 + 966) (nI k) (14 + nI ((F + C) % 12)) = some ((), mem ev (setS (wI (wI w 966 9 (nI (C + 1))) 973 ((F + C) % 12) (nI k)) (14 + (F + C) % 12) (sl w k))) := by
    rw [show (14 : Int32) + nI ((F + C) % 12) = nI (14 + (F + C) % 12) from nI_add 14 _]
    exact X2_moves (by omega) (by omega) (by omega) hf
  simp only [b_X2_remembers_35, b_X2_remembers_25, b_X2_remembers_9, b_X2_remembers_0, f_X2_remembers, mis, mi9, mi10, mp9, mf16, hC, nI_ne12 h12, hw1, place_ok hF12 (show C ≤ 12 by omega), nI_mod (show F + C < 2 ^ 31 by omega), mcs hm, hmv, Option.bind_some, bd2, b01, if_true, if_false, not_true_eq_false, not_false_eq_true, Bool.false_eq_true, eq_self, Int32.reduceAdd, Int32.reduceMul, Int32.reduceLE, Int32.reduceLT, reduceIte, ie_0_1, ie_0_2, ie_0_3, ie_0_4, ie_0_5, ie_0_6, ie_0_7, ie_0_8, ie_0_9, ie_1_0, ie_1_2, ie_1_3, ie_1_4, ie_1_5, ie_1_6, ie_1_7, ie_1_8, ie_1_9, ie_2_0, ie_2_1, ie_2_3, ie_2_4, ie_2_5, ie_2_6, ie_2_7, ie_2_8, ie_2_9, ie_3_0, ie_3_1, ie_3_2, ie_3_4, ie_3_5, ie_3_6, ie_3_7, ie_3_8, ie_3_9, ie_4_0, ie_4_1, ie_4_2, ie_4_3, ie_4_5, ie_4_6, ie_4_7, ie_4_8, ie_4_9, ie_5_0, ie_5_1, ie_5_2, ie_5_3, ie_5_4, ie_5_6, ie_5_7, ie_5_8, ie_5_9, ie_6_0, ie_6_1, ie_6_2, ie_6_3, ie_6_4, ie_6_5, ie_6_7, ie_6_8, ie_6_9, ie_7_0, ie_7_1, ie_7_2, ie_7_3, ie_7_4, ie_7_5, ie_7_6, ie_7_8, ie_7_9, ie_8_0, ie_8_1, ie_8_2, ie_8_3, ie_8_4, ie_8_5, ie_8_6, ie_8_7, ie_8_9, ie_9_0, ie_9_1, ie_9_2, ie_9_3, ie_9_4, ie_9_5, ie_9_6, ie_9_7, ie_9_8, nI_1, nI_pred, setC_21, setS_21, wI_same]
end XO8
