/-! KEEPING, WHEN TWELVE ARE KEPT; undo -/
section XO9
variable {ev : Ev} {w : Wd} {fu M C F k c : Nat} {x y z : Int32} {p : Nat → Nat}
theorem wA_at {r i r' i' : Nat} {b : Option Nat} : (wA w r i b).2.2.1 r' i' = if r' = r ∧ i' = i then b else w.2.2.1 r' i' := rfl
theorem wI_at {r i r' i' : Nat} {b : Int32} : (wI w r i b).2.1 r' i' = if r' = r ∧ i' = i then b else w.2.1 r' i' := rfl
theorem wI_A {r i : Nat} {b : Int32} : (wI w r i b).2.2.1 = w.2.2.1 := rfl
theorem wA_I {r i : Nat} {b : Option Nat} : (wA w r i b).2.1 = w.2.1 := rfl
def pro (p : Nat → Nat) : Nat → Nat := fun k => if k < 11 then p (k + 1) else p 0
def rotW (ev : Ev) (w : Wd) (p : Nat → Nat) : Wd := (w.1, fun q j => if q = 0 ∧ j = 8 then 11 else if q = 27 ∧ j < 11 then w.2.1 27 (j + 1) else w.2.1 q j, fun q j => if q = 26 ∧ j < 12 then some (ev.1 + cr (15 + pro p j)) else w.2.2.1 q j, w.2.2.2)
def rotP (ev : Ev) (w : Wd) (p : Nat → Nat) (n : Nat) : Wd := (w.1, fun q j => if q = 27 ∧ j < n then w.2.1 27 (j + 1) else w.2.1 q j, fun q j => if q = 26 ∧ j < n then some (ev.1 + cr (15 + p (j + 1))) else w.2.2.1 q j, w.2.2.2)
theorem rotP_s {n : Nat} : wI (wA (rotP ev w p n) 26 n (some (ev.1 + cr (15 + p (n + 1))))) 27 n (w.2.1 27 (n + 1)) = rotP ev w p (n + 1) := by
  refine Prod.ext rfl (Prod.ext (funext fun q => funext fun j => ?_) (Prod.ext (funext fun q => funext fun j => ?_) rfl))
  · simp only [wI, wA, rotP]
    repeat' split
    all_goals first | rfl | (exfalso; omega) | (rename_i h _; obtain ⟨rfl, rfl⟩ := h; rfl) | (rename_i h _ _; obtain ⟨rfl, rfl⟩ := h; rfl)
  · simp only [wI, wA, rotP]
    repeat' split
    all_goals first | rfl | (exfalso; omega) | (rename_i h _; obtain ⟨rfl, rfl⟩ := h; rfl) | (rename_i h _ _; obtain ⟨rfl, rfl⟩ := h; rfl)
theorem rotP_e : wI (wA (rotP ev w p 11) 26 11 (some (ev.1 + cr (15 + p 0)))) 0 8 11 = rotW ev w p := by
  refine Prod.ext rfl (Prod.ext (funext fun q => funext fun j => ?_) (Prod.ext (funext fun q => funext fun j => ?_) rfl))
  · simp only [wI, wA, rotP, rotW]
  · simp only [wI, wA, rotP, rotW, pro]
    repeat' split
    all_goals first | rfl | (exfalso; omega)
theorem L_rot (hp : Wp ev w p) {a : Option Nat} : ∀ (d n m : Nat), n + d = 11 → d + 1 ≤ m → L_X0_keeps_18 fu ev m (mem ev (rotP ev w p n)) ev.1 x a (nI (n + 1)) = b_X0_keeps_58 fu ev (mem ev (rotP ev w p 11)) ev.1 x a := by
  intro d
  induction d with
  | zero =>
    intro n m hn hm
    obtain ⟨m, rfl⟩ : ∃ q, m = q + 1 := ⟨m - 1, by omega⟩
    obtain rfl : n = 11 := by omega
    rfl
  | succ d ih =>
    intro n m hn hm
    obtain ⟨m, rfl⟩ : ∃ q, m = q + 1 := ⟨m - 1, by omega⟩
    have h1 := hp (n + 1) (by omega)
    have a1 : (rotP ev w p n).2.2.1 26 (n + 1) = some (ev.1 + cr (15 + p (n + 1))) := by
      show (if 26 = 26 ∧ n + 1 < n then some (ev.1 + cr (15 + p (n + 1 + 1))) else w.2.2.1 26 (n + 1)) = _
      rw [if_neg (by omega)]
      exact h1.1
    have i1 : (wA (rotP ev w p n) 26 n (some (ev.1 + cr (15 + p (n + 1))))).2.1 27 (n + 1) = w.2.1 27 (n + 1) := by
      show (if 27 = 27 ∧ n + 1 < n then w.2.1 27 (n + 1 + 1) else w.2.1 27 (n + 1)) = _
      rw [if_neg (by omega)]
    have hle : ¬ (12 : Int32) ≤ nI (n + 1) := nI_ge (b := 12) (by omega) (by decide)
    show (if (12 : Int32) ≤ nI (n + 1) then _ else b_X0_keeps_24 _ fu ev _ ev.1 x a (nI (n + 1))) = _
    rw [if_neg hle]
    simp only [b_X0_keeps_24, xf6, xf7, Option.bind_some, xwas (show n + 1 < 12 by omega), a1, nI_pred, xwst (show n < 12 by omega) (show 15 + p (n + 1) < 118 by omega), xchd (show n + 1 < 12 by omega), i1, xchs (show n < 12 by omega), rotP_s, nI_1]
    exact ih (n + 1) m (by omega) (by omega)
theorem rotP_0 : rotP ev w p 0 = w := by
  refine Prod.ext rfl (Prod.ext (funext fun q => funext fun j => ?_) (Prod.ext (funext fun q => funext fun j => ?_) rfl))
  · show (if q = 27 ∧ j < 0 then _ else w.2.1 q j) = w.2.1 q j
    rw [if_neg (by omega)]
  · show (if q = 26 ∧ j < 0 then some (ev.1 + cr (15 + p (j + 1))) else w.2.2.1 q j) = w.2.2.1 q j
    rw [if_neg (by omega)]
theorem X0_keeps_full (hf : 20 ≤ fu) (hk : k < 6) (hC : w.2.1 0 8 = 12) (hp : Wp ev w p) : f_X0_keeps fu ev (mem ev w) ev.1 (nI k) = some ((), mem ev (wI (wI (setC (rotW ev w p) (15 + p 0) (cv w (3 + 2 * k))) 27 11 (nI k)) 0 8 12)) := by
  have h0 := hp 0 (by decide)
  have hL := L_rot (fu := fu) (x := nI k) (a := some (ev.1 + cr (15 + p 0))) hp 11 0 fu (by decide) (by omega)
  rw [rotP_0] at hL
  have hL : L_X0_keeps_18 fu ev fu (mem ev w) ev.1 (nI k) (some (ev.1 + cr (15 + p 0))) 1 = b_X0_keeps_58 fu ev (mem ev (rotP ev w p 11)) ev.1 (nI k) (some (ev.1 + cr (15 + p 0))) := hL
  have r8 : (rotW ev w p).2.1 0 8 = 11 := rfl
  have q8 : (wA (rotP ev w p 11) 26 11 (some (ev.1 + cr (15 + p 0)))).2.1 0 8 = 12 := hC
  have r26 : (rotW ev w p).2.2.1 26 11 = some (ev.1 + cr (15 + p 0)) := rfl
  have c3 : cv (rotW ev w p) (3 + 2 * k) = cv w (3 + 2 * k) := rfl
  have hw0 : (setC (rotW ev w p) (15 + p 0) (cv w (3 + 2 * k))).2.1 0 8 = 11 := rfl
  have hw1 : (wI (setC (rotW ev w p) (15 + p 0) (cv w (3 + 2 * k))) 27 11 (nI k)).2.1 0 8 = 11 := rfl
  simp only [f_X0_keeps, b_X0_keeps_0, b_X0_keeps_9, xi8, hC, Option.bind_some, reduceIte, xf6, xwas_0, h0.1, hL]
  simp only [b_X0_keeps_58, b_X0_keeps_76, xf0, xf6, xf7, xi8, Option.bind_some, xwst_11 (show 15 + p 0 < 118 by omega), q8, Int32.reduceSub, xp8, rotP_e, r8, xwas_11, r26, xcells hk, cis (show 15 + p 0 < 118 by omega), X1_takes (show 15 + p 0 < 118 by omega) (show 3 + 2 * k < 118 by omega) (show 3 + 2 * k ≠ 15 + p 0 by omega) (show 4 ≤ fu by omega), c3, bd2, hw0, xchs_11, hw1, Int32.reduceAdd]
theorem X2_remembers_full (hf : 10 ≤ fu) (hk : k < 6) (hC : w.2.1 966 9 = nI 12) (hF : w.2.1 966 10 = nI F) (hF12 : F < 12) : f_X2_remembers fu ev (mem ev w) (ev.1 + 966) (nI k) = some ((), mem ev (setS (wI (wI w 966 10 (nI ((F + 1) % 12))) 973 F (nI k)) (14 + F) (sl w k))) := by
  have hm : (F + 1) % 12 < 12 := Nat.mod_lt _ (by decide)
  have hpl : ((F + 1) % 12 + 11) % 12 = F := by omega
  have hw1 : (wI w 966 10 (nI ((F + 1) % 12))).2.1 966 9 = nI 12 := by
    rw [wI_ne (by omega)]; exact hC
  have hmv : f_X2_moves fu ev (mem ev (wI (wI w 966 10 (nI ((F + 1) % 12))) 973 F (nI k))) (ev.1 + 966) (nI k) (14 + nI F) = some ((), mem ev (setS (wI (wI w 966 10 (nI ((F + 1) % 12))) 973 F (nI k)) (14 + F) (sl w k))) := by
    rw [show (14 : Int32) + nI F = nI (14 + F) from nI_add 14 _]
    exact X2_moves (by omega) (by omega) (by omega) hf
  have e12 : (nI 12 = (12 : Int32)) = True := eq_true rfl
  have pl : nI ((F + 1) % 12) + nI 12 - 1 = nI ((F + 1) % 12 + 11) := place_ok (C := 11) hm (by decide)
  simp only [b_X2_remembers_35, b_X2_remembers_25, b_X2_remembers_9, b_X2_remembers_0, f_X2_remembers, mis, mi9, mi10, mp10, mf16, hC, hF, e12, nI_1, nI_mod (show F + 1 < 2 ^ 31 by omega), hw1, wI_same, pl, nI_mod (show (F + 1) % 12 + 11 < 2 ^ 31 by omega), hpl, mcs hF12, hmv, Option.bind_some, bd2, b01, if_true, if_false, not_true_eq_false, not_false_eq_true, Bool.false_eq_true, eq_self, Int32.reduceAdd, Int32.reduceMul, Int32.reduceLE, Int32.reduceLT, reduceIte, ie_0_1, ie_0_2, ie_0_3, ie_0_4, ie_0_5, ie_0_6, ie_0_7, ie_0_8, ie_0_9, ie_1_0, ie_1_2, ie_1_3, ie_1_4, ie_1_5, ie_1_6, ie_1_7, ie_1_8, ie_1_9, ie_2_0, ie_2_1, ie_2_3, ie_2_4, ie_2_5, ie_2_6, ie_2_7, ie_2_8, ie_2_9, ie_3_0, ie_3_1, ie_3_2, ie_3_4, ie_3_5, ie_3_6, ie_3_7, ie_3_8, ie_3_9, ie_4_0, ie_4_1, ie_4_2, ie_4_3, ie_4_5, ie_4_6, ie_4_7, ie_4_8, ie_4_9, ie_5_0, ie_5_1, ie_5_2, ie_5_3, ie_5_4, ie_5_6, ie_5_7, ie_5_8, ie_5_9, ie_6_0, ie_6_1, ie_6_2, ie_6_3, ie_6_4, ie_6_5, ie_6_7, ie_6_8, ie_6_9, ie_7_0, ie_7_1, ie_7_2, ie_7_3, ie_7_4, ie_7_5, ie_7_6, ie_7_8, ie_7_9, ie_8_0, ie_8_1, ie_8_2, ie_8_3, ie_8_4, ie_8_5, ie_8_6, ie_8_7, ie_8_9, ie_9_0, ie_9_1, ie_9_2, ie_9_3, ie_9_4, ie_9_5, ie_9_6, ie_9_7, ie_9_8, nI_1, nI_pred, setC_21, setS_21, wI_same]
theorem X0_undo_0 (hC : w.2.1 0 8 = 0) : f_X0_undo fu ev (mem ev w) ev.1 = some (-5, mem ev w) := by
  simp only [b_X0_undo_10, b_X0_undo_7, b_X0_undo_0, f_X0_undo, xi8, hC, Option.bind_some, bd2, b01, if_true, if_false, not_true_eq_false, not_false_eq_true, Bool.false_eq_true, eq_self, Int32.reduceAdd, Int32.reduceMul, Int32.reduceLE, Int32.reduceLT, reduceIte, Int32.add_assoc, ie_0_1, ie_0_2, ie_0_3, ie_0_4, ie_0_5, ie_0_6, ie_0_7, ie_0_8, ie_0_9, ie_1_0, ie_1_2, ie_1_3, ie_1_4, ie_1_5, ie_1_6, ie_1_7, ie_1_8, ie_1_9, ie_2_0, ie_2_1, ie_2_3, ie_2_4, ie_2_5, ie_2_6, ie_2_7, ie_2_8, ie_2_9, ie_3_0, ie_3_1, ie_3_2, ie_3_4, ie_3_5, ie_3_6, ie_3_7, ie_3_8, ie_3_9, ie_4_0, ie_4_1, ie_4_2, ie_4_3, ie_4_5, ie_4_6, ie_4_7, ie_4_8, ie_4_9, ie_5_0, ie_5_1, ie_5_2, ie_5_3, ie_5_4, ie_5_6, ie_5_7, ie_5_8, ie_5_9, ie_6_0, ie_6_1, ie_6_2, ie_6_3, ie_6_4, ie_6_5, ie_6_7, ie_6_8, ie_6_9, ie_7_0, ie_7_1, ie_7_2, ie_7_3, ie_7_4, ie_7_5, ie_7_6, ie_7_8, ie_7_9, ie_8_0, ie_8_1, ie_8_2, ie_8_3, ie_8_4, ie_8_5, ie_8_6, ie_8_7, ie_8_9, ie_9_0, ie_9_1, ie_9_2, ie_9_3, ie_9_4, ie_9_5, ie_9_6, ie_9_7, ie_9_8, nI_1, nI_pred, setC_21, setS_21, wI_same]
theorem X2_undo_0 (hC : w.2.1 966 9 = 0) : f_X2_undo fu ev (mem ev w) (ev.1 + 966) = some (-5, mem ev w) := by
  simp only [b_X2_undo_10, b_X2_undo_7, b_X2_undo_0, f_X2_undo, mi9, hC, Option.bind_some, bd2, b01, if_true, if_false, not_true_eq_false, not_false_eq_true, Bool.false_eq_true, eq_self, Int32.reduceAdd, Int32.reduceMul, Int32.reduceLE, Int32.reduceLT, reduceIte, Int32.add_assoc, ie_0_1, ie_0_2, ie_0_3, ie_0_4, ie_0_5, ie_0_6, ie_0_7, ie_0_8, ie_0_9, ie_1_0, ie_1_2, ie_1_3, ie_1_4, ie_1_5, ie_1_6, ie_1_7, ie_1_8, ie_1_9, ie_2_0, ie_2_1, ie_2_3, ie_2_4, ie_2_5, ie_2_6, ie_2_7, ie_2_8, ie_2_9, ie_3_0, ie_3_1, ie_3_2, ie_3_4, ie_3_5, ie_3_6, ie_3_7, ie_3_8, ie_3_9, ie_4_0, ie_4_1, ie_4_2, ie_4_3, ie_4_5, ie_4_6, ie_4_7, ie_4_8, ie_4_9, ie_5_0, ie_5_1, ie_5_2, ie_5_3, ie_5_4, ie_5_6, ie_5_7, ie_5_8, ie_5_9, ie_6_0, ie_6_1, ie_6_2, ie_6_3, ie_6_4, ie_6_5, ie_6_7, ie_6_8, ie_6_9, ie_7_0, ie_7_1, ie_7_2, ie_7_3, ie_7_4, ie_7_5, ie_7_6, ie_7_8, ie_7_9, ie_8_0, ie_8_1, ie_8_2, ie_8_3, ie_8_4, ie_8_5, ie_8_6, ie_8_7, ie_8_9, ie_9_0, ie_9_1, ie_9_2, ie_9_3, ie_9_4, ie_9_5, ie_9_6, ie_9_7, ie_9_8, nI_1, nI_pred, setC_21, setS_21, wI_same]
theorem nI_s0 (h : C < 100) : (nI (C + 1) = 0) = False := eq_false (fun e => nI_ne0 (by omega) (by omega) e)
theorem X0_undo_s (hf : 4 ≤ fu) (hC : w.2.1 0 8 = nI (C + 1)) (h12 : C < 12) (hp : Wp ev w p) (hk : w.2.1 27 C = nI k) (hk6 : k < 6) : f_X0_undo fu ev (mem ev w) ev.1 = some (nI k, mem ev (setC (wI w 0 8 (nI C)) (3 + 2 * k) (cv w (15 + p C)))) := by
  have hpC := hp C h12
  have hw1 : (wI w 0 8 (nI C)).2.1 27 C = nI k := by rw [wI_ne (by omega)]; exact hk
  have hw2 : (wI w 0 8 (nI C)).2.2.1 26 C = some (ev.1 + cr (15 + p C)) := hpC.1
  simp only [b_X0_undo_10, b_X0_undo_7, b_X0_undo_0, f_X0_undo, xi8, hC, nI_s0 (show C < 100 by omega), nI_pred, xp8, wI_same, xf0, xf6, xf7, xchd h12, hw1, xcells hk6, xwas h12, hw2, cis (show 3 + 2 * k < 118 by omega), X1_takes (show 3 + 2 * k < 118 by omega) (show 15 + p C < 118 by omega) (show 15 + p C ≠ 3 + 2 * k by omega) hf, cv_wI, Option.bind_some, bd2, b01, if_true, if_false, not_true_eq_false, not_false_eq_true, Bool.false_eq_true, eq_self, Int32.reduceAdd, Int32.reduceMul, Int32.reduceLE, Int32.reduceLT, reduceIte, Int32.add_assoc, ie_0_1, ie_0_2, ie_0_3, ie_0_4, ie_0_5, ie_0_6, ie_0_7, ie_0_8, ie_0_9, ie_1_0, ie_1_2, ie_1_3, ie_1_4, ie_1_5, ie_1_6, ie_1_7, ie_1_8, ie_1_9, ie_2_0, ie_2_1, ie_2_3, ie_2_4, ie_2_5, ie_2_6, ie_2_7, ie_2_8, ie_2_9, ie_3_0, ie_3_1, ie_3_2, ie_3_4, ie_3_5, ie_3_6, ie_3_7, ie_3_8, ie_3_9, ie_4_0, ie_4_1, ie_4_2, ie_4_3, ie_4_5, ie_4_6, ie_4_7, ie_4_8, ie_4_9, ie_5_0, ie_5_1, ie_5_2, ie_5_3, ie_5_4, ie_5_6, ie_5_7, ie_5_8, ie_5_9, ie_6_0, ie_6_1, ie_6_2, ie_6_3, ie_6_4, ie_6_5, ie_6_7, ie_6_8, ie_6_9, ie_7_0, ie_7_1, ie_7_2, ie_7_3, ie_7_4, ie_7_5, ie_7_6, ie_7_8, ie_7_9, ie_8_0, ie_8_1, ie_8_2, ie_8_3, ie_8_4, ie_8_5, ie_8_6, ie_8_7, ie_8_9, ie_9_0, ie_9_1, ie_9_2, ie_9_3, ie_9_4, ie_9_5, ie_9_6, ie_9_7, ie_9_8, nI_1, nI_pred, setC_21, setS_21, wI_same]
theorem X2_undo_s (hf : 10 ≤ fu) (hC : w.2.1 966 9 = nI (C + 1)) (h12 : C < 12) (hF : w.2.1 966 10 = nI F) (hF12 : F < 12) (hk : w.2.1 973 ((F + C) % 12) = nI k) (hk6 : k < 6) : f_X2_undo fu ev (mem ev w) (ev.1 + 966) = some (nI k, mem ev (setS (wI w 966 9 (nI C)) k (sl w (14 + (F + C) % 12)))) := by
  have hm : (F + C) % 12 < 12 := Nat.mod_lt _ (by decide)
  have hw1 : (wI w 966 9 (nI C)).2.1 966 10 = nI F := by rw [wI_ne (by omega)]; exact hF
  have hw2 : (wI w 966 9 (nI C)).2.1 973 ((F + C) % 12) = nI k := by rw [wI_ne (by omega)]; exact hk
  have hmv : f_X2_moves fu ev (mem ev (wI w 966 9 (nI C))) (ev.1 + 966) (14 + nI ((F + C) % 12)) (nI k) = some ((), mem ev (setS (wI w 966 9 (nI C)) k (sl w (14 + (F + C) % 12)))) := by
    rw [show (14 : Int32) + nI ((F + C) % 12) = nI (14 + (F + C) % 12) from nI_add 14 _]
    exact X2_moves (by omega) (by omega) (by omega) hf
  simp only [b_X2_undo_10, b_X2_undo_7, b_X2_undo_0, f_X2_undo, mis, mi9, mi10, mp9, mf16, hC, nI_s0 (show C < 100 by omega), nI_pred, hw1, wI_same, nI_add, nI_mod (show F + C < 2 ^ 31 by omega), mcl hm, hw2, hmv, Option.bind_some, bd2, b01, if_true, if_false, not_true_eq_false, not_false_eq_true, Bool.false_eq_true, eq_self, Int32.reduceAdd, Int32.reduceMul, Int32.reduceLE, Int32.reduceLT, reduceIte, ie_0_1, ie_0_2, ie_0_3, ie_0_4, ie_0_5, ie_0_6, ie_0_7, ie_0_8, ie_0_9, ie_1_0, ie_1_2, ie_1_3, ie_1_4, ie_1_5, ie_1_6, ie_1_7, ie_1_8, ie_1_9, ie_2_0, ie_2_1, ie_2_3, ie_2_4, ie_2_5, ie_2_6, ie_2_7, ie_2_8, ie_2_9, ie_3_0, ie_3_1, ie_3_2, ie_3_4, ie_3_5, ie_3_6, ie_3_7, ie_3_8, ie_3_9, ie_4_0, ie_4_1, ie_4_2, ie_4_3, ie_4_5, ie_4_6, ie_4_7, ie_4_8, ie_4_9, ie_5_0, ie_5_1, ie_5_2, ie_5_3, ie_5_4, ie_5_6, ie_5_7, ie_5_8, ie_5_9, ie_6_0, ie_6_1, ie_6_2, ie_6_3, ie_6_4, ie_6_5, ie_6_7, ie_6_8, ie_6_9, ie_7_0, ie_7_1, ie_7_2, ie_7_3, ie_7_4, ie_7_5, ie_7_6, ie_7_8, ie_7_9, ie_8_0, ie_8_1, ie_8_2, ie_8_3, ie_8_4, ie_8_5, ie_8_6, ie_8_7, ie_8_9, ie_9_0, ie_9_1, ie_9_2, ie_9_3, ie_9_4, ie_9_5, ie_9_6, ie_9_7, ie_9_8, nI_1, nI_pred, setC_21, setS_21, wI_same]
end XO9
