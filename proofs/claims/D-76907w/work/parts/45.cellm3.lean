/-! THE METHODS OF A CELL, upon the world (3): turnsBy, goes, steps -/
section XCM3
variable {ev : Ev} {w : Wd} {c c2 fu : Nat} {k : Int64}
/-- isTurned -/
def upT (t : Nat → Int32) (i : Nat) (x : Int32) : Nat → Int32 := fun j => if j = i then x else t j
def tv (w : Wd) (c : Nat) : Nat → Int32 := fun j => w.2.1 (cr c + 7) j
def setT (w : Wd) (c : Nat) (t : Nat → Int32) : Wd := (w.1, fun q i => if q = cr c + 7 then t i else w.2.1 q i, w.2.2)
theorem upT_at {t : Nat → Int32} {i j : Nat} {x : Int32} : upT t i x j = if j = i then x else t j := rfl
theorem tv_self {t : Nat → Int32} : tv (setT w c t) c = t := by
  funext j
  show (if cr c + 7 = cr c + 7 then t j else _) = t j
  rw [if_pos rfl]
theorem setT_setT {t t' : Nat → Int32} : setT (setT w c t) c t' = setT w c t' := by
  refine Prod.ext rfl (Prod.ext (funext fun q => funext fun i => ?_) rfl)
  show (if q = cr c + 7 then t' i else if q = cr c + 7 then t i else w.2.1 q i) = if q = cr c + 7 then t' i else w.2.1 q i
  split <;> rfl
theorem setT_setC {t : Nat → Int32} {v : Nat → Int64} : setT (setC w c v) c t = setC (setT w c t) c v := rfl
theorem cv_setT {t : Nat → Int32} : cv (setT w c t) c2 = cv w c2 := rfl
theorem tv_setC {v : Nat → Int64} : tv (setC w c v) c2 = tv w c2 := rfl
theorem wI_T {i : Nat} {x : Int32} : wI w (cr c + 7) i x = setT w c (upT (tv w c) i x) := by
  refine Prod.ext rfl (Prod.ext (funext fun q => funext fun j => ?_) rfl)
  show (if q = cr c + 7 ∧ j = i then x else w.2.1 q j) = if q = cr c + 7 then (if j = i then x else w.2.1 (cr c + 7) j) else w.2.1 q j
  by_cases hq : q = cr c + 7
  · subst hq
    by_cases hj : j = i
    · rw [if_pos ⟨rfl, hj⟩, if_pos rfl, if_pos hj]
    · rw [if_neg (fun z => hj z.2), if_pos rfl, if_neg hj]
  · rw [if_neg (fun z => hq z.1), if_neg hq]
theorem tl0 (h : c < 118) : aldI 2 (mem ev w) (ev.1 + (cr c + 7)) (0 : Int32) = some (tv w c 0) := by
  have h1 := cr_lt h
  rw [ldI (r := cr c + 7) (κ := 2) (n := 3) (dsC (q := 7) h (by decide)) (by omega) (vpl rfl)]
  rfl
theorem ts00 (h : c < 118) : astI ev 2 (mem ev w) (ev.1 + (cr c + 7)) (0 : Int32) (0 : Int32) = some (mem ev (setT w c (upT (tv w c) 0 0))) := by
  have h1 := cr_lt h
  rw [stI (r := cr c + 7) (κ := 2) (n := 3) (dsC (q := 7) h (by decide)) (by omega) (vpl rfl), wI_T]
  rfl
theorem ts01 (h : c < 118) : astI ev 2 (mem ev w) (ev.1 + (cr c + 7)) (0 : Int32) (1 : Int32) = some (mem ev (setT w c (upT (tv w c) 0 1))) := by
  have h1 := cr_lt h
  rw [stI (r := cr c + 7) (κ := 2) (n := 3) (dsC (q := 7) h (by decide)) (by omega) (vpl rfl), wI_T]
  rfl
theorem tl1 (h : c < 118) : aldI 2 (mem ev w) (ev.1 + (cr c + 7)) (1 : Int32) = some (tv w c 1) := by
  have h1 := cr_lt h
  rw [ldI (r := cr c + 7) (κ := 2) (n := 3) (dsC (q := 7) h (by decide)) (by omega) (vpl rfl)]
  rfl
theorem ts10 (h : c < 118) : astI ev 2 (mem ev w) (ev.1 + (cr c + 7)) (1 : Int32) (0 : Int32) = some (mem ev (setT w c (upT (tv w c) 1 0))) := by
  have h1 := cr_lt h
  rw [stI (r := cr c + 7) (κ := 2) (n := 3) (dsC (q := 7) h (by decide)) (by omega) (vpl rfl), wI_T]
  rfl
theorem ts11 (h : c < 118) : astI ev 2 (mem ev w) (ev.1 + (cr c + 7)) (1 : Int32) (1 : Int32) = some (mem ev (setT w c (upT (tv w c) 1 1))) := by
  have h1 := cr_lt h
  rw [stI (r := cr c + 7) (κ := 2) (n := 3) (dsC (q := 7) h (by decide)) (by omega) (vpl rfl), wI_T]
  rfl
theorem tl2 (h : c < 118) : aldI 2 (mem ev w) (ev.1 + (cr c + 7)) (2 : Int32) = some (tv w c 2) := by
  have h1 := cr_lt h
  rw [ldI (r := cr c + 7) (κ := 2) (n := 3) (dsC (q := 7) h (by decide)) (by omega) (vpl rfl)]
  rfl
theorem ts20 (h : c < 118) : astI ev 2 (mem ev w) (ev.1 + (cr c + 7)) (2 : Int32) (0 : Int32) = some (mem ev (setT w c (upT (tv w c) 2 0))) := by
  have h1 := cr_lt h
  rw [stI (r := cr c + 7) (κ := 2) (n := 3) (dsC (q := 7) h (by decide)) (by omega) (vpl rfl), wI_T]
  rfl
theorem ts21 (h : c < 118) : astI ev 2 (mem ev w) (ev.1 + (cr c + 7)) (2 : Int32) (1 : Int32) = some (mem ev (setT w c (upT (tv w c) 2 1))) := by
  have h1 := cr_lt h
  rw [stI (r := cr c + 7) (κ := 2) (n := 3) (dsC (q := 7) h (by decide)) (by omega) (vpl rfl), wI_T]
  rfl
def tu3 (v : Nat → Int64) (a b d : Bool) : Nat → Int64 := let v1 := if a = true then sTurn v 0 else v; let v2 := if b = true then sTurn v1 1 else v1; if d = true then sTurn v2 2 else v2
theorem sP {x : Int64} (h : 0 < x) : ((x ≤ 0) = False) ∧ ((x = 0) = False) ∧ ((0 ≤ x) = True) := ⟨eq_false (Int64.not_le.mpr h), eq_false (fun e => by rw [e] at h; exact Int64.lt_irrefl h), eq_true (Int64.le_of_lt h)⟩
theorem sZ {x : Int64} (h : x = 0) : ((x ≤ 0) = True) ∧ ((x = 0) = True) ∧ ((0 ≤ x) = True) := by subst h; exact ⟨eq_true (by decide), eq_true rfl, eq_true (by decide)⟩
theorem sN {x : Int64} (h : x < 0) : ((x ≤ 0) = True) ∧ ((x = 0) = False) ∧ ((0 ≤ x) = False) := ⟨eq_true (Int64.le_of_lt h), eq_false (fun e => by rw [e] at h; exact Int64.lt_irrefl h), eq_false (Int64.not_le.mpr h)⟩
theorem setC_turn {w0 : Wd} {v : Nat → Int64} {i : Nat} : setC w c (sTurn (cv (setC w0 c v) c) i) = setC w c (sTurn v i) := setC_ext fun j hj => by simp only [sTurn, cv_self hj]
theorem setC_turn3 {w0 : Wd} {v : Nat → Int64} {i k l : Nat} : setC w c (sTurn (sTurn (sTurn (cv (setC w0 c v) c) i) k) l) = setC w c (sTurn (sTurn (sTurn v i) k) l) := setC_ext fun j hj => by simp only [sTurn, cv_self hj]
theorem setC_setT {t : Nat → Int32} {v : Nat → Int64} : setT (setC w c v) c t = setC (setT w c t) c v := rfl
theorem X1_turnsBy_0_PNN (h : c < 118) (hf : 4 ≤ fu) (s0 : 0 < cv w c 3) (s1 : cv w c 4 < 0) (s2 : cv w c 5 < 0) : f_X1_turnsBy fu ev (mem ev w) (ev.1 + cr c) 0 = some ((), mem ev (setC (setT w c (upT (upT (upT (tv w c) 0 0) 1 1) 2 1)) c (tu3 (cv w c) false true true))) := by
  obtain ⟨m, hm⟩ : ∃ m, fu = m + 4 := ⟨fu - 4, by omega⟩
  have hL : ∀ σ x0 x1 x2 x3 x4, L_X1_turnsBy_7 fu ev fu σ x0 x1 x2 x3 x4 = L_X1_turnsBy_7 fu ev (m + 4) σ x0 x1 x2 x3 x4 := fun _ _ _ _ _ _ => by rw [← hm]
  have hL2 : ∀ σ x0 x1, L_X1_turnsBy_119 fu ev fu σ x0 x1 = L_X1_turnsBy_119 fu ev (m + 4) σ x0 x1 := fun _ _ _ => by rw [← hm]
  simp only [f_X1_turnsBy, b_X1_turnsBy_0, hL]
  simp only [b_X1_turnsBy_147, b_X1_turnsBy_141, b_X1_turnsBy_135, b_X1_turnsBy_125, b_X1_turnsBy_119, L_X1_turnsBy_119, b_X1_turnsBy_116, b_X1_turnsBy_109, b_X1_turnsBy_104, b_X1_turnsBy_97, b_X1_turnsBy_96, b_X1_turnsBy_91, b_X1_turnsBy_77, b_X1_turnsBy_76, b_X1_turnsBy_72, b_X1_turnsBy_60, b_X1_turnsBy_59, b_X1_turnsBy_55, b_X1_turnsBy_43, b_X1_turnsBy_39, b_X1_turnsBy_35, b_X1_turnsBy_23, b_X1_turnsBy_13, b_X1_turnsBy_7, L_X1_turnsBy_7, b_X1_turnsBy_0, f_X1_turnsBy, hL2, bd2, Option.bind_some, setC_set, setC_turn, cv_setT, tv_setC, tv_self, setT_setT, setT_setC, upT_at, cf0 h, cf1 h, cf2 h, cf3 h, cis h, cl10 h, cl11 h, cl12 h, cl20 h, cl21 h, cl22 h, cl40 h, cl41 h, cl42 h, cl50 h, cl51 h, cl52 h, cl60 h, cl61 h, cl62 h, tl0 h, tl1 h, tl2 h, ts00 h, ts01 h, ts10 h, ts11 h, ts20 h, ts21 h, X1_turns_0 h hf, X1_turns_1 h hf, X1_turns_2 h hf, (sP s0).1, (sP s0).2.1, (sP s0).2.2, (sN s1).1, (sN s1).2.1, (sN s1).2.2, (sN s2).1, (sN s2).2.1, (sN s2).2.2, Int32.reduceAdd, Int32.reduceLE, Int32.reduceLT, Nat.reduceEqDiff, reduceIte, ie_0_1, ie_0_2, ie_0_3, ie_1_0, ie_1_2, ie_1_3, ie_2_0, ie_2_1, ie_2_3, ie_3_0, ie_3_1, ie_3_2, ie_m]
  rfl
theorem X1_turnsBy_0_NPN (h : c < 118) (hf : 4 ≤ fu) (s0 : cv w c 3 < 0) (s1 : 0 < cv w c 4) (s2 : cv w c 5 < 0) : f_X1_turnsBy fu ev (mem ev w) (ev.1 + cr c) 0 = some ((), mem ev (setC (setT w c (upT (upT (upT (tv w c) 0 1) 1 0) 2 1)) c (tu3 (cv w c) true false true))) := by
  obtain ⟨m, hm⟩ : ∃ m, fu = m + 4 := ⟨fu - 4, by omega⟩
  have hL : ∀ σ x0 x1 x2 x3 x4, L_X1_turnsBy_7 fu ev fu σ x0 x1 x2 x3 x4 = L_X1_turnsBy_7 fu ev (m + 4) σ x0 x1 x2 x3 x4 := fun _ _ _ _ _ _ => by rw [← hm]
  have hL2 : ∀ σ x0 x1, L_X1_turnsBy_119 fu ev fu σ x0 x1 = L_X1_turnsBy_119 fu ev (m + 4) σ x0 x1 := fun _ _ _ => by rw [← hm]
  simp only [f_X1_turnsBy, b_X1_turnsBy_0, hL]
  simp only [b_X1_turnsBy_147, b_X1_turnsBy_141, b_X1_turnsBy_135, b_X1_turnsBy_125, b_X1_turnsBy_119, L_X1_turnsBy_119, b_X1_turnsBy_116, b_X1_turnsBy_109, b_X1_turnsBy_104, b_X1_turnsBy_97, b_X1_turnsBy_96, b_X1_turnsBy_91, b_X1_turnsBy_77, b_X1_turnsBy_76, b_X1_turnsBy_72, b_X1_turnsBy_60, b_X1_turnsBy_59, b_X1_turnsBy_55, b_X1_turnsBy_43, b_X1_turnsBy_39, b_X1_turnsBy_35, b_X1_turnsBy_23, b_X1_turnsBy_13, b_X1_turnsBy_7, L_X1_turnsBy_7, b_X1_turnsBy_0, f_X1_turnsBy, hL2, bd2, Option.bind_some, setC_set, setC_turn, cv_setT, tv_setC, tv_self, setT_setT, setT_setC, upT_at, cf0 h, cf1 h, cf2 h, cf3 h, cis h, cl10 h, cl11 h, cl12 h, cl20 h, cl21 h, cl22 h, cl40 h, cl41 h, cl42 h, cl50 h, cl51 h, cl52 h, cl60 h, cl61 h, cl62 h, tl0 h, tl1 h, tl2 h, ts00 h, ts01 h, ts10 h, ts11 h, ts20 h, ts21 h, X1_turns_0 h hf, X1_turns_1 h hf, X1_turns_2 h hf, (sN s0).1, (sN s0).2.1, (sN s0).2.2, (sP s1).1, (sP s1).2.1, (sP s1).2.2, (sN s2).1, (sN s2).2.1, (sN s2).2.2, Int32.reduceAdd, Int32.reduceLE, Int32.reduceLT, Nat.reduceEqDiff, reduceIte, ie_0_1, ie_0_2, ie_0_3, ie_1_0, ie_1_2, ie_1_3, ie_2_0, ie_2_1, ie_2_3, ie_3_0, ie_3_1, ie_3_2, ie_m]
  rfl
theorem X1_turnsBy_0_NNP (h : c < 118) (hf : 4 ≤ fu) (s0 : cv w c 3 < 0) (s1 : cv w c 4 < 0) (s2 : 0 < cv w c 5) : f_X1_turnsBy fu ev (mem ev w) (ev.1 + cr c) 0 = some ((), mem ev (setC (setT w c (upT (upT (upT (tv w c) 0 1) 1 1) 2 0)) c (tu3 (cv w c) true true false))) := by
  obtain ⟨m, hm⟩ : ∃ m, fu = m + 4 := ⟨fu - 4, by omega⟩
  have hL : ∀ σ x0 x1 x2 x3 x4, L_X1_turnsBy_7 fu ev fu σ x0 x1 x2 x3 x4 = L_X1_turnsBy_7 fu ev (m + 4) σ x0 x1 x2 x3 x4 := fun _ _ _ _ _ _ => by rw [← hm]
  have hL2 : ∀ σ x0 x1, L_X1_turnsBy_119 fu ev fu σ x0 x1 = L_X1_turnsBy_119 fu ev (m + 4) σ x0 x1 := fun _ _ _ => by rw [← hm]
  simp only [f_X1_turnsBy, b_X1_turnsBy_0, hL]
  simp only [b_X1_turnsBy_147, b_X1_turnsBy_141, b_X1_turnsBy_135, b_X1_turnsBy_125, b_X1_turnsBy_119, L_X1_turnsBy_119, b_X1_turnsBy_116, b_X1_turnsBy_109, b_X1_turnsBy_104, b_X1_turnsBy_97, b_X1_turnsBy_96, b_X1_turnsBy_91, b_X1_turnsBy_77, b_X1_turnsBy_76, b_X1_turnsBy_72, b_X1_turnsBy_60, b_X1_turnsBy_59, b_X1_turnsBy_55, b_X1_turnsBy_43, b_X1_turnsBy_39, b_X1_turnsBy_35, b_X1_turnsBy_23, b_X1_turnsBy_13, b_X1_turnsBy_7, L_X1_turnsBy_7, b_X1_turnsBy_0, f_X1_turnsBy, hL2, bd2, Option.bind_some, setC_set, setC_turn, cv_setT, tv_setC, tv_self, setT_setT, setT_setC, upT_at, cf0 h, cf1 h, cf2 h, cf3 h, cis h, cl10 h, cl11 h, cl12 h, cl20 h, cl21 h, cl22 h, cl40 h, cl41 h, cl42 h, cl50 h, cl51 h, cl52 h, cl60 h, cl61 h, cl62 h, tl0 h, tl1 h, tl2 h, ts00 h, ts01 h, ts10 h, ts11 h, ts20 h, ts21 h, X1_turns_0 h hf, X1_turns_1 h hf, X1_turns_2 h hf, (sN s0).1, (sN s0).2.1, (sN s0).2.2, (sN s1).1, (sN s1).2.1, (sN s1).2.2, (sP s2).1, (sP s2).2.1, (sP s2).2.2, Int32.reduceAdd, Int32.reduceLE, Int32.reduceLT, Nat.reduceEqDiff, reduceIte, ie_0_1, ie_0_2, ie_0_3, ie_1_0, ie_1_2, ie_1_3, ie_2_0, ie_2_1, ie_2_3, ie_3_0, ie_3_1, ie_3_2, ie_m]
  rfl
theorem X1_turnsBy_1_PPZ (h : c < 118) (hf : 4 ≤ fu) (s0 : 0 < cv w c 3) (s1 : 0 < cv w c 4) (s2 : cv w c 5 = 0) : f_X1_turnsBy fu ev (mem ev w) (ev.1 + cr c) 1 = some ((), mem ev (setC (setT w c (upT (upT (upT (tv w c) 0 1) 1 1) 2 0)) c (tu3 (cv w c) true true false))) := by
  obtain ⟨m, hm⟩ : ∃ m, fu = m + 4 := ⟨fu - 4, by omega⟩
  have hL : ∀ σ x0 x1 x2 x3 x4, L_X1_turnsBy_7 fu ev fu σ x0 x1 x2 x3 x4 = L_X1_turnsBy_7 fu ev (m + 4) σ x0 x1 x2 x3 x4 := fun _ _ _ _ _ _ => by rw [← hm]
  have hL2 : ∀ σ x0 x1, L_X1_turnsBy_119 fu ev fu σ x0 x1 = L_X1_turnsBy_119 fu ev (m + 4) σ x0 x1 := fun _ _ _ => by rw [← hm]
  simp only [f_X1_turnsBy, b_X1_turnsBy_0, hL]
  simp only [b_X1_turnsBy_147, b_X1_turnsBy_141, b_X1_turnsBy_135, b_X1_turnsBy_125, b_X1_turnsBy_119, L_X1_turnsBy_119, b_X1_turnsBy_116, b_X1_turnsBy_109, b_X1_turnsBy_104, b_X1_turnsBy_97, b_X1_turnsBy_96, b_X1_turnsBy_91, b_X1_turnsBy_77, b_X1_turnsBy_76, b_X1_turnsBy_72, b_X1_turnsBy_60, b_X1_turnsBy_59, b_X1_turnsBy_55, b_X1_turnsBy_43, b_X1_turnsBy_39, b_X1_turnsBy_35, b_X1_turnsBy_23, b_X1_turnsBy_13, b_X1_turnsBy_7, L_X1_turnsBy_7, b_X1_turnsBy_0, f_X1_turnsBy, hL2, bd2, Option.bind_some, setC_set, setC_turn, cv_setT, tv_setC, tv_self, setT_setT, setT_setC, upT_at, cf0 h, cf1 h, cf2 h, cf3 h, cis h, cl10 h, cl11 h, cl12 h, cl20 h, cl21 h, cl22 h, cl40 h, cl41 h, cl42 h, cl50 h, cl51 h, cl52 h, cl60 h, cl61 h, cl62 h, tl0 h, tl1 h, tl2 h, ts00 h, ts01 h, ts10 h, ts11 h, ts20 h, ts21 h, X1_turns_0 h hf, X1_turns_1 h hf, X1_turns_2 h hf, (sP s0).1, (sP s0).2.1, (sP s0).2.2, (sP s1).1, (sP s1).2.1, (sP s1).2.2, (sZ s2).1, (sZ s2).2.1, (sZ s2).2.2, Int32.reduceAdd, Int32.reduceLE, Int32.reduceLT, Nat.reduceEqDiff, reduceIte, ie_0_1, ie_0_2, ie_0_3, ie_1_0, ie_1_2, ie_1_3, ie_2_0, ie_2_1, ie_2_3, ie_3_0, ie_3_1, ie_3_2, ie_m]
  rfl
theorem X1_turnsBy_1_PPN (h : c < 118) (hf : 4 ≤ fu) (s0 : 0 < cv w c 3) (s1 : 0 < cv w c 4) (s2 : cv w c 5 < 0) : f_X1_turnsBy fu ev (mem ev w) (ev.1 + cr c) 1 = some ((), mem ev (setC (setT w c (upT (upT (upT (tv w c) 0 1) 1 1) 2 0)) c (tu3 (cv w c) true true false))) := by
  obtain ⟨m, hm⟩ : ∃ m, fu = m + 4 := ⟨fu - 4, by omega⟩
  have hL : ∀ σ x0 x1 x2 x3 x4, L_X1_turnsBy_7 fu ev fu σ x0 x1 x2 x3 x4 = L_X1_turnsBy_7 fu ev (m + 4) σ x0 x1 x2 x3 x4 := fun _ _ _ _ _ _ => by rw [← hm]
  have hL2 : ∀ σ x0 x1, L_X1_turnsBy_119 fu ev fu σ x0 x1 = L_X1_turnsBy_119 fu ev (m + 4) σ x0 x1 := fun _ _ _ => by rw [← hm]
  simp only [f_X1_turnsBy, b_X1_turnsBy_0, hL]
  simp only [b_X1_turnsBy_147, b_X1_turnsBy_141, b_X1_turnsBy_135, b_X1_turnsBy_125, b_X1_turnsBy_119, L_X1_turnsBy_119, b_X1_turnsBy_116, b_X1_turnsBy_109, b_X1_turnsBy_104, b_X1_turnsBy_97, b_X1_turnsBy_96, b_X1_turnsBy_91, b_X1_turnsBy_77, b_X1_turnsBy_76, b_X1_turnsBy_72, b_X1_turnsBy_60, b_X1_turnsBy_59, b_X1_turnsBy_55, b_X1_turnsBy_43, b_X1_turnsBy_39, b_X1_turnsBy_35, b_X1_turnsBy_23, b_X1_turnsBy_13, b_X1_turnsBy_7, L_X1_turnsBy_7, b_X1_turnsBy_0, f_X1_turnsBy, hL2, bd2, Option.bind_some, setC_set, setC_turn, cv_setT, tv_setC, tv_self, setT_setT, setT_setC, upT_at, cf0 h, cf1 h, cf2 h, cf3 h, cis h, cl10 h, cl11 h, cl12 h, cl20 h, cl21 h, cl22 h, cl40 h, cl41 h, cl42 h, cl50 h, cl51 h, cl52 h, cl60 h, cl61 h, cl62 h, tl0 h, tl1 h, tl2 h, ts00 h, ts01 h, ts10 h, ts11 h, ts20 h, ts21 h, X1_turns_0 h hf, X1_turns_1 h hf, X1_turns_2 h hf, (sP s0).1, (sP s0).2.1, (sP s0).2.2, (sP s1).1, (sP s1).2.1, (sP s1).2.2, (sN s2).1, (sN s2).2.1, (sN s2).2.2, Int32.reduceAdd, Int32.reduceLE, Int32.reduceLT, Nat.reduceEqDiff, reduceIte, ie_0_1, ie_0_2, ie_0_3, ie_1_0, ie_1_2, ie_1_3, ie_2_0, ie_2_1, ie_2_3, ie_3_0, ie_3_1, ie_3_2, ie_m]
  rfl
theorem X1_turnsBy_1_PZP (h : c < 118) (hf : 4 ≤ fu) (s0 : 0 < cv w c 3) (s1 : cv w c 4 = 0) (s2 : 0 < cv w c 5) : f_X1_turnsBy fu ev (mem ev w) (ev.1 + cr c) 1 = some ((), mem ev (setC (setT w c (upT (upT (upT (tv w c) 0 1) 1 0) 2 1)) c (tu3 (cv w c) true false true))) := by
  obtain ⟨m, hm⟩ : ∃ m, fu = m + 4 := ⟨fu - 4, by omega⟩
  have hL : ∀ σ x0 x1 x2 x3 x4, L_X1_turnsBy_7 fu ev fu σ x0 x1 x2 x3 x4 = L_X1_turnsBy_7 fu ev (m + 4) σ x0 x1 x2 x3 x4 := fun _ _ _ _ _ _ => by rw [← hm]
  have hL2 : ∀ σ x0 x1, L_X1_turnsBy_119 fu ev fu σ x0 x1 = L_X1_turnsBy_119 fu ev (m + 4) σ x0 x1 := fun _ _ _ => by rw [← hm]
  simp only [f_X1_turnsBy, b_X1_turnsBy_0, hL]
  simp only [b_X1_turnsBy_147, b_X1_turnsBy_141, b_X1_turnsBy_135, b_X1_turnsBy_125, b_X1_turnsBy_119, L_X1_turnsBy_119, b_X1_turnsBy_116, b_X1_turnsBy_109, b_X1_turnsBy_104, b_X1_turnsBy_97, b_X1_turnsBy_96, b_X1_turnsBy_91, b_X1_turnsBy_77, b_X1_turnsBy_76, b_X1_turnsBy_72, b_X1_turnsBy_60, b_X1_turnsBy_59, b_X1_turnsBy_55, b_X1_turnsBy_43, b_X1_turnsBy_39, b_X1_turnsBy_35, b_X1_turnsBy_23, b_X1_turnsBy_13, b_X1_turnsBy_7, L_X1_turnsBy_7, b_X1_turnsBy_0, f_X1_turnsBy, hL2, bd2, Option.bind_some, setC_set, setC_turn, cv_setT, tv_setC, tv_self, setT_setT, setT_setC, upT_at, cf0 h, cf1 h, cf2 h, cf3 h, cis h, cl10 h, cl11 h, cl12 h, cl20 h, cl21 h, cl22 h, cl40 h, cl41 h, cl42 h, cl50 h, cl51 h, cl52 h, cl60 h, cl61 h, cl62 h, tl0 h, tl1 h, tl2 h, ts00 h, ts01 h, ts10 h, ts11 h, ts20 h, ts21 h, X1_turns_0 h hf, X1_turns_1 h hf, X1_turns_2 h hf, (sP s0).1, (sP s0).2.1, (sP s0).2.2, (sZ s1).1, (sZ s1).2.1, (sZ s1).2.2, (sP s2).1, (sP s2).2.1, (sP s2).2.2, Int32.reduceAdd, Int32.reduceLE, Int32.reduceLT, Nat.reduceEqDiff, reduceIte, ie_0_1, ie_0_2, ie_0_3, ie_1_0, ie_1_2, ie_1_3, ie_2_0, ie_2_1, ie_2_3, ie_3_0, ie_3_1, ie_3_2, ie_m]
  rfl
theorem X1_turnsBy_1_PZZ (h : c < 118) (hf : 4 ≤ fu) (s0 : 0 < cv w c 3) (s1 : cv w c 4 = 0) (s2 : cv w c 5 = 0) : f_X1_turnsBy fu ev (mem ev w) (ev.1 + cr c) 1 = some ((), mem ev (setC (setT w c (upT (upT (upT (upT (tv w c) 0 1) 1 0) 2 0) 2 1)) c (tu3 (cv w c) true false true))) := by
  obtain ⟨m, hm⟩ : ∃ m, fu = m + 4 := ⟨fu - 4, by omega⟩
  have hL : ∀ σ x0 x1 x2 x3 x4, L_X1_turnsBy_7 fu ev fu σ x0 x1 x2 x3 x4 = L_X1_turnsBy_7 fu ev (m + 4) σ x0 x1 x2 x3 x4 := fun _ _ _ _ _ _ => by rw [← hm]
  have hL2 : ∀ σ x0 x1, L_X1_turnsBy_119 fu ev fu σ x0 x1 = L_X1_turnsBy_119 fu ev (m + 4) σ x0 x1 := fun _ _ _ => by rw [← hm]
  simp only [f_X1_turnsBy, b_X1_turnsBy_0, hL]
  simp only [b_X1_turnsBy_147, b_X1_turnsBy_141, b_X1_turnsBy_135, b_X1_turnsBy_125, b_X1_turnsBy_119, L_X1_turnsBy_119, b_X1_turnsBy_116, b_X1_turnsBy_109, b_X1_turnsBy_104, b_X1_turnsBy_97, b_X1_turnsBy_96, b_X1_turnsBy_91, b_X1_turnsBy_77, b_X1_turnsBy_76, b_X1_turnsBy_72, b_X1_turnsBy_60, b_X1_turnsBy_59, b_X1_turnsBy_55, b_X1_turnsBy_43, b_X1_turnsBy_39, b_X1_turnsBy_35, b_X1_turnsBy_23, b_X1_turnsBy_13, b_X1_turnsBy_7, L_X1_turnsBy_7, b_X1_turnsBy_0, f_X1_turnsBy, hL2, bd2, Option.bind_some, setC_set, setC_turn, cv_setT, tv_setC, tv_self, setT_setT, setT_setC, upT_at, cf0 h, cf1 h, cf2 h, cf3 h, cis h, cl10 h, cl11 h, cl12 h, cl20 h, cl21 h, cl22 h, cl40 h, cl41 h, cl42 h, cl50 h, cl51 h, cl52 h, cl60 h, cl61 h, cl62 h, tl0 h, tl1 h, tl2 h, ts00 h, ts01 h, ts10 h, ts11 h, ts20 h, ts21 h, X1_turns_0 h hf, X1_turns_1 h hf, X1_turns_2 h hf, (sP s0).1, (sP s0).2.1, (sP s0).2.2, (sZ s1).1, (sZ s1).2.1, (sZ s1).2.2, (sZ s2).1, (sZ s2).2.1, (sZ s2).2.2, Int32.reduceAdd, Int32.reduceLE, Int32.reduceLT, Nat.reduceEqDiff, reduceIte, ie_0_1, ie_0_2, ie_0_3, ie_1_0, ie_1_2, ie_1_3, ie_2_0, ie_2_1, ie_2_3, ie_3_0, ie_3_1, ie_3_2, ie_m]
  rfl
theorem X1_turnsBy_1_PZN (h : c < 118) (hf : 4 ≤ fu) (s0 : 0 < cv w c 3) (s1 : cv w c 4 = 0) (s2 : cv w c 5 < 0) : f_X1_turnsBy fu ev (mem ev w) (ev.1 + cr c) 1 = some ((), mem ev (setC (setT w c (upT (upT (upT (upT (tv w c) 0 1) 1 0) 2 0) 1 1)) c (tu3 (cv w c) true true false))) := by
  obtain ⟨m, hm⟩ : ∃ m, fu = m + 4 := ⟨fu - 4, by omega⟩
  have hL : ∀ σ x0 x1 x2 x3 x4, L_X1_turnsBy_7 fu ev fu σ x0 x1 x2 x3 x4 = L_X1_turnsBy_7 fu ev (m + 4) σ x0 x1 x2 x3 x4 := fun _ _ _ _ _ _ => by rw [← hm]
  have hL2 : ∀ σ x0 x1, L_X1_turnsBy_119 fu ev fu σ x0 x1 = L_X1_turnsBy_119 fu ev (m + 4) σ x0 x1 := fun _ _ _ => by rw [← hm]
  simp only [f_X1_turnsBy, b_X1_turnsBy_0, hL]
  simp only [b_X1_turnsBy_147, b_X1_turnsBy_141, b_X1_turnsBy_135, b_X1_turnsBy_125, b_X1_turnsBy_119, L_X1_turnsBy_119, b_X1_turnsBy_116, b_X1_turnsBy_109, b_X1_turnsBy_104, b_X1_turnsBy_97, b_X1_turnsBy_96, b_X1_turnsBy_91, b_X1_turnsBy_77, b_X1_turnsBy_76, b_X1_turnsBy_72, b_X1_turnsBy_60, b_X1_turnsBy_59, b_X1_turnsBy_55, b_X1_turnsBy_43, b_X1_turnsBy_39, b_X1_turnsBy_35, b_X1_turnsBy_23, b_X1_turnsBy_13, b_X1_turnsBy_7, L_X1_turnsBy_7, b_X1_turnsBy_0, f_X1_turnsBy, hL2, bd2, Option.bind_some, setC_set, setC_turn, cv_setT, tv_setC, tv_self, setT_setT, setT_setC, upT_at, cf0 h, cf1 h, cf2 h, cf3 h, cis h, cl10 h, cl11 h, cl12 h, cl20 h, cl21 h, cl22 h, cl40 h, cl41 h, cl42 h, cl50 h, cl51 h, cl52 h, cl60 h, cl61 h, cl62 h, tl0 h, tl1 h, tl2 h, ts00 h, ts01 h, ts10 h, ts11 h, ts20 h, ts21 h, X1_turns_0 h hf, X1_turns_1 h hf, X1_turns_2 h hf, (sP s0).1, (sP s0).2.1, (sP s0).2.2, (sZ s1).1, (sZ s1).2.1, (sZ s1).2.2, (sN s2).1, (sN s2).2.1, (sN s2).2.2, Int32.reduceAdd, Int32.reduceLE, Int32.reduceLT, Nat.reduceEqDiff, reduceIte, ie_0_1, ie_0_2, ie_0_3, ie_1_0, ie_1_2, ie_1_3, ie_2_0, ie_2_1, ie_2_3, ie_3_0, ie_3_1, ie_3_2, ie_m]
  rfl
theorem X1_turnsBy_1_PNP (h : c < 118) (hf : 4 ≤ fu) (s0 : 0 < cv w c 3) (s1 : cv w c 4 < 0) (s2 : 0 < cv w c 5) : f_X1_turnsBy fu ev (mem ev w) (ev.1 + cr c) 1 = some ((), mem ev (setC (setT w c (upT (upT (upT (tv w c) 0 1) 1 0) 2 1)) c (tu3 (cv w c) true false true))) := by
  obtain ⟨m, hm⟩ : ∃ m, fu = m + 4 := ⟨fu - 4, by omega⟩
  have hL : ∀ σ x0 x1 x2 x3 x4, L_X1_turnsBy_7 fu ev fu σ x0 x1 x2 x3 x4 = L_X1_turnsBy_7 fu ev (m + 4) σ x0 x1 x2 x3 x4 := fun _ _ _ _ _ _ => by rw [← hm]
  have hL2 : ∀ σ x0 x1, L_X1_turnsBy_119 fu ev fu σ x0 x1 = L_X1_turnsBy_119 fu ev (m + 4) σ x0 x1 := fun _ _ _ => by rw [← hm]
  simp only [f_X1_turnsBy, b_X1_turnsBy_0, hL]
  simp only [b_X1_turnsBy_147, b_X1_turnsBy_141, b_X1_turnsBy_135, b_X1_turnsBy_125, b_X1_turnsBy_119, L_X1_turnsBy_119, b_X1_turnsBy_116, b_X1_turnsBy_109, b_X1_turnsBy_104, b_X1_turnsBy_97, b_X1_turnsBy_96, b_X1_turnsBy_91, b_X1_turnsBy_77, b_X1_turnsBy_76, b_X1_turnsBy_72, b_X1_turnsBy_60, b_X1_turnsBy_59, b_X1_turnsBy_55, b_X1_turnsBy_43, b_X1_turnsBy_39, b_X1_turnsBy_35, b_X1_turnsBy_23, b_X1_turnsBy_13, b_X1_turnsBy_7, L_X1_turnsBy_7, b_X1_turnsBy_0, f_X1_turnsBy, hL2, bd2, Option.bind_some, setC_set, setC_turn, cv_setT, tv_setC, tv_self, setT_setT, setT_setC, upT_at, cf0 h, cf1 h, cf2 h, cf3 h, cis h, cl10 h, cl11 h, cl12 h, cl20 h, cl21 h, cl22 h, cl40 h, cl41 h, cl42 h, cl50 h, cl51 h, cl52 h, cl60 h, cl61 h, cl62 h, tl0 h, tl1 h, tl2 h, ts00 h, ts01 h, ts10 h, ts11 h, ts20 h, ts21 h, X1_turns_0 h hf, X1_turns_1 h hf, X1_turns_2 h hf, (sP s0).1, (sP s0).2.1, (sP s0).2.2, (sN s1).1, (sN s1).2.1, (sN s1).2.2, (sP s2).1, (sP s2).2.1, (sP s2).2.2, Int32.reduceAdd, Int32.reduceLE, Int32.reduceLT, Nat.reduceEqDiff, reduceIte, ie_0_1, ie_0_2, ie_0_3, ie_1_0, ie_1_2, ie_1_3, ie_2_0, ie_2_1, ie_2_3, ie_3_0, ie_3_1, ie_3_2, ie_m]
  rfl
theorem X1_turnsBy_1_PNZ (h : c < 118) (hf : 4 ≤ fu) (s0 : 0 < cv w c 3) (s1 : cv w c 4 < 0) (s2 : cv w c 5 = 0) : f_X1_turnsBy fu ev (mem ev w) (ev.1 + cr c) 1 = some ((), mem ev (setC (setT w c (upT (upT (upT (upT (tv w c) 0 1) 1 0) 2 0) 2 1)) c (tu3 (cv w c) true false true))) := by
  obtain ⟨m, hm⟩ : ∃ m, fu = m + 4 := ⟨fu - 4, by omega⟩
  have hL : ∀ σ x0 x1 x2 x3 x4, L_X1_turnsBy_7 fu ev fu σ x0 x1 x2 x3 x4 = L_X1_turnsBy_7 fu ev (m + 4) σ x0 x1 x2 x3 x4 := fun _ _ _ _ _ _ => by rw [← hm]
  have hL2 : ∀ σ x0 x1, L_X1_turnsBy_119 fu ev fu σ x0 x1 = L_X1_turnsBy_119 fu ev (m + 4) σ x0 x1 := fun _ _ _ => by rw [← hm]
  simp only [f_X1_turnsBy, b_X1_turnsBy_0, hL]
  simp only [b_X1_turnsBy_147, b_X1_turnsBy_141, b_X1_turnsBy_135, b_X1_turnsBy_125, b_X1_turnsBy_119, L_X1_turnsBy_119, b_X1_turnsBy_116, b_X1_turnsBy_109, b_X1_turnsBy_104, b_X1_turnsBy_97, b_X1_turnsBy_96, b_X1_turnsBy_91, b_X1_turnsBy_77, b_X1_turnsBy_76, b_X1_turnsBy_72, b_X1_turnsBy_60, b_X1_turnsBy_59, b_X1_turnsBy_55, b_X1_turnsBy_43, b_X1_turnsBy_39, b_X1_turnsBy_35, b_X1_turnsBy_23, b_X1_turnsBy_13, b_X1_turnsBy_7, L_X1_turnsBy_7, b_X1_turnsBy_0, f_X1_turnsBy, hL2, bd2, Option.bind_some, setC_set, setC_turn, cv_setT, tv_setC, tv_self, setT_setT, setT_setC, upT_at, cf0 h, cf1 h, cf2 h, cf3 h, cis h, cl10 h, cl11 h, cl12 h, cl20 h, cl21 h, cl22 h, cl40 h, cl41 h, cl42 h, cl50 h, cl51 h, cl52 h, cl60 h, cl61 h, cl62 h, tl0 h, tl1 h, tl2 h, ts00 h, ts01 h, ts10 h, ts11 h, ts20 h, ts21 h, X1_turns_0 h hf, X1_turns_1 h hf, X1_turns_2 h hf, (sP s0).1, (sP s0).2.1, (sP s0).2.2, (sN s1).1, (sN s1).2.1, (sN s1).2.2, (sZ s2).1, (sZ s2).2.1, (sZ s2).2.2, Int32.reduceAdd, Int32.reduceLE, Int32.reduceLT, Nat.reduceEqDiff, reduceIte, ie_0_1, ie_0_2, ie_0_3, ie_1_0, ie_1_2, ie_1_3, ie_2_0, ie_2_1, ie_2_3, ie_3_0, ie_3_1, ie_3_2, ie_m]
  rfl
theorem X1_turnsBy_1_ZPP (h : c < 118) (hf : 4 ≤ fu) (s0 : cv w c 3 = 0) (s1 : 0 < cv w c 4) (s2 : 0 < cv w c 5) : f_X1_turnsBy fu ev (mem ev w) (ev.1 + cr c) 1 = some ((), mem ev (setC (setT w c (upT (upT (upT (tv w c) 0 0) 1 1) 2 1)) c (tu3 (cv w c) false true true))) := by
  obtain ⟨m, hm⟩ : ∃ m, fu = m + 4 := ⟨fu - 4, by omega⟩
  have hL : ∀ σ x0 x1 x2 x3 x4, L_X1_turnsBy_7 fu ev fu σ x0 x1 x2 x3 x4 = L_X1_turnsBy_7 fu ev (m + 4) σ x0 x1 x2 x3 x4 := fun _ _ _ _ _ _ => by rw [← hm]
  have hL2 : ∀ σ x0 x1, L_X1_turnsBy_119 fu ev fu σ x0 x1 = L_X1_turnsBy_119 fu ev (m + 4) σ x0 x1 := fun _ _ _ => by rw [← hm]
  simp only [f_X1_turnsBy, b_X1_turnsBy_0, hL]
  simp only [b_X1_turnsBy_147, b_X1_turnsBy_141, b_X1_turnsBy_135, b_X1_turnsBy_125, b_X1_turnsBy_119, L_X1_turnsBy_119, b_X1_turnsBy_116, b_X1_turnsBy_109, b_X1_turnsBy_104, b_X1_turnsBy_97, b_X1_turnsBy_96, b_X1_turnsBy_91, b_X1_turnsBy_77, b_X1_turnsBy_76, b_X1_turnsBy_72, b_X1_turnsBy_60, b_X1_turnsBy_59, b_X1_turnsBy_55, b_X1_turnsBy_43, b_X1_turnsBy_39, b_X1_turnsBy_35, b_X1_turnsBy_23, b_X1_turnsBy_13, b_X1_turnsBy_7, L_X1_turnsBy_7, b_X1_turnsBy_0, f_X1_turnsBy, hL2, bd2, Option.bind_some, setC_set, setC_turn, cv_setT, tv_setC, tv_self, setT_setT, setT_setC, upT_at, cf0 h, cf1 h, cf2 h, cf3 h, cis h, cl10 h, cl11 h, cl12 h, cl20 h, cl21 h, cl22 h, cl40 h, cl41 h, cl42 h, cl50 h, cl51 h, cl52 h, cl60 h, cl61 h, cl62 h, tl0 h, tl1 h, tl2 h, ts00 h, ts01 h, ts10 h, ts11 h, ts20 h, ts21 h, X1_turns_0 h hf, X1_turns_1 h hf, X1_turns_2 h hf, (sZ s0).1, (sZ s0).2.1, (sZ s0).2.2, (sP s1).1, (sP s1).2.1, (sP s1).2.2, (sP s2).1, (sP s2).2.1, (sP s2).2.2, Int32.reduceAdd, Int32.reduceLE, Int32.reduceLT, Nat.reduceEqDiff, reduceIte, ie_0_1, ie_0_2, ie_0_3, ie_1_0, ie_1_2, ie_1_3, ie_2_0, ie_2_1, ie_2_3, ie_3_0, ie_3_1, ie_3_2, ie_m]
  rfl
theorem X1_turnsBy_1_ZPZ (h : c < 118) (hf : 4 ≤ fu) (s0 : cv w c 3 = 0) (s1 : 0 < cv w c 4) (s2 : cv w c 5 = 0) : f_X1_turnsBy fu ev (mem ev w) (ev.1 + cr c) 1 = some ((), mem ev (setC (setT w c (upT (upT (upT (upT (tv w c) 0 0) 1 1) 2 0) 2 1)) c (tu3 (cv w c) false true true))) := by
  obtain ⟨m, hm⟩ : ∃ m, fu = m + 4 := ⟨fu - 4, by omega⟩
  have hL : ∀ σ x0 x1 x2 x3 x4, L_X1_turnsBy_7 fu ev fu σ x0 x1 x2 x3 x4 = L_X1_turnsBy_7 fu ev (m + 4) σ x0 x1 x2 x3 x4 := fun _ _ _ _ _ _ => by rw [← hm]
  have hL2 : ∀ σ x0 x1, L_X1_turnsBy_119 fu ev fu σ x0 x1 = L_X1_turnsBy_119 fu ev (m + 4) σ x0 x1 := fun _ _ _ => by rw [← hm]
  simp only [f_X1_turnsBy, b_X1_turnsBy_0, hL]
  simp only [b_X1_turnsBy_147, b_X1_turnsBy_141, b_X1_turnsBy_135, b_X1_turnsBy_125, b_X1_turnsBy_119, L_X1_turnsBy_119, b_X1_turnsBy_116, b_X1_turnsBy_109, b_X1_turnsBy_104, b_X1_turnsBy_97, b_X1_turnsBy_96, b_X1_turnsBy_91, b_X1_turnsBy_77, b_X1_turnsBy_76, b_X1_turnsBy_72, b_X1_turnsBy_60, b_X1_turnsBy_59, b_X1_turnsBy_55, b_X1_turnsBy_43, b_X1_turnsBy_39, b_X1_turnsBy_35, b_X1_turnsBy_23, b_X1_turnsBy_13, b_X1_turnsBy_7, L_X1_turnsBy_7, b_X1_turnsBy_0, f_X1_turnsBy, hL2, bd2, Option.bind_some, setC_set, setC_turn, cv_setT, tv_setC, tv_self, setT_setT, setT_setC, upT_at, cf0 h, cf1 h, cf2 h, cf3 h, cis h, cl10 h, cl11 h, cl12 h, cl20 h, cl21 h, cl22 h, cl40 h, cl41 h, cl42 h, cl50 h, cl51 h, cl52 h, cl60 h, cl61 h, cl62 h, tl0 h, tl1 h, tl2 h, ts00 h, ts01 h, ts10 h, ts11 h, ts20 h, ts21 h, X1_turns_0 h hf, X1_turns_1 h hf, X1_turns_2 h hf, (sZ s0).1, (sZ s0).2.1, (sZ s0).2.2, (sP s1).1, (sP s1).2.1, (sP s1).2.2, (sZ s2).1, (sZ s2).2.1, (sZ s2).2.2, Int32.reduceAdd, Int32.reduceLE, Int32.reduceLT, Nat.reduceEqDiff, reduceIte, ie_0_1, ie_0_2, ie_0_3, ie_1_0, ie_1_2, ie_1_3, ie_2_0, ie_2_1, ie_2_3, ie_3_0, ie_3_1, ie_3_2, ie_m]
  rfl
theorem X1_turnsBy_1_ZPN (h : c < 118) (hf : 4 ≤ fu) (s0 : cv w c 3 = 0) (s1 : 0 < cv w c 4) (s2 : cv w c 5 < 0) : f_X1_turnsBy fu ev (mem ev w) (ev.1 + cr c) 1 = some ((), mem ev (setC (setT w c (upT (upT (upT (upT (tv w c) 0 0) 1 1) 2 0) 0 1)) c (tu3 (cv w c) true true false))) := by
  obtain ⟨m, hm⟩ : ∃ m, fu = m + 4 := ⟨fu - 4, by omega⟩
  have hL : ∀ σ x0 x1 x2 x3 x4, L_X1_turnsBy_7 fu ev fu σ x0 x1 x2 x3 x4 = L_X1_turnsBy_7 fu ev (m + 4) σ x0 x1 x2 x3 x4 := fun _ _ _ _ _ _ => by rw [← hm]
  have hL2 : ∀ σ x0 x1, L_X1_turnsBy_119 fu ev fu σ x0 x1 = L_X1_turnsBy_119 fu ev (m + 4) σ x0 x1 := fun _ _ _ => by rw [← hm]
  simp only [f_X1_turnsBy, b_X1_turnsBy_0, hL]
  simp only [b_X1_turnsBy_147, b_X1_turnsBy_141, b_X1_turnsBy_135, b_X1_turnsBy_125, b_X1_turnsBy_119, L_X1_turnsBy_119, b_X1_turnsBy_116, b_X1_turnsBy_109, b_X1_turnsBy_104, b_X1_turnsBy_97, b_X1_turnsBy_96, b_X1_turnsBy_91, b_X1_turnsBy_77, b_X1_turnsBy_76, b_X1_turnsBy_72, b_X1_turnsBy_60, b_X1_turnsBy_59, b_X1_turnsBy_55, b_X1_turnsBy_43, b_X1_turnsBy_39, b_X1_turnsBy_35, b_X1_turnsBy_23, b_X1_turnsBy_13, b_X1_turnsBy_7, L_X1_turnsBy_7, b_X1_turnsBy_0, f_X1_turnsBy, hL2, bd2, Option.bind_some, setC_set, setC_turn, cv_setT, tv_setC, tv_self, setT_setT, setT_setC, upT_at, cf0 h, cf1 h, cf2 h, cf3 h, cis h, cl10 h, cl11 h, cl12 h, cl20 h, cl21 h, cl22 h, cl40 h, cl41 h, cl42 h, cl50 h, cl51 h, cl52 h, cl60 h, cl61 h, cl62 h, tl0 h, tl1 h, tl2 h, ts00 h, ts01 h, ts10 h, ts11 h, ts20 h, ts21 h, X1_turns_0 h hf, X1_turns_1 h hf, X1_turns_2 h hf, (sZ s0).1, (sZ s0).2.1, (sZ s0).2.2, (sP s1).1, (sP s1).2.1, (sP s1).2.2, (sN s2).1, (sN s2).2.1, (sN s2).2.2, Int32.reduceAdd, Int32.reduceLE, Int32.reduceLT, Nat.reduceEqDiff, reduceIte, ie_0_1, ie_0_2, ie_0_3, ie_1_0, ie_1_2, ie_1_3, ie_2_0, ie_2_1, ie_2_3, ie_3_0, ie_3_1, ie_3_2, ie_m]
  rfl
theorem X1_turnsBy_1_ZZP (h : c < 118) (hf : 4 ≤ fu) (s0 : cv w c 3 = 0) (s1 : cv w c 4 = 0) (s2 : 0 < cv w c 5) : f_X1_turnsBy fu ev (mem ev w) (ev.1 + cr c) 1 = some ((), mem ev (setC (setT w c (upT (upT (upT (upT (tv w c) 0 0) 1 0) 2 1) 1 1)) c (tu3 (cv w c) false true true))) := by
  obtain ⟨m, hm⟩ : ∃ m, fu = m + 4 := ⟨fu - 4, by omega⟩
  have hL : ∀ σ x0 x1 x2 x3 x4, L_X1_turnsBy_7 fu ev fu σ x0 x1 x2 x3 x4 = L_X1_turnsBy_7 fu ev (m + 4) σ x0 x1 x2 x3 x4 := fun _ _ _ _ _ _ => by rw [← hm]
  have hL2 : ∀ σ x0 x1, L_X1_turnsBy_119 fu ev fu σ x0 x1 = L_X1_turnsBy_119 fu ev (m + 4) σ x0 x1 := fun _ _ _ => by rw [← hm]
  simp only [f_X1_turnsBy, b_X1_turnsBy_0, hL]
  simp only [b_X1_turnsBy_147, b_X1_turnsBy_141, b_X1_turnsBy_135, b_X1_turnsBy_125, b_X1_turnsBy_119, L_X1_turnsBy_119, b_X1_turnsBy_116, b_X1_turnsBy_109, b_X1_turnsBy_104, b_X1_turnsBy_97, b_X1_turnsBy_96, b_X1_turnsBy_91, b_X1_turnsBy_77, b_X1_turnsBy_76, b_X1_turnsBy_72, b_X1_turnsBy_60, b_X1_turnsBy_59, b_X1_turnsBy_55, b_X1_turnsBy_43, b_X1_turnsBy_39, b_X1_turnsBy_35, b_X1_turnsBy_23, b_X1_turnsBy_13, b_X1_turnsBy_7, L_X1_turnsBy_7, b_X1_turnsBy_0, f_X1_turnsBy, hL2, bd2, Option.bind_some, setC_set, setC_turn, cv_setT, tv_setC, tv_self, setT_setT, setT_setC, upT_at, cf0 h, cf1 h, cf2 h, cf3 h, cis h, cl10 h, cl11 h, cl12 h, cl20 h, cl21 h, cl22 h, cl40 h, cl41 h, cl42 h, cl50 h, cl51 h, cl52 h, cl60 h, cl61 h, cl62 h, tl0 h, tl1 h, tl2 h, ts00 h, ts01 h, ts10 h, ts11 h, ts20 h, ts21 h, X1_turns_0 h hf, X1_turns_1 h hf, X1_turns_2 h hf, (sZ s0).1, (sZ s0).2.1, (sZ s0).2.2, (sZ s1).1, (sZ s1).2.1, (sZ s1).2.2, (sP s2).1, (sP s2).2.1, (sP s2).2.2, Int32.reduceAdd, Int32.reduceLE, Int32.reduceLT, Nat.reduceEqDiff, reduceIte, ie_0_1, ie_0_2, ie_0_3, ie_1_0, ie_1_2, ie_1_3, ie_2_0, ie_2_1, ie_2_3, ie_3_0, ie_3_1, ie_3_2, ie_m]
  rfl
theorem X1_turnsBy_1_ZNP (h : c < 118) (hf : 4 ≤ fu) (s0 : cv w c 3 = 0) (s1 : cv w c 4 < 0) (s2 : 0 < cv w c 5) : f_X1_turnsBy fu ev (mem ev w) (ev.1 + cr c) 1 = some ((), mem ev (setC (setT w c (upT (upT (upT (upT (tv w c) 0 0) 1 0) 2 1) 0 1)) c (tu3 (cv w c) true false true))) := by
  obtain ⟨m, hm⟩ : ∃ m, fu = m + 4 := ⟨fu - 4, by omega⟩
  have hL : ∀ σ x0 x1 x2 x3 x4, L_X1_turnsBy_7 fu ev fu σ x0 x1 x2 x3 x4 = L_X1_turnsBy_7 fu ev (m + 4) σ x0 x1 x2 x3 x4 := fun _ _ _ _ _ _ => by rw [← hm]
  have hL2 : ∀ σ x0 x1, L_X1_turnsBy_119 fu ev fu σ x0 x1 = L_X1_turnsBy_119 fu ev (m + 4) σ x0 x1 := fun _ _ _ => by rw [← hm]
  simp only [f_X1_turnsBy, b_X1_turnsBy_0, hL]
  simp only [b_X1_turnsBy_147, b_X1_turnsBy_141, b_X1_turnsBy_135, b_X1_turnsBy_125, b_X1_turnsBy_119, L_X1_turnsBy_119, b_X1_turnsBy_116, b_X1_turnsBy_109, b_X1_turnsBy_104, b_X1_turnsBy_97, b_X1_turnsBy_96, b_X1_turnsBy_91, b_X1_turnsBy_77, b_X1_turnsBy_76, b_X1_turnsBy_72, b_X1_turnsBy_60, b_X1_turnsBy_59, b_X1_turnsBy_55, b_X1_turnsBy_43, b_X1_turnsBy_39, b_X1_turnsBy_35, b_X1_turnsBy_23, b_X1_turnsBy_13, b_X1_turnsBy_7, L_X1_turnsBy_7, b_X1_turnsBy_0, f_X1_turnsBy, hL2, bd2, Option.bind_some, setC_set, setC_turn, cv_setT, tv_setC, tv_self, setT_setT, setT_setC, upT_at, cf0 h, cf1 h, cf2 h, cf3 h, cis h, cl10 h, cl11 h, cl12 h, cl20 h, cl21 h, cl22 h, cl40 h, cl41 h, cl42 h, cl50 h, cl51 h, cl52 h, cl60 h, cl61 h, cl62 h, tl0 h, tl1 h, tl2 h, ts00 h, ts01 h, ts10 h, ts11 h, ts20 h, ts21 h, X1_turns_0 h hf, X1_turns_1 h hf, X1_turns_2 h hf, (sZ s0).1, (sZ s0).2.1, (sZ s0).2.2, (sN s1).1, (sN s1).2.1, (sN s1).2.2, (sP s2).1, (sP s2).2.1, (sP s2).2.2, Int32.reduceAdd, Int32.reduceLE, Int32.reduceLT, Nat.reduceEqDiff, reduceIte, ie_0_1, ie_0_2, ie_0_3, ie_1_0, ie_1_2, ie_1_3, ie_2_0, ie_2_1, ie_2_3, ie_3_0, ie_3_1, ie_3_2, ie_m]
  rfl
theorem X1_turnsBy_1_NPP (h : c < 118) (hf : 4 ≤ fu) (s0 : cv w c 3 < 0) (s1 : 0 < cv w c 4) (s2 : 0 < cv w c 5) : f_X1_turnsBy fu ev (mem ev w) (ev.1 + cr c) 1 = some ((), mem ev (setC (setT w c (upT (upT (upT (tv w c) 0 0) 1 1) 2 1)) c (tu3 (cv w c) false true true))) := by
  obtain ⟨m, hm⟩ : ∃ m, fu = m + 4 := ⟨fu - 4, by omega⟩
  have hL : ∀ σ x0 x1 x2 x3 x4, L_X1_turnsBy_7 fu ev fu σ x0 x1 x2 x3 x4 = L_X1_turnsBy_7 fu ev (m + 4) σ x0 x1 x2 x3 x4 := fun _ _ _ _ _ _ => by rw [← hm]
  have hL2 : ∀ σ x0 x1, L_X1_turnsBy_119 fu ev fu σ x0 x1 = L_X1_turnsBy_119 fu ev (m + 4) σ x0 x1 := fun _ _ _ => by rw [← hm]
  simp only [f_X1_turnsBy, b_X1_turnsBy_0, hL]
  simp only [b_X1_turnsBy_147, b_X1_turnsBy_141, b_X1_turnsBy_135, b_X1_turnsBy_125, b_X1_turnsBy_119, L_X1_turnsBy_119, b_X1_turnsBy_116, b_X1_turnsBy_109, b_X1_turnsBy_104, b_X1_turnsBy_97, b_X1_turnsBy_96, b_X1_turnsBy_91, b_X1_turnsBy_77, b_X1_turnsBy_76, b_X1_turnsBy_72, b_X1_turnsBy_60, b_X1_turnsBy_59, b_X1_turnsBy_55, b_X1_turnsBy_43, b_X1_turnsBy_39, b_X1_turnsBy_35, b_X1_turnsBy_23, b_X1_turnsBy_13, b_X1_turnsBy_7, L_X1_turnsBy_7, b_X1_turnsBy_0, f_X1_turnsBy, hL2, bd2, Option.bind_some, setC_set, setC_turn, cv_setT, tv_setC, tv_self, setT_setT, setT_setC, upT_at, cf0 h, cf1 h, cf2 h, cf3 h, cis h, cl10 h, cl11 h, cl12 h, cl20 h, cl21 h, cl22 h, cl40 h, cl41 h, cl42 h, cl50 h, cl51 h, cl52 h, cl60 h, cl61 h, cl62 h, tl0 h, tl1 h, tl2 h, ts00 h, ts01 h, ts10 h, ts11 h, ts20 h, ts21 h, X1_turns_0 h hf, X1_turns_1 h hf, X1_turns_2 h hf, (sN s0).1, (sN s0).2.1, (sN s0).2.2, (sP s1).1, (sP s1).2.1, (sP s1).2.2, (sP s2).1, (sP s2).2.1, (sP s2).2.2, Int32.reduceAdd, Int32.reduceLE, Int32.reduceLT, Nat.reduceEqDiff, reduceIte, ie_0_1, ie_0_2, ie_0_3, ie_1_0, ie_1_2, ie_1_3, ie_2_0, ie_2_1, ie_2_3, ie_3_0, ie_3_1, ie_3_2, ie_m]
  rfl
theorem X1_turnsBy_1_NPZ (h : c < 118) (hf : 4 ≤ fu) (s0 : cv w c 3 < 0) (s1 : 0 < cv w c 4) (s2 : cv w c 5 = 0) : f_X1_turnsBy fu ev (mem ev w) (ev.1 + cr c) 1 = some ((), mem ev (setC (setT w c (upT (upT (upT (upT (tv w c) 0 0) 1 1) 2 0) 2 1)) c (tu3 (cv w c) false true true))) := by
  obtain ⟨m, hm⟩ : ∃ m, fu = m + 4 := ⟨fu - 4, by omega⟩
  have hL : ∀ σ x0 x1 x2 x3 x4, L_X1_turnsBy_7 fu ev fu σ x0 x1 x2 x3 x4 = L_X1_turnsBy_7 fu ev (m + 4) σ x0 x1 x2 x3 x4 := fun _ _ _ _ _ _ => by rw [← hm]
  have hL2 : ∀ σ x0 x1, L_X1_turnsBy_119 fu ev fu σ x0 x1 = L_X1_turnsBy_119 fu ev (m + 4) σ x0 x1 := fun _ _ _ => by rw [← hm]
  simp only [f_X1_turnsBy, b_X1_turnsBy_0, hL]
  simp only [b_X1_turnsBy_147, b_X1_turnsBy_141, b_X1_turnsBy_135, b_X1_turnsBy_125, b_X1_turnsBy_119, L_X1_turnsBy_119, b_X1_turnsBy_116, b_X1_turnsBy_109, b_X1_turnsBy_104, b_X1_turnsBy_97, b_X1_turnsBy_96, b_X1_turnsBy_91, b_X1_turnsBy_77, b_X1_turnsBy_76, b_X1_turnsBy_72, b_X1_turnsBy_60, b_X1_turnsBy_59, b_X1_turnsBy_55, b_X1_turnsBy_43, b_X1_turnsBy_39, b_X1_turnsBy_35, b_X1_turnsBy_23, b_X1_turnsBy_13, b_X1_turnsBy_7, L_X1_turnsBy_7, b_X1_turnsBy_0, f_X1_turnsBy, hL2, bd2, Option.bind_some, setC_set, setC_turn, cv_setT, tv_setC, tv_self, setT_setT, setT_setC, upT_at, cf0 h, cf1 h, cf2 h, cf3 h, cis h, cl10 h, cl11 h, cl12 h, cl20 h, cl21 h, cl22 h, cl40 h, cl41 h, cl42 h, cl50 h, cl51 h, cl52 h, cl60 h, cl61 h, cl62 h, tl0 h, tl1 h, tl2 h, ts00 h, ts01 h, ts10 h, ts11 h, ts20 h, ts21 h, X1_turns_0 h hf, X1_turns_1 h hf, X1_turns_2 h hf, (sN s0).1, (sN s0).2.1, (sN s0).2.2, (sP s1).1, (sP s1).2.1, (sP s1).2.2, (sZ s2).1, (sZ s2).2.1, (sZ s2).2.2, Int32.reduceAdd, Int32.reduceLE, Int32.reduceLT, Nat.reduceEqDiff, reduceIte, ie_0_1, ie_0_2, ie_0_3, ie_1_0, ie_1_2, ie_1_3, ie_2_0, ie_2_1, ie_2_3, ie_3_0, ie_3_1, ie_3_2, ie_m]
  rfl
theorem X1_turnsBy_1_NZP (h : c < 118) (hf : 4 ≤ fu) (s0 : cv w c 3 < 0) (s1 : cv w c 4 = 0) (s2 : 0 < cv w c 5) : f_X1_turnsBy fu ev (mem ev w) (ev.1 + cr c) 1 = some ((), mem ev (setC (setT w c (upT (upT (upT (upT (tv w c) 0 0) 1 0) 2 1) 1 1)) c (tu3 (cv w c) false true true))) := by
  obtain ⟨m, hm⟩ : ∃ m, fu = m + 4 := ⟨fu - 4, by omega⟩
  have hL : ∀ σ x0 x1 x2 x3 x4, L_X1_turnsBy_7 fu ev fu σ x0 x1 x2 x3 x4 = L_X1_turnsBy_7 fu ev (m + 4) σ x0 x1 x2 x3 x4 := fun _ _ _ _ _ _ => by rw [← hm]
  have hL2 : ∀ σ x0 x1, L_X1_turnsBy_119 fu ev fu σ x0 x1 = L_X1_turnsBy_119 fu ev (m + 4) σ x0 x1 := fun _ _ _ => by rw [← hm]
  simp only [f_X1_turnsBy, b_X1_turnsBy_0, hL]
  simp only [b_X1_turnsBy_147, b_X1_turnsBy_141, b_X1_turnsBy_135, b_X1_turnsBy_125, b_X1_turnsBy_119, L_X1_turnsBy_119, b_X1_turnsBy_116, b_X1_turnsBy_109, b_X1_turnsBy_104, b_X1_turnsBy_97, b_X1_turnsBy_96, b_X1_turnsBy_91, b_X1_turnsBy_77, b_X1_turnsBy_76, b_X1_turnsBy_72, b_X1_turnsBy_60, b_X1_turnsBy_59, b_X1_turnsBy_55, b_X1_turnsBy_43, b_X1_turnsBy_39, b_X1_turnsBy_35, b_X1_turnsBy_23, b_X1_turnsBy_13, b_X1_turnsBy_7, L_X1_turnsBy_7, b_X1_turnsBy_0, f_X1_turnsBy, hL2, bd2, Option.bind_some, setC_set, setC_turn, cv_setT, tv_setC, tv_self, setT_setT, setT_setC, upT_at, cf0 h, cf1 h, cf2 h, cf3 h, cis h, cl10 h, cl11 h, cl12 h, cl20 h, cl21 h, cl22 h, cl40 h, cl41 h, cl42 h, cl50 h, cl51 h, cl52 h, cl60 h, cl61 h, cl62 h, tl0 h, tl1 h, tl2 h, ts00 h, ts01 h, ts10 h, ts11 h, ts20 h, ts21 h, X1_turns_0 h hf, X1_turns_1 h hf, X1_turns_2 h hf, (sN s0).1, (sN s0).2.1, (sN s0).2.2, (sZ s1).1, (sZ s1).2.1, (sZ s1).2.2, (sP s2).1, (sP s2).2.1, (sP s2).2.2, Int32.reduceAdd, Int32.reduceLE, Int32.reduceLT, Nat.reduceEqDiff, reduceIte, ie_0_1, ie_0_2, ie_0_3, ie_1_0, ie_1_2, ie_1_3, ie_2_0, ie_2_1, ie_2_3, ie_3_0, ie_3_1, ie_3_2, ie_m]
  rfl
end XCM3
