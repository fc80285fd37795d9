/-! LINKED LISTS: a node goes -/
def upF (f : Nat → Option Nat) (i : Nat) (x : Option Nat) : Nat → Option Nat := fun j => if j = i then x else f j
def ND (ev : Ev) (w : Wd) (ad : Nat → Nat) (n : Nat) (I N P : Nat → Option Nat) : Prop := (∀ j : Nat, j < n → dyn w (ad j) = nd (I j) (N j) (P j) ∧ ev.1 + 984 ≤ ad j) ∧ ∀ i j : Nat, i < n → j < n → ad i = ad j → i = j
def NS (w w1 : Wd) (ad : Nat → Nat) (n : Nat) : Prop := w1.1 = w.1 ∧ w1.2.1 = w.2.1 ∧ w1.2.2.1 = w.2.2.1 ∧ (∀ b : Nat, (∀ j : Nat, j < n → b ≠ ad j) → dyn w1 b = dyn w b) ∧ w1.2.2.2.2 = w.2.2.2.2
section XUN
variable {ev : Ev} {w : Wd} {r n i fu : Nat} {ad qs : Nat → Nat} {I N P : Nat → Option Nat} {x : Option Nat}
theorem ND_wD {I' N' P' : Nat → Option Nat} (h : ND ev w ad n I N P) (hi : i < n) (h1 : ∀ j : Nat, j ≠ i → I' j = I j ∧ N' j = N j ∧ P' j = P j) : ND ev (wD w (ad i) (nd (I' i) (N' i) (P' i))) ad n I' N' P' ∧ NS w (wD w (ad i) (nd (I' i) (N' i) (P' i))) ad n := by
  refine ⟨⟨fun j hj => ⟨?_, (h.1 j hj).2⟩, h.2⟩, rfl, rfl, rfl, fun b hb => ?_, rfl⟩
  · rw [dyn_wD]
    by_cases e : j = i
    · subst e
      rw [if_pos rfl]
    · rw [if_neg (fun z => e (h.2 j i hj hi z)), (h.1 j hj).1, (h1 j e).1, (h1 j e).2.1, (h1 j e).2.2]
  · rw [dyn_wD, if_neg (hb i hi)]
theorem nw0 (h : ND ev w ad n I N P) (hi : i < n) (x : Option Nat) : ∃ w1 : Wd, pfA ev (mem ev w) (ad i) 6 0 x = some (mem ev w1) ∧ ND ev w1 ad n (upF I i x) N P ∧ NS w w1 ad n := by
  have e := nd_p0 (x := x) (h.1 i hi).2 (h.1 i hi).1
  have z := ND_wD (I' := upF I i x) (N' := N) (P' := P) h hi (fun j hj => ⟨if_neg hj, rfl, rfl⟩)
  rw [show upF I i x i = x from if_pos rfl] at z
  exact ⟨_, e, z⟩
theorem nw1 (h : ND ev w ad n I N P) (hi : i < n) (x : Option Nat) : ∃ w1 : Wd, pfA ev (mem ev w) (ad i) 6 1 x = some (mem ev w1) ∧ ND ev w1 ad n I (upF N i x) P ∧ NS w w1 ad n := by
  have e := nd_p1 (x := x) (h.1 i hi).2 (h.1 i hi).1
  have z := ND_wD (I' := I) (N' := upF N i x) (P' := P) h hi (fun j hj => ⟨rfl, if_neg hj, rfl⟩)
  rw [show upF N i x i = x from if_pos rfl] at z
  exact ⟨_, e, z⟩
theorem nw2 (h : ND ev w ad n I N P) (hi : i < n) (x : Option Nat) : ∃ w1 : Wd, pfA ev (mem ev w) (ad i) 6 2 x = some (mem ev w1) ∧ ND ev w1 ad n I N (upF P i x) ∧ NS w w1 ad n := by
  have e := nd_p2 (x := x) (h.1 i hi).2 (h.1 i hi).1
  have z := ND_wD (I' := I) (N' := N) (P' := upF P i x) h hi (fun j hj => ⟨rfl, rfl, if_neg hj⟩)
  rw [show upF P i x i = x from if_pos rfl] at z
  exact ⟨_, e, z⟩
theorem nr0 (h : ND ev w ad n I N P) (hi : i < n) : gfA (mem ev w) (ad i) 6 0 = some (I i) := nd_0 (h.1 i hi).2 (h.1 i hi).1
theorem nr1 (h : ND ev w ad n I N P) (hi : i < n) : gfA (mem ev w) (ad i) 6 1 = some (N i) := nd_1 (h.1 i hi).2 (h.1 i hi).1
theorem nr2 (h : ND ev w ad n I N P) (hi : i < n) : gfA (mem ev w) (ad i) 6 2 = some (P i) := nd_2 (h.1 i hi).2 (h.1 i hi).1
theorem NS_trans {w1 w2 : Wd} (h1 : NS w w1 ad n) (h2 : NS w1 w2 ad n) : NS w w2 ad n := by
  obtain ⟨a1, b1, c1, d1, e1⟩ := h1
  obtain ⟨a2, b2, c2, d2, e2⟩ := h2
  exact ⟨a2.trans a1, b2.trans b1, c2.trans c1, fun b hb => (d2 b hb).trans (d1 b hb), e2.trans e1⟩
theorem ND_wA {k : Nat} (h : ND ev w ad n I N P) : ND ev (wA w r k x) ad n I N P := h
/-- what is left of a list when the i-th of n + 1 goes -/
def Un (ev : Ev) (w w' : Wd) (r n i : Nat) (ad : Nat → Nat) (I N P : Nat → Option Nat) : Prop := w'.1 = w.1 ∧ (∀ q : Nat, q ≠ r → w'.2.1 q = w.2.1 q ∧ w'.2.2.1 q = w.2.2.1 q) ∧ w'.2.1 r 1 = nI n ∧ w'.2.1 r 0 = w.2.1 r 0 + 1 ∧ w'.2.2.1 r 2 = (if i = 0 then N i else w.2.2.1 r 2) ∧ w'.2.2.1 r 3 = (if i = n then P i else w.2.2.1 r 3) ∧
  (∃ I' N' P' : Nat → Option Nat, ND ev w' ad (n + 1) I' N' P' ∧ (∀ j : Nat, j ≠ i → I' j = I j) ∧ (∀ j : Nat, j ≠ i → N' j = if j + 1 = i then N i else N j) ∧ ∀ j : Nat, j < n + 1 → j ≠ i → P' j = if j = i + 1 then P i else P j) ∧
  (∀ b : Nat, (∀ j : Nat, j < n + 1 → b ≠ ad j) → dyn w' b = dyn w b) ∧ w'.2.2.2.2 = w.2.2.2.2
theorem wIr {q k : Nat} {x : Int32} (hq : q ≠ r) : (wI w r k x).2.1 q = w.2.1 q := wI_row hq
theorem un_unlink (hr : Hd r) (h : ND ev w ad (n + 1) I N P) (h1 : w.2.1 r 1 = nI (n + 1)) (hi : i < n + 1) (hP : P i = pv ad i) (hN : N i = nx (n + 1) ad (i + 1)) : ∃ w' : Wd, f_J3_unlink fu ev (mem ev w) (ev.1 + r) (some (ad i)) = some (I i, mem ev w') ∧ Un ev w w' r n i ad I N P := by
  have g0 := nr0 h hi
  have g1 := nr1 h hi
  have g2 := nr2 h hi
  have tail : ∀ (w1 : Wd) (I1 N1 P1 : Nat → Option Nat) (v : Option Nat), ND ev w1 ad (n + 1) I1 N1 P1 → w1.2.1 = w.2.1 → ∃ w' w5 : Wd, b_J3_unlink_64 fu ev (mem ev w1) (ev.1 + r) (ad i) v = some (v, mem ev w') ∧ w' = wI (wI w5 r 1 (nI n)) r 0 (w.2.1 r 0 + 1) ∧ NS w1 w5 ad (n + 1) ∧ ND ev w5 ad (n + 1) (upF I1 i none) N1 P1 := by
    intro w1 I1 N1 P1 v hnd hI
    obtain ⟨w5, e5, n5, s5⟩ := nw0 hnd hi none
    have q1 : w5.2.1 r 1 = nI (n + 1) := by rw [s5.2.1, hI]; exact h1
    have q0 : w5.2.1 r 0 = w.2.1 r 0 := by rw [s5.2.1, hI]
    have q2 : (wI w5 r 1 (nI n)).2.1 r 0 = w.2.1 r 0 := by rw [wI_ne (by omega)]; exact q0
    refine ⟨_, w5, ?_, rfl, s5, n5⟩
    simp only [b_J3_unlink_64, e5, hI0 hr, hI1 hr, hP0 hr, hP1 hr, q1, nI_pred, q2, Option.bind_some]
  have mid : ∀ (w1 : Wd) (N1 P1 : Nat → Option Nat) (v : Option Nat), ND ev w1 ad (n + 1) I N1 P1 → w1.2.1 = w.2.1 → ∃ (w' w5 : Wd) (I' N' P' : Nat → Option Nat), b_J3_unlink_40 fu ev (mem ev w1) (ev.1 + r) (ad i) v (nx (n + 1) ad (i + 1)) (pv ad i) = some (v, mem ev w') ∧ w' = wI (wI w5 r 1 (nI n)) r 0 (w.2.1 r 0 + 1) ∧ (if i = n then NS (wA w1 r 3 (pv ad i)) w5 ad (n + 1) else NS w1 w5 ad (n + 1)) ∧ ND ev w5 ad (n + 1) I' N' P' ∧ (∀ j : Nat, j ≠ i → I' j = I j) ∧ (∀ j : Nat, j ≠ i → N' j = N1 j) ∧ ∀ j : Nat, j < n + 1 → j ≠ i → P' j = if j = i + 1 then pv ad i else P1 j := by
    intro w1 N1 P1 v hnd hI
    by_cases hin : i = n
    · have e : nx (n + 1) ad (i + 1) = none := if_neg (by omega)
      obtain ⟨w', w5, e5, a5, b5, c5⟩ := tail (wA w1 r 3 (pv ad i)) I N1 P1 v hnd hI
      refine ⟨w', w5, _, _, _, ?_, a5, by rw [if_pos hin]; exact b5, c5, fun j hj => if_neg hj, fun j _ => rfl, fun j hl hj => ?_⟩
      · simp only [b_J3_unlink_40, e, if_true, b_J3_unlink_44, hQ3 hr, Option.bind_some, e5]
      · rw [if_neg (by omega)]
    · have e : nx (n + 1) ad (i + 1) = some (ad (i + 1)) := if_pos (by omega)
      obtain ⟨w2, e2, n2, s2⟩ := nw2 hnd (show i + 1 < n + 1 by omega) (pv ad i)
      obtain ⟨w3, e3, n3, s3⟩ := nw1 n2 hi none
      obtain ⟨w', w5, e5, a5, b5, c5⟩ := tail w3 I _ _ v n3 (by rw [s3.2.1, s2.2.1]; exact hI)
      refine ⟨w', w5, _, _, _, ?_, a5, by rw [if_neg hin]; exact NS_trans (NS_trans s2 s3) b5, c5, fun j hj => if_neg hj, fun j hj => if_neg hj, fun j hl hj => ?_⟩
      · simp only [b_J3_unlink_40, e, if_false, reduceCtorEq, b_J3_unlink_53, Option.bind_some, e2, e3, e5]
      · rfl
  have fin : ∀ (w1 w5 w' : Wd), w1.1 = w.1 → w1.2.1 = w.2.1 → (∀ q : Nat, q ≠ r → w1.2.2.1 q = w.2.2.1 q) → w1.2.2.1 r 2 = (if i = 0 then N i else w.2.2.1 r 2) → w1.2.2.1 r 3 = w.2.2.1 r 3 → (∀ b : Nat, (∀ j : Nat, j < n + 1 → b ≠ ad j) → dyn w1 b = dyn w b) → w1.2.2.2.2 = w.2.2.2.2 → w' = wI (wI w5 r 1 (nI n)) r 0 (w.2.1 r 0 + 1) → (if i = n then NS (wA w1 r 3 (pv ad i)) w5 ad (n + 1) else NS w1 w5 ad (n + 1)) →
      w'.1 = w.1 ∧ (∀ q : Nat, q ≠ r → w'.2.1 q = w.2.1 q ∧ w'.2.2.1 q = w.2.2.1 q) ∧ w'.2.1 r 1 = nI n ∧ w'.2.1 r 0 = w.2.1 r 0 + 1 ∧ w'.2.2.1 r 2 = (if i = 0 then N i else w.2.2.1 r 2) ∧ w'.2.2.1 r 3 = (if i = n then P i else w.2.2.1 r 3) ∧ (∀ b : Nat, (∀ j : Nat, j < n + 1 → b ≠ ad j) → dyn w' b = dyn w b) ∧ w'.2.2.2.2 = w.2.2.2.2 := by
    intro w1 w5 w' a1 a2 a3 a4 a5 a6 a7 hw hs
    subst hw
    have hs' : w5.1 = w.1 ∧ w5.2.1 = w.2.1 ∧ (∀ q : Nat, q ≠ r → w5.2.2.1 q = w.2.2.1 q) ∧ w5.2.2.1 r 2 = (if i = 0 then N i else w.2.2.1 r 2) ∧ w5.2.2.1 r 3 = (if i = n then P i else w.2.2.1 r 3) ∧ (∀ b : Nat, (∀ j : Nat, j < n + 1 → b ≠ ad j) → dyn w5 b = dyn w b) ∧ w5.2.2.2.2 = w.2.2.2.2 := by
      by_cases hin : i = n
      · rw [if_pos hin] at hs
        obtain ⟨s1, s2, s3, s4, s5⟩ := hs
        refine ⟨s1.trans a1, s2.trans a2, fun q hq => ?_, ?_, ?_, fun b hb => (s4 b hb).trans (a6 b hb), s5.trans a7⟩
        · rw [s3, wA_row hq]; exact a3 q hq
        · rw [s3, wA_ne (by omega)]; exact a4
        · rw [s3, wA_same, if_pos hin, hP]
      · rw [if_neg hin] at hs
        obtain ⟨s1, s2, s3, s4, s5⟩ := hs
        refine ⟨s1.trans a1, s2.trans a2, fun q hq => ?_, ?_, ?_, fun b hb => (s4 b hb).trans (a6 b hb), s5.trans a7⟩
        · rw [s3]; exact a3 q hq
        · rw [s3]; exact a4
        · rw [s3, if_neg hin]; exact a5
    obtain ⟨s1, s2, s3, s4, s5, s6, s7⟩ := hs'
    exact ⟨s1, fun q hq => ⟨by rw [wI_row hq, wI_row hq, s2], s3 q hq⟩, by rw [wI_ne (by omega), wI_same], wI_same, s4, s5, s6, s7⟩
  cases i with
  | zero =>
    have eP : P 0 = none := hP
    obtain ⟨w', w5, I', N', P', e5, a5, b5, c5, d5, f5, k5⟩ := mid (wA w r 2 (N 0)) N P (I 0) h rfl
    obtain ⟨z1, z2, z3, z4, z5, z6, z7, z8⟩ := fin (wA w r 2 (N 0)) w5 w' rfl rfl (fun q hq => wA_row hq) (by rw [wA_same, if_pos rfl]) (wA_ne (by omega)) (fun _ _ => rfl) rfl a5 b5
    refine ⟨w', ?_, z1, z2, z3, z4, z5, z6, ⟨I', N', P', ?_, d5, fun j hj => ?_, fun j hl hj => ?_⟩, z7, z8⟩
    · rw [hN] at g1
      rw [eP] at g2
      rw [hN] at e5
      have e5' : b_J3_unlink_40 fu ev (mem ev (wA w r 2 (nx (n + 1) ad (0 + 1)))) (ev.1 + r) (ad 0) (I 0) (nx (n + 1) ad (0 + 1)) none = some (I 0, mem ev w') := e5
      simp only [f_J3_unlink, b_J3_unlink_0, g0, g1, g2, Option.bind_some, if_true, b_J3_unlink_21, hQ2 hr, e5']
    · subst a5
      exact c5
    · rw [f5 j hj, if_neg (by omega)]
    · rw [k5 j hl hj, hP]
  | succ p =>
    have eP : P (p + 1) = some (ad p) := hP
    obtain ⟨w1, e1, n1, s1⟩ := nw1 h (show p < n + 1 by omega) (N (p + 1))
    obtain ⟨w2, e2, n2, s2⟩ := nw2 n1 hi none
    have s12 := NS_trans s1 s2
    obtain ⟨w', w5, I', N', P', e5, a5, b5, c5, d5, f5, k5⟩ := mid w2 _ _ (I (p + 1)) n2 s12.2.1
    obtain ⟨z1, z2, z3, z4, z5, z6, z7, z8⟩ := fin w2 w5 w' s12.1 s12.2.1 (fun q _ => by rw [s12.2.2.1]) (by rw [s12.2.2.1, if_neg (by omega)]) (by rw [s12.2.2.1]) s12.2.2.2.1 s12.2.2.2.2 a5 b5
    refine ⟨w', ?_, z1, z2, z3, z4, z5, z6, ⟨I', N', P', ?_, d5, fun j hj => ?_, fun j hl hj => ?_⟩, z7, z8⟩
    · rw [hN] at g1 e1
      rw [eP] at g2
      have e5' : b_J3_unlink_40 fu ev (mem ev w2) (ev.1 + r) (ad (p + 1)) (I (p + 1)) (nx (n + 1) ad (p + 1 + 1)) (some (ad p)) = some (I (p + 1), mem ev w') := e5
      simp only [f_J3_unlink, b_J3_unlink_0, g0, g1, g2, Option.bind_some, if_false, reduceCtorEq, b_J3_unlink_29, e1, e2, e5']
    · subst a5
      exact c5
    · rw [f5 j hj]
      show upF N p (N (p + 1)) j = _
      unfold upF
      by_cases hjp : j = p
      · rw [if_pos hjp, if_pos (by omega)]
      · rw [if_neg hjp, if_neg (by omega)]
    · rw [k5 j hl hj, hP]
      show (if j = p + 1 + 1 then _ else upF P (p + 1) none j) = _
      rw [show upF P (p + 1) none j = P j from if_neg hj]
theorem un_first (hr : Hd r) (h : ND ev w ad (n + 1) I N P) (h1 : w.2.1 r 1 = nI (n + 1)) (h2 : w.2.2.1 r 2 = some (ad 0)) (hP : P 0 = none) (hN : N 0 = nx (n + 1) ad 1) : ∃ w' : Wd, f_J3_removeFirst fu ev (mem ev w) (ev.1 + r) = some (I 0, mem ev w') ∧ Un ev w w' r n 0 ad I N P := by
  have hi : 0 < n + 1 := by omega
  have g0 := nr0 h hi
  have g1 := nr1 h hi
  obtain ⟨w1, e1, n1, s1⟩ := nw0 h hi none
  obtain ⟨w2, e2, n2, s2⟩ := nw1 n1 hi none
  have s12 := NS_trans s1 s2
  have tail : ∀ (w5 : Wd) (v : Option Nat), w5.2.1 = w.2.1 → b_J3_unlinkFirst_42 fu ev (mem ev w5) (ev.1 + r) v = some (v, mem ev (wI (wI w5 r 1 (nI n)) r 0 (w.2.1 r 0 + 1))) := by
    intro w5 v hI
    have q1 : w5.2.1 r 1 = nI (n + 1) := by rw [hI]; exact h1
    have q2 : (wI w5 r 1 (nI n)).2.1 r 0 = w.2.1 r 0 := by rw [wI_ne (by omega), hI]
    simp only [b_J3_unlinkFirst_42, hI0 hr, hI1 hr, hP0 hr, hP1 hr, q1, nI_pred, q2, Option.bind_some]
  by_cases hn : n = 0
  · subst hn
    have e : nx 1 ad 1 = none := rfl
    rw [hN, e] at g1
    have t := tail (wA (wA w2 r 2 none) r 3 none) (I 0) s12.2.1
    refine ⟨wI (wI (wA (wA w2 r 2 none) r 3 none) r 1 (nI 0)) r 0 (w.2.1 r 0 + 1), ?_, ?_⟩
    · simp only [b_J3_removeFirst_17, b_J3_removeFirst_9, b_J3_removeFirst_0, f_J3_removeFirst, hA2 hr, h2, hIs hr, f_J3_unlinkFirst, b_J3_unlinkFirst_0, g0, g1, e1, e2, hQ2 hr, Option.bind_some, bd2, reduceCtorEq, if_false, if_true, b_J3_unlinkFirst_29, hQ3 hr, t]
    · refine ⟨s12.1, fun q hq => ⟨?_, ?_⟩, ?_, wI_same, ?_, ?_, ⟨_, _, _, n2, fun j hj => if_neg hj, fun j hj => ?_, fun j hl hj => by omega⟩, s12.2.2.2.1, s12.2.2.2.2⟩
      · rw [wI_row hq, wI_row hq, wA_21, wA_21, s12.2.1]
      · show (wA (wA w2 r 2 none) r 3 none).2.2.1 q = _
        rw [wA_row hq, wA_row hq, s12.2.2.1]
      · rw [wI_ne (by omega), wI_same]
      · show (wA (wA w2 r 2 none) r 3 none).2.2.1 r 2 = _
        rw [wA_ne (by omega), wA_same, if_pos rfl, hN, e]
      · show (wA (wA w2 r 2 none) r 3 none).2.2.1 r 3 = _
        rw [wA_same, if_pos rfl, hP]
      · rw [if_neg (by omega)]
        exact if_neg hj
  · have e : nx (n + 1) ad 1 = some (ad 1) := if_pos (by omega)
    rw [hN, e] at g1
    obtain ⟨w3, e3, n3, s3⟩ := nw2 (w := wA w2 r 2 (some (ad 1))) (i := 1) n2 (by omega) none
    have t := tail w3 (I 0) (by rw [s3.2.1]; exact s12.2.1)
    refine ⟨wI (wI w3 r 1 (nI n)) r 0 (w.2.1 r 0 + 1), ?_, ?_⟩
    · simp only [b_J3_removeFirst_17, b_J3_removeFirst_9, b_J3_removeFirst_0, f_J3_removeFirst, hA2 hr, h2, hIs hr, f_J3_unlinkFirst, b_J3_unlinkFirst_0, g0, g1, e1, e2, hQ2 hr, Option.bind_some, bd2, reduceCtorEq, if_false, b_J3_unlinkFirst_37, e3, t]
    · refine ⟨s3.1.trans s12.1, fun q hq => ⟨?_, ?_⟩, ?_, wI_same, ?_, ?_, ⟨_, _, _, n3, fun j hj => if_neg hj, fun j hj => ?_, fun j hl hj => ?_⟩, fun b hb => (s3.2.2.2.1 b hb).trans (s12.2.2.2.1 b hb), s3.2.2.2.2.trans s12.2.2.2.2⟩
      · rw [wI_row hq, wI_row hq, s3.2.1, wA_21, s12.2.1]
      · show w3.2.2.1 q = _
        rw [s3.2.2.1, wA_row hq, s12.2.2.1]
      · rw [wI_ne (by omega), wI_same]
      · show w3.2.2.1 r 2 = _
        rw [s3.2.2.1, wA_same, if_pos rfl, hN, e]
      · show w3.2.2.1 r 3 = _
        rw [s3.2.2.1, wA_ne (by omega), if_neg (by omega), s12.2.2.1]
      · rw [if_neg (by omega)]
        exact if_neg hj
      · show (if j = 1 then none else P j) = _
        by_cases hj1 : j = 1
        · rw [if_pos hj1, if_pos (by omega), hP]
        · rw [if_neg hj1, if_neg (by omega)]
/-- from the nodes of a list back to the list -/
theorem LL_ND (h : LL ev w r n ad qs) : ND ev w ad n (fun j => some (ia ev (qs j))) (fun j => nx n ad (j + 1)) (pv ad) := ⟨fun j hj => ⟨h.2.2.2.2.1 j hj, (h.2.2.2.2.2.1 j hj).1⟩, h.2.2.2.2.2.2⟩
def dl (i : Nat) (f : Nat → Nat) : Nat → Nat := fun j => if j < i then f j else f (j + 1)
theorem LL_un {w' : Wd} (h : LL ev w r (n + 1) ad qs) (hi : i < n + 1) (hu : Un ev w w' r n i ad (fun j => some (ia ev (qs j))) (fun j => nx (n + 1) ad (j + 1)) (pv ad)) : LL ev w' r n (dl i ad) (dl i qs) ∧ FrL r w (n + 1) ad w' n (dl i ad) ∧ w'.2.2.2.2 = w.2.2.2.2 ∧ w'.2.1 r 0 = w.2.1 r 0 + 1 := by
  obtain ⟨k1, k2, k3, k4, k5, k6, k7⟩ := h
  obtain ⟨u1, u2, u3, u4, u5, u6, ⟨I', N', P', un, uI, uN, uP⟩, u8, u9⟩ := hu
  have sz : szW w' = szW w := congrArg Prod.fst u9
  refine ⟨⟨by omega, u3, ?_, ?_, fun j hj => ?_, fun j hj => ?_, fun a b ha hb e => ?_⟩, ⟨u1, u2, fun a _ hn => u8 a hn, by rw [sz]; omega, fun j hj => Or.inr ?_⟩, u9, u4⟩
  · rw [u5]
    by_cases h0 : i = 0
    · subst h0
      rw [if_pos rfl]
      show nx (n + 1) ad 1 = nx n (dl 0 ad) 0
      unfold nx dl
      by_cases hn : 0 < n
      · rw [if_pos (by omega), if_pos hn, if_neg (by omega)]
      · rw [if_neg (by omega), if_neg hn]
    · rw [if_neg h0, k3]
      unfold nx dl
      rw [if_pos (by omega), if_pos (by omega), if_pos (by omega)]
  · rw [u6]
    by_cases hin : i = n
    · subst hin
      rw [if_pos rfl]
      cases i with
      | zero => rfl
      | succ p =>
        show some (ad p) = some (dl (p + 1) ad p)
        unfold dl
        rw [if_pos (by omega)]
    · rw [if_neg hin, k4]
      cases n with
      | zero => omega
      | succ m =>
        show some (ad (m + 1)) = some (dl i ad m)
        unfold dl
        rw [if_neg (by omega)]
  · have hc : ∃ l : Nat, l = (if j < i then j else j + 1) := ⟨_, rfl⟩
    obtain ⟨l, hl⟩ := hc
    have e1 : dl i ad j = ad l := by rw [hl]; unfold dl; split <;> rfl
    have e2 : dl i qs j = qs l := by rw [hl]; unfold dl; split <;> rfl
    have hln : l < n + 1 := by rw [hl]; split <;> omega
    have hli : l ≠ i := by rw [hl]; split <;> omega
    rw [e1, (un.1 l hln).1, uI l hli, uN l hli, uP l hln hli, e2]
    have e3 : (if l + 1 = i then nx (n + 1) ad (i + 1) else nx (n + 1) ad (l + 1)) = nx n (dl i ad) (j + 1) := by
      unfold nx dl
      by_cases hji : j < i
      · rw [if_pos hji] at hl
        subst hl
        by_cases hz : l + 1 = i
        · rw [if_pos hz, if_neg (show ¬ l + 1 < i by omega)]
          subst hz
          by_cases hy : l + 1 < n
          · rw [if_pos (by omega), if_pos (by omega)]
          · rw [if_neg (by omega), if_neg (by omega)]
        · rw [if_neg hz, if_pos (by omega), if_pos (by omega), if_pos (by omega)]
      · rw [if_neg hji] at hl
        subst hl
        rw [if_neg (by omega), if_neg (show ¬ j + 1 < i by omega)]
        by_cases hy : j + 1 < n
        · rw [if_pos (by omega), if_pos (by omega)]
        · rw [if_neg (by omega), if_neg (by omega)]
    have e4 : (if l = i + 1 then pv ad i else pv ad l) = pv (dl i ad) j := by
      by_cases hji : j < i
      · rw [if_pos hji] at hl
        subst hl
        rw [if_neg (by omega)]
        cases l with
        | zero => rfl
        | succ m =>
          show some (ad m) = some (dl i ad m)
          unfold dl
          rw [if_pos (by omega)]
      · rw [if_neg hji] at hl
        subst hl
        by_cases hz : j + 1 = i + 1
        · obtain rfl : j = i := by omega
          rw [if_pos rfl]
          cases j with
          | zero => rfl
          | succ m =>
            show some (ad m) = some (dl (m + 1) ad m)
            unfold dl
            rw [if_pos (by omega)]
        · rw [if_neg hz]
          cases j with
          | zero => omega
          | succ m =>
            show some (ad (m + 1)) = some (dl i ad m)
            unfold dl
            rw [if_neg (by omega)]
    rw [e3, e4]
  · rw [sz]
    unfold dl
    split
    · exact k6 j (by omega)
    · exact k6 (j + 1) (by omega)
  · unfold dl at e
    split at e <;> split at e
    · exact k7 a b (by omega) (by omega) e
    · have := k7 a (b + 1) (by omega) (by omega) e
      omega
    · have := k7 (a + 1) b (by omega) (by omega) e
      omega
    · have := k7 (a + 1) (b + 1) (by omega) (by omega) e
      omega
  · unfold dl
    split
    · exact ⟨j, by omega, rfl⟩
    · exact ⟨j + 1, by omega, rfl⟩
theorem ll_unlink (hr : Hd r) (h : LL ev w r (n + 1) ad qs) (hi : i < n + 1) : ∃ w' : Wd, f_J3_unlink fu ev (mem ev w) (ev.1 + r) (some (ad i)) = some (some (ia ev (qs i)), mem ev w') ∧ LL ev w' r n (dl i ad) (dl i qs) ∧ FrL r w (n + 1) ad w' n (dl i ad) ∧ w'.2.2.2.2 = w.2.2.2.2 ∧ w'.2.1 r 0 = w.2.1 r 0 + 1 := by
  obtain ⟨w', e, u⟩ := un_unlink (fu := fu) hr (LL_ND h) h.2.1 hi rfl rfl
  exact ⟨w', e, LL_un h hi u⟩
theorem ll_removeFirst (hr : Hd r) (h : LL ev w r (n + 1) ad qs) : ∃ w' : Wd, f_J3_removeFirst fu ev (mem ev w) (ev.1 + r) = some (some (ia ev (qs 0)), mem ev w') ∧ LL ev w' r n (dl 0 ad) (dl 0 qs) ∧ FrL r w (n + 1) ad w' n (dl 0 ad) ∧ w'.2.2.2.2 = w.2.2.2.2 ∧ w'.2.1 r 0 = w.2.1 r 0 + 1 := by
  obtain ⟨w', e, u⟩ := un_first (fu := fu) hr (LL_ND h) h.2.1 (by rw [h.2.2.1]; exact if_pos (by omega)) rfl rfl
  exact ⟨w', e, LL_un h (by omega) u⟩
end XUN
