/-! SHELLS: the next square (model), and the operation shell -/
def nxf (A : Nat → Int64) (c : Nat) : Nat := if c = 364 then 364 else cpN A (fun z => decide (z ≤ A c)) 364
def itN (f : Nat → Nat) : Nat → Nat → Nat
  | 0, c => c
  | l + 1, c => itN f l (f c)
def shR (A : Nat → Int64) (x3 : Int32) (c : Nat) : Int32 := if c = 364 then -2 else if x3 = 0 then (A c).toInt32 else 2 * (nI (nxf A c) - nI c)
def NX (v : Nat → Int64) (ab : Int64) (J : Nat) (le : Int64) (cn : Nat) : Prop := (le = -9223372036854775808 ∧ cn = 0 ∧ ∀ j : Nat, j < J → j ≠ 364 → sqf v j ≤ ab) ∨ (le ≠ -9223372036854775808 ∧ ab < le ∧ (∃ j : Nat, j < J ∧ j ≠ 364 ∧ sqf v j = le) ∧ (∀ j : Nat, j < J → j ≠ 364 → ab < sqf v j → le ≤ sqf v j) ∧ cn = cE (sqf v) (fun z => decide (z = le)) J)
section XSH
variable {ev : Ev} {w w0 w' : Wd} {fu k n i j J L a b c N M T : Nat} {v A : Nat → Int64} {x ab le : Int64} {m u z x3 : Int32} {Kp : Option Nat} {P : Int64 → Bool}
theorem cE_0 (h : ∀ j : Nat, j < n → j ≠ 364 → P (A j) = false) : cE A P n = 0 := by
  induction n with
  | zero => rfl
  | succ n ih =>
    unfold cE
    rw [ih (fun j hj => h j (by omega)), if_neg]
    rintro ⟨h1, h2⟩
    rw [h n (by omega) h1] at h2
    exact absurd h2 (by decide)
theorem cE_s (h : n ≠ 364) : cE A P (n + 1) = cE A P n + if P (A n) = true then 1 else 0 := by
  show cE A P n + (if n ≠ 364 ∧ P (A n) = true then 1 else 0) = _
  by_cases e : P (A n) = true
  · rw [if_pos ⟨h, e⟩, if_pos e]
  · rw [if_neg (fun q => e q.2), if_neg e]
theorem cE_m (h : n = 364) : cE A P (n + 1) = cE A P n := by
  show cE A P n + (if n ≠ 364 ∧ P (A n) = true then 1 else 0) = _
  rw [if_neg (fun q => q.1 h), Nat.add_zero]
theorem cE_le : cE A P n ≤ n := by
  induction n with
  | zero => exact Nat.le_refl _
  | succ n ih => unfold cE; split <;> omega
theorem sqf_no (hv : OkV v) (hj : j < 729) : sqf v j ≠ -9223372036854775808 := by
  intro e
  have := (sqf_i hv hj).1
  rw [e] at this
  exact absurd this (by decide)
theorem X2_sq6 (hs : sl w 6 = v) (hj : j < 729) : f_X2_square fu ev (mem ev w) (ev.1 + 966) 6 (((nI j / (81 : Int32)) - (4 : Int32)).toInt64) ((((nI j / (9 : Int32)) - (nI j / (9 : Int32)) / (9 : Int32) * (9 : Int32)) - (4 : Int32)).toInt64) (((nI j - nI j / (9 : Int32) * (9 : Int32)) - (4 : Int32)).toInt64) = some (sqf v j, mem ev w) := by
  have d1 : nI j / (81 : Int32) = nI (j / 81) := pk_div (d := 81) (by omega) (by decide) (by decide)
  have d2 : nI j / (9 : Int32) = nI (j / 9) := pk_div (d := 9) (by omega) (by decide) (by decide)
  have d3 : nI (j / 9) - nI (j / 9) / (9 : Int32) * (9 : Int32) = nI (j / 9 % 9) := pk_rem (d := 9) (by omega) (by decide) (by decide)
  have d4 : nI j - nI (j / 9) * (9 : Int32) = nI (j % 9) := by rw [← d2]; exact pk_rem (d := 9) (by omega) (by decide) (by decide)
  have n0 : f_X2_n fu ev (mem ev w) (ev.1 + 966) 6 0 = some (v 0, mem ev w) := by rw [← hs]; exact X2_n_0 (K := 6) (by decide)
  have n1 : f_X2_n fu ev (mem ev w) (ev.1 + 966) 6 1 = some (v 1, mem ev w) := by rw [← hs]; exact X2_n_1 (K := 6) (by decide)
  have n2 : f_X2_n fu ev (mem ev w) (ev.1 + 966) 6 2 = some (v 2, mem ev w) := by rw [← hs]; exact X2_n_2 (K := 6) (by decide)
  have n3 : f_X2_n fu ev (mem ev w) (ev.1 + 966) 6 3 = some (v 3, mem ev w) := by rw [← hs]; exact X2_n_3 (K := 6) (by decide)
  have n4 : f_X2_n fu ev (mem ev w) (ev.1 + 966) 6 4 = some (v 4, mem ev w) := by rw [← hs]; exact X2_n_4 (K := 6) (by decide)
  have n5 : f_X2_n fu ev (mem ev w) (ev.1 + 966) 6 5 = some (v 5, mem ev w) := by rw [← hs]; exact X2_n_5 (K := 6) (by decide)
  rw [d1, d2, d3, d4]
  simp only [f_X2_square, b_X2_square_0, mis, n0, n1, n2, n3, n4, n5, Option.bind_some, bd2]
  rfl
theorem wI31 {x y : Int32} : wI (wI w 966 31 x) 966 31 y = wI w 966 31 y := by
  refine Prod.ext rfl (Prod.ext (funext fun q => funext fun i => ?_) rfl)
  show (if q = 966 ∧ i = 31 then y else if q = 966 ∧ i = 31 then x else w.2.1 q i) = if q = 966 ∧ i = 31 then y else w.2.1 q i
  split <;> rfl
theorem g31 {x : Int32} : (wI w 966 31 x).2.1 966 31 = x := by
  show (if 966 = 966 ∧ 31 = 31 then x else w.2.1 966 31) = x
  rw [if_pos ⟨rfl, rfl⟩]
theorem nx_l (hv : OkV v) (hs : sl w 6 = v) : ∀ (d g J : Nat) (le : Int64) (cn : Nat), J + d = 729 → d < g → NX v ab J le cn → ∃ (le' : Int64) (cn' : Nat), NX v ab 729 le' cn' ∧ L_X2_next_13 fu ev g (mem ev (wI w 966 31 (nI cn))) (ev.1 + 966) 6 ab le (nI J) = some (le', mem ev (wI w 966 31 (nI cn'))) := by
  intro d
  induction d with
  | zero =>
    intro g J le cn hJ hg hn
    obtain ⟨g, rfl⟩ : ∃ g', g = g' + 1 := ⟨g - 1, by omega⟩
    obtain rfl : J = 729 := by omega
    exact ⟨le, cn, hn, rfl⟩
  | succ d ih =>
    intro g J le cn hJ hg hn
    obtain ⟨g, rfl⟩ : ∃ g', g = g' + 1 := ⟨g - 1, by omega⟩
    have h7 : ¬ (729 : Int32) ≤ nI J := nI_ge (b := 729) (by omega) (by decide)
    have hd : L_X2_next_13 fu ev (g + 1) (mem ev (wI w 966 31 (nI cn))) (ev.1 + 966) 6 ab le (nI J) = b_X2_next_21 (L_X2_next_13 fu ev g) fu ev (mem ev (wI w 966 31 (nI cn))) (ev.1 + 966) 6 ab le (nI J) := by
      show b_X2_next_13 _ fu ev _ _ _ _ _ _ = _
      unfold b_X2_next_13
      rw [if_neg h7]
    by_cases hm : J = 364
    · have hn' : NX v ab (J + 1) le cn := by
        rcases hn with ⟨a1, a2, a3⟩ | ⟨a1, a2, ⟨j, a3, a4, a5⟩, a6, a7⟩
        · exact Or.inl ⟨a1, a2, fun j hj hne => a3 j (by omega) hne⟩
        · exact Or.inr ⟨a1, a2, ⟨j, by omega, a4, a5⟩, fun j hj hne => a6 j (by omega) hne, by rw [cE_m hm]; exact a7⟩
      obtain ⟨le', cn', k1, k2⟩ := ih g (J + 1) le cn (by omega) (by omega) hn'
      refine ⟨le', cn', k1, ?_⟩
      rw [hd, ← k2]
      subst hm
      unfold b_X2_next_21 b_X2_next_29 b_X2_next_67 b_X2_next_160
      rw [if_pos (show nI 364 = (364 : Int32) from rfl), if_pos rfl, nI_1]
    · have hne : ¬ nI J = (364 : Int32) := nI_ne (b := 364) (by omega) (by decide) hm
      have sq := X2_sq6 (ev := ev) (fu := fu) (w := wI w 966 31 (nI cn)) (v := v) hs (show J < 729 by omega)
      obtain ⟨y, hy⟩ : ∃ y, y = sqf v J := ⟨_, rfl⟩
      have yno := sqf_no hv (show J < 729 by omega)
      rw [← hy] at sq yno
      have hd2 : L_X2_next_13 fu ev (g + 1) (mem ev (wI w 966 31 (nI cn))) (ev.1 + 966) 6 ab le (nI J) = b_X2_next_78 (L_X2_next_13 fu ev g) fu ev (mem ev (wI w 966 31 (nI cn))) (ev.1 + 966) 6 ab le (nI J) y := by
        rw [hd]
        unfold b_X2_next_21 b_X2_next_35 b_X2_next_67
        rw [if_neg hne, mis, Option.bind_some, sq]
        show (if y = -9223372036854775808 then _ else _) = _
        rw [if_neg yno]
      rw [hd2]
      unfold b_X2_next_78
      by_cases c1 : ab < y
      · rw [if_pos c1]
        rcases hn with ⟨a1, a2, a3⟩ | ⟨a1, a2, a3, a6, a7⟩
        · subst a1
          have hn' : NX v ab (J + 1) y 1 := by
            refine Or.inr ⟨yno, c1, ⟨J, by omega, hm, hy.symm⟩, fun j hj hne hl => ?_, ?_⟩
            · by_cases q : j = J
              · rw [q, hy]; exact Int64.le_refl _
              · exact absurd (a3 j (by omega) hne) (Int64.not_le.mpr hl)
            · rw [cE_s hm, cE_0, if_pos (decide_eq_true hy.symm)]
              intro j hj hne
              exact decide_eq_false (fun e => absurd (a3 j hj hne) (Int64.not_le.mpr (e ▸ c1)))
          obtain ⟨le', cn', k1, k2⟩ := ih g (J + 1) y 1 (by omega) (by omega) hn'
          refine ⟨le', cn', k1, ?_⟩
          rw [← k2]
          simp only [b_X2_next_88, b_X2_next_106, b_X2_next_131, b_X2_next_151, b_X2_next_158, b_X2_next_160, mp31, wI31, nI_1, if_true, Option.bind_some]
          rfl
        · by_cases c2 : le ≤ y
          · by_cases c3 : y = le
            · have hn' : NX v ab (J + 1) le (cn + 1) := by
                obtain ⟨j, a4, a5, a8⟩ := a3
                refine Or.inr ⟨a1, a2, ⟨j, by omega, a5, a8⟩, fun j hj hne hl => ?_, ?_⟩
                · by_cases q : j = J
                  · rw [q, ← hy]; exact c2
                  · exact a6 j (by omega) hne hl
                · rw [cE_s hm, a7, if_pos (decide_eq_true (hy.symm.trans c3))]
              obtain ⟨le', cn', k1, k2⟩ := ih g (J + 1) le (cn + 1) (by omega) (by omega) hn'
              refine ⟨le', cn', k1, ?_⟩
              rw [← k2]
              subst c3
              simp only [b_X2_next_88, b_X2_next_98, b_X2_next_110, b_X2_next_118, b_X2_next_131, b_X2_next_143, b_X2_next_156, b_X2_next_158, b_X2_next_160, mi31, g31, mp31, wI31, nI_1, a1, c2, if_true, if_false, Option.bind_some]
            · have hn' : NX v ab (J + 1) le cn := by
                obtain ⟨j, a4, a5, a8⟩ := a3
                refine Or.inr ⟨a1, a2, ⟨j, by omega, a5, a8⟩, fun j hj hne hl => ?_, ?_⟩
                · by_cases q : j = J
                  · rw [q, ← hy]; exact c2
                  · exact a6 j (by omega) hne hl
                · rw [cE_s hm, a7, if_neg (fun e => c3 (hy.trans (of_decide_eq_true e))), Nat.add_zero]
              obtain ⟨le', cn', k1, k2⟩ := ih g (J + 1) le cn (by omega) (by omega) hn'
              refine ⟨le', cn', k1, ?_⟩
              rw [← k2]
              simp only [b_X2_next_88, b_X2_next_98, b_X2_next_110, b_X2_next_127, b_X2_next_131, b_X2_next_143, b_X2_next_156, b_X2_next_158, b_X2_next_160, mi31, g31, mp31, wI31, nI_1, a1, c2, c3, if_true, if_false, Option.bind_some]
          · have hn' : NX v ab (J + 1) y 1 := by
              have c2' := Int64.not_le.mp c2
              refine Or.inr ⟨yno, c1, ⟨J, by omega, hm, hy.symm⟩, fun j hj hne hl => ?_, ?_⟩
              · by_cases q : j = J
                · rw [q, hy]; exact Int64.le_refl _
                · exact Int64.le_trans (Int64.le_of_lt c2') (a6 j (by omega) hne hl)
              · rw [cE_s hm, cE_0, if_pos (decide_eq_true hy.symm)]
                intro j hj hne
                exact decide_eq_false (fun e => absurd (e ▸ a6 j hj hne (e.symm ▸ c1)) c2)
            obtain ⟨le', cn', k1, k2⟩ := ih g (J + 1) y 1 (by omega) (by omega) hn'
            refine ⟨le', cn', k1, ?_⟩
            rw [← k2]
            simp only [b_X2_next_88, b_X2_next_98, b_X2_next_106, b_X2_next_131, b_X2_next_143, b_X2_next_151, b_X2_next_158, b_X2_next_160, mp31, wI31, nI_1, a1, c2, if_true, if_false, Option.bind_some]
            rfl
      · rw [if_neg c1]
        have c1' := Int64.not_lt.mp c1
        have hn' : NX v ab (J + 1) le cn := by
          rcases hn with ⟨a1, a2, a3⟩ | ⟨a1, a2, ⟨j, a3, a4, a5⟩, a6, a7⟩
          · refine Or.inl ⟨a1, a2, fun j hj hne => ?_⟩
            by_cases q : j = J
            · rw [q, ← hy]; exact c1'
            · exact a3 j (by omega) hne
          · refine Or.inr ⟨a1, a2, ⟨j, by omega, a4, a5⟩, fun j hj hne hl => ?_, ?_⟩
            · by_cases q : j = J
              · rw [q, ← hy] at hl
                exact absurd hl c1
              · exact a6 j (by omega) hne hl
            · rw [cE_s hm, a7, if_neg (fun e => c1 (by rw [hy, of_decide_eq_true e]; exact a2)), Nat.add_zero]
        obtain ⟨le', cn', k1, k2⟩ := ih g (J + 1) le cn (by omega) (by omega) hn'
        refine ⟨le', cn', k1, ?_⟩
        rw [← k2]
        unfold b_X2_next_85 b_X2_next_160
        rw [nI_1]
end XSH
