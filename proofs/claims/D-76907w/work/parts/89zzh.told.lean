/-! THE PAPER: the text of six numbers, the text of the log (class) -/
def mgN (x : Int64) : Nat := x.toInt.natAbs
def sgN (x : Int64) : Nat := if x.toInt < 0 then 1 else 0
def kdN (m : Nat) : Nat := if m < 10 then 1 else if m < 100 then 2 else if m < 1000 then 3 else if m < 10000 then 4 else if m < 100000 then 5 else 6
theorem kdN_D {m : Nat} (h : m < 1000000) : Dg m (kdN m) := by
  unfold kdN Dg
  split
  · omega
  · split
    · omega
    · split
      · omega
      · split
        · omega
        · split <;> omega
theorem kdN_6 {m : Nat} : 1 ≤ kdN m ∧ kdN m ≤ 6 := by
  unfold kdN
  split
  · omega
  · split
    · omega
    · split
      · omega
      · split
        · omega
        · split <;> omega
theorem sgN_v {x : Int64} : (sgN x = 0 ∧ x.toInt = (mgN x : Int)) ∨ (sgN x = 1 ∧ x.toInt = -(mgN x : Int) ∧ 0 < mgN x) := by
  unfold sgN mgN
  split <;> omega
theorem sgN_1 {x : Int64} : sgN x ≤ 1 := by unfold sgN; split <;> omega
def txN (v : Nat → Int64) : Nat → Nat × (Nat → Int32)
  | 0 => (1, fun _ => nI 103)
  | k + 1 => ((txN v k).1 + 1 + (sgN (v k) + kdN (mgN (v k))), fun i => if i < (txN v k).1 then (txN v k).2 i else if i < (txN v k).1 + 1 then nI 32 else if i < (txN v k).1 + 1 + sgN (v k) then nI 45 else nI (48 + mgN (v k) / 10 ^ ((txN v k).1 + 1 + (sgN (v k) + kdN (mgN (v k))) - 1 - i) % 10))
theorem tx_le {v : Nat → Int64} : ∀ k : Nat, (txN v k).1 ≤ 1 + 8 * k ∧ 1 ≤ (txN v k).1 := by
  intro k
  induction k with
  | zero => exact ⟨Nat.le_refl 1, Nat.le_refl 1⟩
  | succ k ih =>
    have h1 := sgN_1 (x := v k)
    have h2 := kdN_6 (m := mgN (v k))
    show (txN v k).1 + 1 + (sgN (v k) + kdN (mgN (v k))) ≤ _ ∧ 1 ≤ (txN v k).1 + 1 + (sgN (v k) + kdN (mgN (v k)))
    omega
theorem tx_127 {v : Nat → Int64} : ∀ (k i : Nat), 0 ≤ ((txN v k).2 i).toInt ∧ ((txN v k).2 i).toInt ≤ 127 := by
  intro k
  induction k with
  | zero => intro i; exact d127 (a := 103) (by decide)
  | succ k ih =>
    intro i
    show 0 ≤ (if i < (txN v k).1 then (txN v k).2 i else if i < (txN v k).1 + 1 then nI 32 else if i < (txN v k).1 + 1 + sgN (v k) then nI 45 else nI (48 + mgN (v k) / 10 ^ ((txN v k).1 + 1 + (sgN (v k) + kdN (mgN (v k))) - 1 - i) % 10)).toInt ∧ (if i < (txN v k).1 then (txN v k).2 i else if i < (txN v k).1 + 1 then nI 32 else if i < (txN v k).1 + 1 + sgN (v k) then nI 45 else nI (48 + mgN (v k) / 10 ^ ((txN v k).1 + 1 + (sgN (v k) + kdN (mgN (v k))) - 1 - i) % 10)).toInt ≤ 127
    split
    · exact ih i
    · split
      · exact d127 (by decide)
      · split
        · exact d127 (by decide)
        · exact d127 (by omega)
section XTD
variable {ev : Ev} {w w' w'' : Wd} {fu lo S V cap n k i m c d p s : Nat} {f : Nat → Int32} {x : Int32} {σ : Mm} {v : Nat → Int64}
theorem X1_six_k (hc : c < 118) (hk : k < 6) : f_X1_six fu ev (mem ev w) (ev.1 + cr c) (nI k) = some (cv w c k, mem ev w) := by
  match k, hk with
  | 0, _ => exact X1_six_0 hc
  | 1, _ => exact X1_six_1 hc
  | 2, _ => exact X1_six_2 hc
  | 3, _ => exact X1_six_3 hc
  | 4, _ => exact X1_six_4 hc
  | 5, _ => exact X1_six_5 hc
theorem told_l (hE : EvOk ev) (hfu : 8 ≤ fu) (hc : c < 118) (hv : ∀ i : Nat, i < 6 → mgN (v i) < 1000000) : ∀ (d k g : Nat) (w : Wd) (V cap : Nat) (f : Nat → Int32), k + d = 6 → d < g → SBd ev w lo S V cap (txN v k).1 f → (∀ i : Nat, i < (txN v k).1 → f i = (txN v k).2 i) → (∀ i : Nat, i < 6 → cv w c i = v i) → szW w + 2 * d + 1 ≤ ev.2.1 → slW w + 2 * (120 - cap) ≤ ev.2.2.1 → ∃ (w' : Wd) (V' cap' : Nat) (f' : Nat → Int32), SBd ev w' lo S V' cap' (txN v 6).1 f' ∧ (∀ i : Nat, i < (txN v 6).1 → f' i = (txN v 6).2 i) ∧ Fr0 lo w w' ∧ szW w' ≤ szW w + 2 * d ∧ cap ≤ cap' ∧ slW w' + 2 * cap ≤ slW w + 2 * cap' ∧ L_X0_told_13 fu ev g (mem ev w) (some (ev.1 + cr c)) S (nI k) = b_X0_told_40 fu ev (mem ev w') S := by
  intro d
  induction d with
  | zero =>
    intro k g w V cap f hk hg hS hf hcv h1 h2
    obtain ⟨g, rfl⟩ : ∃ g', g = g' + 1 := ⟨g - 1, by omega⟩
    obtain rfl : k = 6 := by omega
    refine ⟨w, V, cap, f, hS, hf, Fr0_refl, Nat.le_refl _, Nat.le_refl _, Nat.le_refl _, ?_⟩
    show b_X0_told_13 _ fu ev _ _ _ _ = _
    unfold b_X0_told_13
    rw [if_pos (by decide)]
  | succ d ih =>
    intro k g w V cap f hk hg hS hf hcv h1 h2
    obtain ⟨g, rfl⟩ : ∃ g', g = g' + 1 := ⟨g - 1, by omega⟩
    have k6 : k < 6 := by omega
    have n6 : ¬ (6 : Int32) ≤ nI k := fun z => absurd ((s_le (i := 6) (by decide) (by omega)).mp z) (by omega)
    have tl := tx_le (v := v) k
    have s1 := sgN_1 (x := v k)
    have k1 := kdN_6 (m := mgN (v k))
    obtain ⟨n, hn⟩ : ∃ n, n = (txN v k).1 := ⟨_, rfl⟩
    have hSlo := hS.1
    have hS1 := hS.2.1
    have hSV := hS.2.2.1
    have hSs := hS.2.2.2.1
    have iS0 : isC (mem ev w) S 13 = some () := o_is (by omega) hS.2.2.2.2.2.2.1
    obtain ⟨w1, V1, cap1, f1, a1, a2, a3, a4, a5, a6, a7, a8, a9⟩ := sb_char (fu := fu) (c := 32) hE hS (by decide) (by omega) (by omega) h2
    have c122 := a2.2.2.2.2.2.2.2.2.2.1
    have c16 := a2.2.2.2.2.2.2.2.2.2.2.1
    have dS1 := a2.2.2.2.2.2.2.1
    have lo1 := a2.2.2.1
    have iS1 : isC (mem ev w1) S 13 = some () := o_is (by omega) dS1
    have cv1 : cv w1 c k = v k := by rw [cv_row a5.1]; exact hcv k k6
    obtain ⟨w2, V2, cap2, f2, b1, b2, b3, b4, b5, b6, b7, b8, b9, b10⟩ := sb_long (fu := fu) (v := v k) hE hfu a2 (kdN_D (hv k k6)) sgN_v (by omega) (by omega) (by omega)
    have c122b := b2.2.2.2.2.2.2.2.2.2.1
    have e6 : (txN v (k + 1)).1 = (txN v k).1 + 1 + (sgN (v k) + kdN (mgN (v k))) := rfl
    rw [← e6] at b2
    obtain ⟨w3, V3, cap3, f3, c1, c2, c3, c4, c5, c6, c7⟩ := ih (k + 1) g w2 V2 cap2 f2 (by omega) (by omega) b2 (by
      intro i hi
      show f2 i = if i < (txN v k).1 then (txN v k).2 i else if i < (txN v k).1 + 1 then nI 32 else if i < (txN v k).1 + 1 + sgN (v k) then nI 45 else nI (48 + mgN (v k) / 10 ^ ((txN v k).1 + 1 + (sgN (v k) + kdN (mgN (v k))) - 1 - i) % 10)
      rw [e6] at hi
      by_cases x1 : i < (txN v k).1
      · rw [if_pos x1, b3 i (by omega), a3 i x1, hf i x1]
      · rw [if_neg x1]
        by_cases x2 : i < (txN v k).1 + 1
        · rw [if_pos x2, b3 i x2, show i = (txN v k).1 by omega, a4]
        · rw [if_neg x2]
          by_cases x3 : i < (txN v k).1 + 1 + sgN (v k)
          · rw [if_pos x3, b4 i (by omega) x3]
          · rw [if_neg x3, b5 i (by omega) (by omega)]) (fun i hi => by rw [cv_row b6.1, cv_row a5.1]; exact hcv i hi) (by omega) (by omega)
    have fa : Fr0 lo w w1 := Fr0_S a5 hS1 hSV (by omega)
    have fb : Fr0 lo w1 w2 := Fr0_S b6 hS1 lo1 (by have := a2.2.2.2.1; omega)
    refine ⟨w3, V3, cap3, f3, c1, c2, Fr0_trans fa (Fr0_trans fb c3), by omega, by omega, by omega, ?_⟩
    rw [← c7]
    show b_X0_told_13 _ fu ev _ _ _ _ = _
    unfold b_X0_told_13 b_X0_told_19
    rw [if_neg n6, iS0, Option.bind_some, show (32 : Int32) = nI 32 from rfl, a1, b2s, Option.bind_some, cis hc, Option.bind_some, X1_six_k hc k6, b2s, Option.bind_some, iS1, Option.bind_some, cv1, b1, b2s, nI_1]
/-- the class's text of a cell -/
theorem X0_told_c (hE : EvOk ev) (hfu : 10 ≤ fu) (hc : c < 118) (hv : ∀ i : Nat, i < 6 → mgN (cv w c i) < 1000000) (hz : ev.1 + 984 ≤ szW w) (h1 : szW w + 20 ≤ ev.2.1) (h2 : slW w + 300 ≤ ev.2.2.1) : ∃ (w' : Wd) (a b : Nat) (g : Nat → Int32), f_X0_told fu ev (mem ev w) (some (ev.1 + cr c)) = some (some a, mem ev w') ∧ dyn w' a = some (.inr (14, [.ref b, .int 0, .int 0, .int 0])) ∧ dyn w' b = oBy (txN (cv w c) 6).1 g ∧ (∀ i : Nat, i < (txN (cv w c) 6).1 → g i = (txN (cv w c) 6).2 i) ∧ ev.1 + 984 ≤ a ∧ ev.1 + 984 ≤ b ∧ a < szW w' ∧ b < szW w' ∧ Fr0 (szW w) w w' ∧ szW w' ≤ szW w + 16 ∧ slW w' ≤ slW w + 300 := by
  have tl := tx_le (v := cv w c) 6
  obtain ⟨w0, w1, f1, e1, e2, e3, e4, e5, e6, e7, e8⟩ := sb_g (fu := fu) (w := w) hE hz (by omega) (by omega)
  obtain ⟨w2, V2, cap2, f2, b1, b2, b3, b4, b5, b6, b7⟩ := told_l (fu := fu) (v := cv w c) hE (by omega) hc hv 6 0 fu w1 _ 17 f1 (by decide) (by omega) e4 (by
    intro i hi
    have : i = 0 := by have : (txN (cv w c) 0).1 = 1 := rfl; omega
    subst this
    exact e5) (fun i _ => by rw [cv_row e6.1]) (by omega) (by omega)
  have c122 := b1.2.2.2.2.2.2.2.2.2.1
  obtain ⟨w3, a, b, g, d1, d2, d3, d4, d5, d6, d7, d8, d9, d10, d11⟩ := sb_str (fu := fu) hE b1 (by omega) (by omega)
  refine ⟨w3, a, b, g, ?_, d2, d3, fun i hi => (d4 i hi).trans (b2 i hi), d5, d6, d7, d8, Fr0_trans e6 (Fr0_trans b3 d9), by omega, by omega⟩
  unfold f_X0_told b_X0_told_0
  rw [e1, b2s, e2, Option.bind_some, e3, b2s]
  refine b7.trans ?_
  unfold b_X0_told_40
  rw [o_is (show ev.1 + 984 ≤ szW w from hz) b1.2.2.2.2.2.2.1, Option.bind_some, d1]
  rfl
end XTD
