/-! THE PAPER: the model's -/
def PP (q i : Nat) : Prop := q = 978 ∨ (q = 966 ∧ i = 26)
def MT (w : Wd) (n : Nat) (g : Nat → Int32) : Prop := w.2.1 966 26 = nI n ∧ ∀ i : Nat, i < n → w.2.1 978 i = g i
section XPM
variable {ev : Ev} {w w' w'' : Wd} {fu n k i m t j c : Nat} {g G : Nat → Int32} {x : Int32} {σ : Mm} {M ten : Int64}
theorem MT_ext {g' : Nat → Int32} (h : MT w n g) (e : ∀ i : Nat, i < n → g i = g' i) : MT w n g' := ⟨h.1, fun i hi => (h.2 i hi).trans (e i hi)⟩
theorem PP_t (h : Ri PP w w') (h2 : Ri PP w' w'') : Ri PP w w'' := Ri_trans h h2 (fun _ _ z => z) (fun _ _ z => z)
theorem p_put (h : MT w n g) (hn : n < 80) : ∃ w' : Wd, f_X2_prints_2 fu ev (mem ev w) (ev.1 + 966) x = some ((), mem ev w') ∧ MT w' (n + 1) (fun i => if i = n then x else g i) ∧ Ri PP w w' := by
  have st : astI ev 0 (mem ev w) (ev.1 + 978) (nI n) x = some (mem ev (wI w 978 n x)) := by
    rw [stI (r := 978) (n := 80) (κ := 0) rfl (by decide) (vp_in_nI hn (by decide)), nI_clamp (by omega)]
    rfl
  have g26 : (wI w 978 n x).2.1 966 26 = nI n := by
    show (if 966 = 978 ∧ 26 = n then x else w.2.1 966 26) = nI n
    rw [if_neg (by omega)]
    exact h.1
  refine ⟨wI (wI w 978 n x) 966 26 (nI (n + 1)), ?_, ⟨?_, fun i hi => ?_⟩, ⟨rfl, rfl, fun q i hq => ?_⟩⟩
  · unfold f_X2_prints_2 b_X2_prints_2_0
    rw [mf21, Option.bind_some, mi26, Option.bind_some, h.1, Option.bind_some, st, Option.bind_some, mi26, Option.bind_some, g26, nI_1, mp26]
    rfl
  · show (if 966 = 966 ∧ 26 = 26 then nI (n + 1) else (wI w 978 n x).2.1 966 26) = nI (n + 1)
    rw [if_pos ⟨rfl, rfl⟩]
  · show (if 978 = 966 ∧ i = 26 then nI (n + 1) else if 978 = 978 ∧ i = n then x else w.2.1 978 i) = if i = n then x else g i
    rw [if_neg (by omega)]
    by_cases c : i = n
    · rw [if_pos ⟨rfl, c⟩, if_pos c]
    · rw [if_neg (fun z => c z.2), if_neg c]
      exact h.2 i (by omega)
  · show (if q = 966 ∧ i = 26 then nI (n + 1) else if q = 978 ∧ i = n then x else w.2.1 q i) = _
    rw [if_neg (fun z => hq (Or.inr z)), if_neg (fun z => hq (Or.inl z.1))]
theorem dv (hM : M.toInt = (m : Int)) (ht : ten.toInt = (t : Int)) (hm : m < 1000000000) : (M / ten).toInt = ((m / t : Nat) : Int) := by
  rw [Int64.toInt_div, hM, ht, Int.tdiv_eq_ediv_of_nonneg (by omega)]
  have e : (m : Int) / (t : Int) = ((m / t : Nat) : Int) := (Int.natCast_ediv m t).symm
  have l : m / t ≤ m := Nat.div_le_self _ _
  rw [e]
  obtain ⟨q, hq⟩ : ∃ q, q = m / t := ⟨_, rfl⟩
  rw [← hq] at l ⊢
  exact Int.bmod_eq_of_le (by omega) (by omega)
theorem dgt (hM : M.toInt = (m : Int)) (hm : m < 1000000000) : ((48 : Int64) + (M - M / (10 : Int64) * (10 : Int64))).toInt32 = nI (48 + m % 10) := by
  have d := dv (ten := 10) (t := 10) hM (by decide) hm
  have t10 : (10 : Int64).toInt = 10 := by decide
  have t48 : (48 : Int64).toInt = 48 := by decide
  have m1 := jm (a := M / 10) (b := 10) (by rw [d, t10]; omega) (by rw [d, t10]; omega)
  have m2 := js (a := M) (b := M / 10 * 10) (by rw [m1, d, t10, hM]; omega) (by rw [m1, d, t10, hM]; omega)
  have m3 := ja (a := 48) (b := M - M / 10 * 10) (by rw [m2, m1, d, t10, hM, t48]; omega) (by rw [m2, m1, d, t10, hM, t48]; omega)
  apply Int32.toInt_inj.mp
  rw [Int64.toInt_toInt32, m3, m2, m1, d, t10, hM, t48, nI_toInt (by omega)]
  rw [Int.bmod_eq_of_le (by omega) (by omega)]
  omega
theorem nzt (ht : ten.toInt = (t : Int)) (h0 : 0 < t) : nzJ ten = some () := by
  unfold nzJ
  rw [if_neg]
  intro z
  rw [z] at ht
  have : (0 : Int64).toInt = 0 := by decide
  omega
theorem tn_st {x0 q : Nat} (hM : M.toInt = (m : Int)) (hm : m < 1000000) (ht : ten.toInt = (t : Int)) (h0 : 0 < t) : L_X2_printsNumber_20 fu ev (q + 1) σ x0 M ten = if m / t ≤ 9 then L_X2_printsNumber_42 fu ev fu σ x0 M ten else L_X2_printsNumber_20 fu ev q σ x0 M (ten * 10) := by
  have d := dv hM ht (by omega)
  have t9 : (9 : Int64).toInt = 9 := by decide
  show b_X2_printsNumber_20 _ fu ev _ _ _ _ = _
  unfold b_X2_printsNumber_20 b_X2_printsNumber_31
  rw [nzt ht h0, Option.bind_some]
  by_cases c : m / t ≤ 9
  · rw [if_pos c, if_pos (by rw [Int64.le_iff_toInt_le, d, t9]; omega)]
  · rw [if_neg c, if_neg (by rw [Int64.le_iff_toInt_le, d, t9]; omega)]
theorem tn_d {x0 : Nat} (hf : 8 ≤ fu) (hM : M.toInt = (m : Int)) (hD : Dg m k) : ∃ ten : Int64, ten.toInt = ((10 ^ (k - 1) : Nat) : Int) ∧ L_X2_printsNumber_20 fu ev fu σ x0 M 1 = L_X2_printsNumber_42 fu ev fu σ x0 M ten := by
  have hm : m < 1000000 := by unfold Dg at hD; omega
  obtain ⟨q, hq⟩ : ∃ q, fu = q + 7 := ⟨fu - 7, by omega⟩
  have hL : L_X2_printsNumber_20 fu ev fu σ x0 M 1 = L_X2_printsNumber_20 fu ev (q + 6 + 1) σ x0 M 1 := by rw [show q + 6 + 1 = fu by omega]
  rw [hL, tn_st (t := 1) hM hm (by decide) (by decide)]
  unfold Dg at hD
  rcases hD with ⟨rfl, h⟩ | h
  · exact ⟨1, by decide, by rw [if_pos (by omega)]⟩
  rw [if_neg (by omega), tn_st (t := 10) hM hm (by decide) (by decide)]
  rcases h with ⟨rfl, h⟩ | h
  · exact ⟨1 * 10, by decide, by rw [if_pos (by omega)]⟩
  rw [if_neg (by omega), tn_st (t := 100) hM hm (by decide) (by decide)]
  rcases h with ⟨rfl, h⟩ | h
  · exact ⟨1 * 10 * 10, by decide, by rw [if_pos (by omega)]⟩
  rw [if_neg (by omega), tn_st (t := 1000) hM hm (by decide) (by decide)]
  rcases h with ⟨rfl, h⟩ | h
  · exact ⟨1 * 10 * 10 * 10, by decide, by rw [if_pos (by omega)]⟩
  rw [if_neg (by omega), tn_st (t := 10000) hM hm (by decide) (by decide)]
  rcases h with ⟨rfl, h⟩ | ⟨rfl, h⟩
  · exact ⟨1 * 10 * 10 * 10 * 10, by decide, by rw [if_pos (by omega)]⟩
  rw [if_neg (by omega), tn_st (t := 100000) hM hm (by decide) (by decide)]
  exact ⟨1 * 10 * 10 * 10 * 10 * 10, by decide, by rw [if_pos (by omega)]⟩
theorem dig_l (hM : M.toInt = (m : Int)) (hm : m < 1000000) : ∀ (j q : Nat) (w : Wd) (ten : Int64) (n : Nat) (G : Nat → Int32), ten.toInt = ((10 ^ j : Nat) : Int) → j + 1 < q → MT w n G → n + (j + 1) ≤ 80 → ∃ w' : Wd, L_X2_printsNumber_42 fu ev q (mem ev w) (ev.1 + 966) M ten = some ((), mem ev w') ∧ MT w' (n + (j + 1)) (fun i => if i < n then G i else nI (48 + m / 10 ^ (n + (j + 1) - 1 - i) % 10)) ∧ Ri PP w w' := by
  intro j
  induction j with
  | zero =>
    intro q w ten n G ht hq hT hn
    obtain ⟨q, rfl⟩ : ∃ q', q = q' + 1 + 1 := ⟨q - 2, by omega⟩
    obtain ⟨w1, e1, e2, e3⟩ := p_put (fu := fu) (ev := ev) (x := nI (48 + m % 10)) hT (by omega)
    have ht : ten.toInt = ((1 : Nat) : Int) := ht
    have d := dv (m := m) hM ht (by omega)
    rw [Nat.div_one] at d
    have dg := dgt (M := M / ten) (m := m) d (by omega)
    have d10 : (ten / 10).toInt = ((1 / 10 : Nat) : Int) := dv (m := 1) (t := 10) ht (by decide) (by decide)
    have np : ¬ ten ≤ 0 := by
      rw [Int64.le_iff_toInt_le, ht]
      decide
    have z0 : ten / 10 ≤ 0 := by
      rw [Int64.le_iff_toInt_le, d10]
      decide
    refine ⟨w1, ?_, MT_ext e2 (fun i hi => ?_), e3⟩
    · show b_X2_printsNumber_42 _ fu ev _ _ _ _ = _
      unfold b_X2_printsNumber_42
      rw [if_neg np]
      unfold b_X2_printsNumber_49
      rw [nzt ht (by decide), Option.bind_some, mis, Option.bind_some, dg, e1, b2s]
      show b_X2_printsNumber_42 _ fu ev _ _ _ _ = _
      unfold b_X2_printsNumber_42
      rw [if_pos z0]
      rfl
    · by_cases c : i = n
      · rw [if_pos c, if_neg (by omega), show n + (0 + 1) - 1 - i = 0 by omega, Nat.pow_zero, Nat.div_one]
      · rw [if_neg c, if_pos (by omega)]
  | succ j ih =>
    intro q w ten n G ht hq hT hn
    obtain ⟨q, rfl⟩ : ∃ q', q = q' + 1 := ⟨q - 1, by omega⟩
    have p0 : 0 < 10 ^ (j + 1) := Nat.pow_pos (by decide)
    obtain ⟨w1, e1, e2, e3⟩ := p_put (fu := fu) (ev := ev) (x := nI (48 + m / 10 ^ (j + 1) % 10)) hT (by omega)
    have d := dv (m := m) hM ht (by omega)
    have dle : m / 10 ^ (j + 1) ≤ m := Nat.div_le_self _ _
    have dg := dgt (M := M / ten) (m := m / 10 ^ (j + 1)) d (by omega)
    have np : ¬ ten ≤ 0 := by
      rw [Int64.le_iff_toInt_le, ht]
      show ¬ _ ≤ (0 : Int)
      omega
    have d10 : (ten / 10).toInt = ((10 ^ j : Nat) : Int) := by
      have tl : (10 ^ (j + 1) : Nat) < 2 ^ 63 := by
        have := Int64.toInt_lt ten
        rw [ht] at this
        have t2 : (2 : Int) ^ 63 = ((2 ^ 63 : Nat) : Int) := by decide
        omega
      rw [Int64.toInt_div, ht, show (10 : Int64).toInt = 10 from by decide, Int.tdiv_eq_ediv_of_nonneg (by omega)]
      have e : (10 ^ (j + 1) : Nat) = 10 ^ j * 10 := Nat.pow_succ _ _
      have e2 : ((10 ^ (j + 1) : Nat) : Int) / 10 = ((10 ^ j : Nat) : Int) := by omega
      rw [e2]
      exact Int.bmod_eq_of_le (by omega) (by omega)
    obtain ⟨w2, f1, f2, f3⟩ := ih q w1 (ten / 10) (n + 1) _ d10 (by omega) e2 (by omega)
    rw [show n + 1 + (j + 1) = n + (j + 1 + 1) by omega] at f2
    refine ⟨w2, ?_, MT_ext f2 (fun i hi => ?_), PP_t e3 f3⟩
    · show b_X2_printsNumber_42 _ fu ev _ _ _ _ = _
      unfold b_X2_printsNumber_42
      rw [if_neg np]
      unfold b_X2_printsNumber_49
      rw [nzt ht p0, Option.bind_some, mis, Option.bind_some, dg, e1, b2s]
      exact f1
    · by_cases c : i < n
      · rw [if_pos (by omega), if_neg (by omega), if_pos c]
      · by_cases c2 : i = n
        · rw [if_pos (by omega), if_pos c2, if_neg c, show n + (j + 1 + 1) - 1 - i = j + 1 by omega]
        · rw [if_neg (by omega), if_neg c]
theorem p_num {v : Int64} (hf : 10 ≤ fu) (hv : mgN v < 1000000) (hT : MT w n G) (hn : n + (sgN v + kdN (mgN v)) ≤ 80) : ∃ w' : Wd, f_X2_printsNumber fu ev (mem ev w) (ev.1 + 966) v = some ((), mem ev w') ∧ MT w' (n + (sgN v + kdN (mgN v))) (fun i => if i < n then G i else if i < n + sgN v then nI 45 else nI (48 + mgN v / 10 ^ (n + (sgN v + kdN (mgN v)) - 1 - i) % 10)) ∧ Ri PP w w' := by
  have hD := kdN_D hv
  have k6 := kdN_6 (m := mgN v)
  rcases sgN_v (x := v) with ⟨s0, hv0⟩ | ⟨s1, hv1, hp⟩
  · obtain ⟨ten, t1, t2⟩ := tn_d (ev := ev) (σ := mem ev w) (x0 := ev.1 + 966) (fu := fu) (by omega) hv0 hD
    obtain ⟨w1, e1, e2, e3⟩ := dig_l (fu := fu) (ev := ev) hv0 hv (kdN (mgN v) - 1) fu w ten n G t1 (by omega) hT (by omega)
    rw [show n + (kdN (mgN v) - 1 + 1) = n + (sgN v + kdN (mgN v)) by omega] at e2
    refine ⟨w1, ?_, MT_ext e2 (fun i hi => ?_), e3⟩
    · have wo : f_X2_without fu ev (mem ev w) v = some (v, mem ev w) := by
        unfold f_X2_without b_X2_without_0
        rw [if_pos (by rw [Int64.le_iff_toInt_le, hv0]; show (0 : Int) ≤ _; omega)]
        rfl
      unfold f_X2_printsNumber b_X2_printsNumber_0
      rw [if_pos (by rw [Int64.le_iff_toInt_le, hv0]; show (0 : Int) ≤ _; omega)]
      unfold b_X2_printsNumber_12
      rw [wo, b2s, t2]
      exact e1
    · by_cases c : i < n
      · rw [if_pos c, if_pos c]
      · rw [if_neg c, if_neg c, if_neg (by omega)]
  · have hneg : (-v).toInt = (mgN v : Int) := by
      rw [jn (by omega) (by omega), hv1]
      omega
    obtain ⟨w0, a1, a2, a3⟩ := p_put (fu := fu) (ev := ev) (x := 45) hT (by omega)
    obtain ⟨ten, t1, t2⟩ := tn_d (ev := ev) (σ := mem ev w0) (x0 := ev.1 + 966) (fu := fu) (by omega) hneg hD
    obtain ⟨w1, e1, e2, e3⟩ := dig_l (fu := fu) (ev := ev) hneg hv (kdN (mgN v) - 1) fu w0 ten (n + 1) _ t1 (by omega) a2 (by omega)
    rw [show n + 1 + (kdN (mgN v) - 1 + 1) = n + (sgN v + kdN (mgN v)) by omega] at e2
    refine ⟨w1, ?_, MT_ext e2 (fun i hi => ?_), PP_t a3 e3⟩
    · have wo : f_X2_without fu ev (mem ev w0) v = some (-v, mem ev w0) := by
        unfold f_X2_without b_X2_without_0
        rw [if_neg (by rw [Int64.le_iff_toInt_le, hv1]; show ¬ (0 : Int) ≤ _; omega)]
        rfl
      unfold f_X2_printsNumber b_X2_printsNumber_0
      rw [if_neg (by rw [Int64.le_iff_toInt_le, hv1]; show ¬ (0 : Int) ≤ _; omega)]
      unfold b_X2_printsNumber_6
      rw [mis, Option.bind_some, a1, b2s]
      unfold b_X2_printsNumber_12
      rw [wo, b2s, t2]
      exact e1
    · by_cases c : i < n
      · rw [if_pos (by omega), if_neg (by omega), if_pos c]
      · by_cases c2 : i = n
        · rw [if_pos (by omega), if_pos c2, if_neg c, if_pos (by omega)]
          rfl
        · rw [if_neg (by omega), if_neg c, if_neg (by omega)]
end XPM
