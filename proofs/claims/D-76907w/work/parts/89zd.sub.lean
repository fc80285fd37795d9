/-! LATTICES WITHIN: the form that is put together -/
def c3 (a b c : Nat) : Nat → Int64 := fun i => match i with
  | 0 => (nI a).toInt64
  | 1 => (nI b).toInt64
  | _ => (nI c).toInt64
def sbV (v : Nat → Int64) (p q r t u s : Nat) : Nat → Int64 := sFresh (puV v (c3 p 0 0) (c3 q r 0) (c3 t u s))
def tI (a b c x y z u0 u1 u2 t0 t1 t2 : Int) : Int := u0 * t0 * (2 * a) + u0 * t1 * z + u0 * t2 * y + u1 * t0 * z + u1 * t1 * (2 * b) + u1 * t2 * x + u2 * t0 * y + u2 * t1 * x + u2 * t2 * (2 * c)
theorem nIJ : ∀ a : Nat, a < 7 → (nI a).toInt64.toInt = a := by decide
theorem mulJ : ∀ a : Nat, a < 7 → ∀ b : Nat, b < 7 → (nI a * nI b).toInt64 = (nI a).toInt64 * (nI b).toInt64 := by decide +kernel
theorem mulJ2 : ∀ a : Nat, a < 7 → ∀ b : Nat, b < 7 → ∀ c : Nat, c < 7 → ∀ d : Nat, d < 7 → (nI a * nI b + nI c * nI d).toInt64 = (nI a).toInt64 * (nI b).toInt64 + (nI c).toInt64 * (nI d).toInt64 := by decide +kernel
theorem c3_abs {a b c : Nat} (ha : a < 7) (hb : b < 7) (hc : c < 7) : ∀ i : Nat, i < 3 → (c3 a b c i).toInt.natAbs ≤ 6 := by
  intro i hi
  match i, hi with
  | 0, _ => show (nI a).toInt64.toInt.natAbs ≤ 6; rw [nIJ a ha]; omega
  | 1, _ => show (nI b).toInt64.toInt.natAbs ≤ 6; rw [nIJ b hb]; omega
  | 2, _ => show (nI c).toInt64.toInt.natAbs ≤ 6; rw [nIJ c hc]; omega
theorem tw_i {v u t : Nat → Int64} (hu : ∀ i : Nat, i < 3 → (u i).toInt.natAbs ≤ 6) (ht : ∀ i : Nat, i < 3 → (t i).toInt.natAbs ≤ 6) (hv : ∀ i : Nat, i < 6 → (v i).toInt.natAbs ≤ 200000) : (twV v u t).toInt = tI (v 0).toInt (v 1).toInt (v 2).toInt (v 3).toInt (v 4).toInt (v 5).toInt (u 0).toInt (u 1).toInt (u 2).toInt (t 0).toInt (t 1).toInt (t 2).toInt := by
  have d : ∀ k : Nat, k < 6 → (2 * v k).toInt = 2 * (v k).toInt ∧ (2 * v k).toInt.natAbs ≤ 400000 := fun k hk => jmb (a := 2) (A := 2) (by decide) (hv k hk) (by decide)
  have p : ∀ i j k : Nat, i < 3 → j < 3 → k < 6 → (u i * t j * v k).toInt = (u i).toInt * (t j).toInt * (v k).toInt ∧ (u i * t j * v k).toInt.natAbs ≤ 7200000 := by
    intro i j k hi hj hk
    obtain ⟨a1, a2⟩ := jmb (hu i hi) (ht j hj) (by decide)
    obtain ⟨b1, b2⟩ := jmb a2 (hv k hk) (by decide)
    exact ⟨by rw [b1, a1], by omega⟩
  have p2 : ∀ i j k : Nat, i < 3 → j < 3 → k < 6 → (u i * t j * (2 * v k)).toInt = (u i).toInt * (t j).toInt * (2 * (v k).toInt) ∧ (u i * t j * (2 * v k)).toInt.natAbs ≤ 14400000 := by
    intro i j k hi hj hk
    obtain ⟨a1, a2⟩ := jmb (hu i hi) (ht j hj) (by decide)
    obtain ⟨b1, b2⟩ := jmb a2 (d k hk).2 (by decide)
    exact ⟨by rw [b1, a1, (d k hk).1], by omega⟩
  obtain ⟨a0, b0⟩ := p2 0 0 0 (by decide) (by decide) (by decide)
  obtain ⟨a1, b1⟩ := p 0 1 5 (by decide) (by decide) (by decide)
  obtain ⟨a2, b2⟩ := p 0 2 4 (by decide) (by decide) (by decide)
  obtain ⟨a3, b3⟩ := p 1 0 5 (by decide) (by decide) (by decide)
  obtain ⟨a4, b4⟩ := p2 1 1 1 (by decide) (by decide) (by decide)
  obtain ⟨a5, b5⟩ := p 1 2 3 (by decide) (by decide) (by decide)
  obtain ⟨a6, b6⟩ := p 2 0 4 (by decide) (by decide) (by decide)
  obtain ⟨a7, b7⟩ := p 2 1 3 (by decide) (by decide) (by decide)
  obtain ⟨a8, b8⟩ := p2 2 2 2 (by decide) (by decide) (by decide)
  obtain ⟨c0, d0⟩ := jab (a := 0) (A := 0) (by decide) b0 (by decide)
  obtain ⟨c1, d1⟩ := jab d0 b1 (by decide)
  obtain ⟨c2, d2⟩ := jab d1 b2 (by decide)
  obtain ⟨c3, d3⟩ := jab d2 b3 (by decide)
  obtain ⟨c4, d4⟩ := jab d3 b4 (by decide)
  obtain ⟨c5, d5⟩ := jab d4 b5 (by decide)
  obtain ⟨c6, d6⟩ := jab d5 b6 (by decide)
  obtain ⟨c7, d7⟩ := jab d6 b7 (by decide)
  obtain ⟨c8, d8⟩ := jab d7 b8 (by decide)
  unfold twV tI
  rw [c8, c7, c6, c5, c4, c3, c2, c1, c0, a0, a1, a2, a3, a4, a5, a6, a7, a8, j0]
  omega
theorem c3_0 {a b c : Nat} (h : a < 7) : (c3 a b c 0).toInt = a := nIJ a h
theorem c3_1 {a b c : Nat} (h : b < 7) : (c3 a b c 1).toInt = b := nIJ b h
theorem c3_2 {a b c : Nat} (h : c < 7) : (c3 a b c 2).toInt = c := nIJ c h
section XSB
variable {v : Nat → Int64} {p q r t u s : Nat}
theorem sb_half {U : Nat → Int64} (h : OkV v) (hu : ∀ i : Nat, i < 3 → (U i).toInt.natAbs ≤ 6) : twV v U U / 2 = qV v U ∧ (qV v U).toInt = qI (v 0).toInt (v 1).toInt (v 2).toInt (v 3).toInt (v 4).toInt (v 5).toInt (U 0).toInt (U 1).toInt (U 2).toInt := by
  have b := qV_i (v := v) (u := U) (fun i hi => by have := hu i hi; omega) (fun i hi => by have := OkV_abs h i hi; omega)
  exact ⟨by rw [tw_two, half b.2], b.1⟩
theorem sb_I6 (h : OkV v) (hp : p < 7) (hq : q < 7) (hr : r < 7) (ht : t < 7) (hu : u < 7) (hs : s < 7) : ∀ i : Nat, i < 6 → mk6 (qI (v 0).toInt (v 1).toInt (v 2).toInt (v 3).toInt (v 4).toInt (v 5).toInt p 0 0) (qI (v 0).toInt (v 1).toInt (v 2).toInt (v 3).toInt (v 4).toInt (v 5).toInt q r 0) (qI (v 0).toInt (v 1).toInt (v 2).toInt (v 3).toInt (v 4).toInt (v 5).toInt t u s)
    (tI (v 0).toInt (v 1).toInt (v 2).toInt (v 3).toInt (v 4).toInt (v 5).toInt q r 0 t u s) (tI (v 0).toInt (v 1).toInt (v 2).toInt (v 3).toInt (v 4).toInt (v 5).toInt p 0 0 t u s) (tI (v 0).toInt (v 1).toInt (v 2).toInt (v 3).toInt (v 4).toInt (v 5).toInt p 0 0 q r 0) i = I6 (sbV v p q r t u s) i := by
  have a0 := c3_abs hp (show 0 < 7 by decide) (show 0 < 7 by decide)
  have a1 := c3_abs hq hr (show 0 < 7 by decide)
  have a2 := c3_abs ht hu hs
  have k0 := sb_half h a0
  have k1 := sb_half h a1
  have k2 := sb_half h a2
  have m3 := tw_i a1 a2 (OkV_abs h)
  have m4 := tw_i a0 a2 (OkV_abs h)
  have m5 := tw_i a0 a1 (OkV_abs h)
  have z : (0 : Nat) < 7 := by decide
  rw [c3_0 hp, c3_1 z, c3_2 z] at k0
  rw [c3_0 hq, c3_1 hr, c3_2 z] at k1
  rw [c3_0 ht, c3_1 hu, c3_2 hs] at k2
  rw [c3_0 ht, c3_1 hu, c3_2 hs, c3_0 hq, c3_1 hr, c3_2 z] at m3
  rw [c3_0 ht, c3_1 hu, c3_2 hs, c3_0 hp, c3_1 z, c3_2 z] at m4
  rw [c3_0 hp, c3_1 z, c3_2 z, c3_0 hq, c3_1 hr, c3_2 z] at m5
  intro i hi
  match i, hi with
  | 0, _ => show _ = (twV v (c3 p 0 0) (c3 p 0 0) / 2).toInt; rw [k0.1, k0.2]; rfl
  | 1, _ => show _ = (twV v (c3 q r 0) (c3 q r 0) / 2).toInt; rw [k1.1, k1.2]; rfl
  | 2, _ => show _ = (twV v (c3 t u s) (c3 t u s) / 2).toInt; rw [k2.1, k2.2]; rfl
  | 3, _ => show _ = (twV v (c3 q r 0) (c3 t u s)).toInt; rw [m3]; rfl
  | 4, _ => show _ = (twV v (c3 p 0 0) (c3 t u s)).toInt; rw [m4]; rfl
  | 5, _ => show _ = (twV v (c3 p 0 0) (c3 q r 0)).toInt; rw [m5]; rfl
theorem qI_le (h : OkV v) {a b c : Nat} (ha : a < 7) (hb : b < 7) (hc : c < 7) : qI (v 0).toInt (v 1).toInt (v 2).toInt (v 3).toInt (v 4).toInt (v 5).toInt a b c ≤ 1000000000 := by
  have e := OkV_abs h
  have f : ∀ (x y : Nat) (k : Nat), x < 7 → y < 7 → k < 6 → (x : Int) * y * (v k).toInt ≤ 7200000 := by
    intro x y k hx hy hk
    have e1 : ((x : Int) * y).natAbs ≤ 6 * 6 := mb (by omega) (by omega)
    have e2 := mb e1 (e k hk)
    omega
  unfold qI
  have f0 := f a a 0 ha ha (by decide)
  have f1 := f b b 1 hb hb (by decide)
  have f2 := f c c 2 hc hc (by decide)
  have f3 := f b c 3 hb hc (by decide)
  have f4 := f a c 4 ha hc (by decide)
  have f5 := f a b 5 ha hb (by decide)
  omega
theorem sb_good (h : OkV v) (hp : p < 7) (hq : q < 7) (hr : r < 7) (ht : t < 7) (hu : u < 7) (hs : s < 7) (p0 : 0 < p) (r0 : 0 < r) (s0 : 0 < s) : GdV (sbV v p q r t u s) := by
  refine Gd_ext (sb_I6 h hp hq hr ht hu hs) ⟨?_, qI_le h hp (show 0 < 7 by decide) (show 0 < 7 by decide), qI_le h hq hr (show 0 < 7 by decide), qI_le h ht hu hs⟩
  refine PD_sub h.1.1 (fun X Y Z => (p * X + q * Y + t * Z, r * Y + u * Z, s * Z)) (fun X Y Z => ?_) (fun X Y Z h1 h2 h3 => ?_)
  · show Qf (mk6 _ _ _ _ _ _) X Y Z = Qf (I6 v) (p * X + q * Y + t * Z) (r * Y + u * Z) (s * Z)
    simp only [Qf, mk6, I6, qI, tI]
    grind
  · simp only at h1 h2 h3
    have z : Z = 0 := by
      rcases Int.mul_eq_zero.mp h3 with e | e
      · omega
      · exact e
    subst z
    have y : Y = 0 := by
      rw [Int.mul_zero, Int.add_zero] at h2
      rcases Int.mul_eq_zero.mp h2 with e | e
      · omega
      · exact e
    subst y
    rw [Int.mul_zero, Int.mul_zero, Int.add_zero, Int.add_zero] at h1
    rcases Int.mul_eq_zero.mp h1 with e | e
    · omega
    · exact ⟨e, rfl, rfl⟩
theorem c30 {a b c : Nat} : c3 a b c 0 = (nI a).toInt64 := rfl
theorem c31 {a b c : Nat} : c3 a b c 1 = (nI b).toInt64 := rfl
theorem c32 {a b c : Nat} : c3 a b c 2 = (nI c).toInt64 := rfl
theorem fresh_ext {a b : Nat → Int64} (h : ∀ i : Nat, i < 6 → a i = b i) (ha : Mk a) (hb : Mk b) : sFresh a = sFresh b := by
  funext i
  match i with
  | 0 => exact h 0 (by decide)
  | 1 => exact h 1 (by decide)
  | 2 => exact h 2 (by decide)
  | 3 => exact h 3 (by decide)
  | 4 => exact h 4 (by decide)
  | 5 => exact h 5 (by decide)
  | 6 => rfl
  | 7 => rfl
  | 8 => rfl
  | 9 => rfl
  | 10 => rfl
  | 11 => rfl
  | 12 => rfl
  | 13 => rfl
  | 14 => rfl
  | n + 15 => rw [Mk_fresh ha _ (by omega), Mk_fresh hb _ (by omega)]
theorem nJ0 : (nI 0).toInt64 = 0 := by decide
theorem sb_put {y : Nat → Int64} (h : OkV v) (hy : Mk y) (hp : p < 7) (hq : q < 7) (hr : r < 7) (ht : t < 7) (hu : u < 7) (hs : s < 7) : sFresh (sPut y (((nI p * nI p).toInt64) * v 0) (((((nI q * nI q).toInt64) * v 0) + (((nI r * nI r).toInt64) * v 1)) + (((nI q * nI r).toInt64) * v 5)) ((((((((nI t * nI t).toInt64) * v 0) + (((nI u * nI u).toInt64) * v 1)) + (((nI s * nI s).toInt64) * v 2)) + (((nI u * nI s).toInt64) * v 3)) + (((nI t * nI s).toInt64) * v 4)) + (((nI t * nI u).toInt64) * v 5)) ((((((((2 : Int64) * (nI q).toInt64) * (nI t).toInt64) * v 0) + ((((2 : Int64) * (nI r).toInt64) * (nI u).toInt64) * v 1)) + ((((nI q * nI u) + (nI r * nI t)).toInt64) * v 5)) + (((nI q * nI s).toInt64) * v 4)) + (((nI r * nI s).toInt64) * v 3)) ((nI p).toInt64 * (((((2 : Int64) * (nI t).toInt64) * v 0) + ((nI u).toInt64 * v 5)) + ((nI s).toInt64 * v 4))) ((nI p).toInt64 * ((((2 : Int64) * (nI q).toInt64) * v 0) + ((nI r).toInt64 * v 5)))) = sbV v p q r t u s := by
  have a0 := c3_abs hp (show 0 < 7 by decide) (show 0 < 7 by decide)
  have a1 := c3_abs hq hr (show 0 < 7 by decide)
  have a2 := c3_abs ht hu hs
  have k0 := (sb_half h a0).1
  have k1 := (sb_half h a1).1
  have k2 := (sb_half h a2).1
  rw [mulJ p hp p hp, mulJ q hq q hq, mulJ r hr r hr, mulJ q hq r hr, mulJ t ht t ht, mulJ u hu u hu, mulJ s hs s hs, mulJ u hu s hs, mulJ t ht s hs, mulJ t ht u hu, mulJ2 q hq u hu r hr t ht, mulJ q hq s hs, mulJ r hr s hs]
  unfold sbV
  refine fresh_ext (fun i hi => ?_) (Mk_put hy) Mk_tell
  match i, hi with
  | 0, _ =>
    show (nI p).toInt64 * (nI p).toInt64 * v 0 = twV v (c3 p 0 0) (c3 p 0 0) / 2
    rw [k0]; unfold qV; simp only [c30, c31, c32, nJ0]; grind
  | 1, _ =>
    show (nI q).toInt64 * (nI q).toInt64 * v 0 + (nI r).toInt64 * (nI r).toInt64 * v 1 + (nI q).toInt64 * (nI r).toInt64 * v 5 = twV v (c3 q r 0) (c3 q r 0) / 2
    rw [k1]; unfold qV; simp only [c30, c31, c32, nJ0]; grind
  | 2, _ =>
    show (nI t).toInt64 * (nI t).toInt64 * v 0 + (nI u).toInt64 * (nI u).toInt64 * v 1 + (nI s).toInt64 * (nI s).toInt64 * v 2 + (nI u).toInt64 * (nI s).toInt64 * v 3 + (nI t).toInt64 * (nI s).toInt64 * v 4 + (nI t).toInt64 * (nI u).toInt64 * v 5 = twV v (c3 t u s) (c3 t u s) / 2
    rw [k2]; unfold qV; simp only [c30, c31, c32]
  | 3, _ =>
    show 2 * (nI q).toInt64 * (nI t).toInt64 * v 0 + 2 * (nI r).toInt64 * (nI u).toInt64 * v 1 + ((nI q).toInt64 * (nI u).toInt64 + (nI r).toInt64 * (nI t).toInt64) * v 5 + (nI q).toInt64 * (nI s).toInt64 * v 4 + (nI r).toInt64 * (nI s).toInt64 * v 3 = twV v (c3 q r 0) (c3 t u s)
    unfold twV; simp only [c30, c31, c32, nJ0]; grind
  | 4, _ =>
    show (nI p).toInt64 * (2 * (nI t).toInt64 * v 0 + (nI u).toInt64 * v 5 + (nI s).toInt64 * v 4) = twV v (c3 p 0 0) (c3 t u s)
    unfold twV; simp only [c30, c31, c32, nJ0]; grind
  | 5, _ =>
    show (nI p).toInt64 * (2 * (nI q).toInt64 * v 0 + (nI r).toInt64 * v 5) = twV v (c3 p 0 0) (c3 q r 0)
    unfold twV; simp only [c30, c31, c32, nJ0]; grind
end XSB
/-- what the reduction ends at -/
noncomputable def nz (v : Nat → Int64) : Nat → Int64 := @dite _ (∃ N : Nat, Ends v N) (Classical.propDecidable _) (fun h => itV h.choose v) (fun _ => v)
theorem Ends_un {v : Nat → Int64} {N M : Nat} (h1 : Ends v N) (h2 : Ends v M) : N = M := by
  rcases Nat.lt_trichotomy N M with h | h | h
  · exact absurd h1.2 (h2.1 N h)
  · exact h
  · exact absurd h2.2 (h1.1 M h)
theorem nz_it {v : Nat → Int64} {N : Nat} (h : Ends v N) : nz v = itV N v := by
  have e : ∃ N : Nat, Ends v N := ⟨N, h⟩
  unfold nz
  rw [dif_pos e, Ends_un e.choose_spec h]
