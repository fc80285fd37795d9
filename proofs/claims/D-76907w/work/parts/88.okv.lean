/-! SWAP AND ADD KEEP A GOOD CELL GOOD -/
theorem OkV_b {v : Nat → Int64} (h : OkV v) : (0 < (v 0).toInt ∧ (v 0).toInt ≤ 100000) ∧ (0 < (v 1).toInt ∧ (v 1).toInt ≤ 100000) ∧ (0 < (v 2).toInt ∧ (v 2).toInt ≤ 100000) ∧ (-200000 < (v 3).toInt ∧ (v 3).toInt < 200000) ∧ (-200000 < (v 4).toInt ∧ (v 4).toInt < 200000) ∧ (-200000 < (v 5).toInt ∧ (v 5).toInt < 200000) := by
  obtain ⟨hg, h0, h1, h2⟩ := h
  have q := PD_pos hg.1
  have r := PD_abs hg.1
  unfold I6 at q r
  omega
theorem lin9 {k a x b : Int64} (hk : -9 ≤ k.toInt ∧ k.toInt ≤ 9) (ha : -200000 ≤ a.toInt ∧ a.toInt ≤ 200000) (hx : -200000 ≤ x.toInt ∧ x.toInt ≤ 200000) (hb : -200000 ≤ b.toInt ∧ b.toInt ≤ 200000) : (a + k * x).toInt = a.toInt + k.toInt * x.toInt ∧ (a + k * x + k * k * b).toInt = a.toInt + k.toInt * x.toInt + k.toInt * k.toInt * b.toInt ∧ (a + 2 * k * b).toInt = a.toInt + 2 * k.toInt * b.toInt := by
  have t1 := tri3 (a := k.toInt) (b := x.toInt) (c := 1) (A := 9) (B := 200000) (C := 1) (by omega) hx (by decide) (by decide) (by decide) (by decide)
  have t2 := tri3 (a := k.toInt) (b := k.toInt) (c := b.toInt) (A := 9) (B := 9) (C := 200000) (by omega) (by omega) hb (by decide) (by decide) (by decide)
  have t3 := tri3 (a := k.toInt) (b := k.toInt) (c := 1) (A := 9) (B := 9) (C := 1) (by omega) (by omega) (by decide) (by decide) (by decide) (by decide)
  have t4 := tri3 (a := k.toInt) (b := b.toInt) (c := 1) (A := 9) (B := 200000) (C := 1) (by omega) hb (by decide) (by decide) (by decide) (by decide)
  rw [Int.mul_one] at t1 t3 t4
  have e1 : (k * x).toInt = k.toInt * x.toInt := jm (by omega) (by omega)
  have e2 : (a + k * x).toInt = a.toInt + k.toInt * x.toInt := by rw [ja (by rw [e1]; omega) (by rw [e1]; omega), e1]
  have e3 : (k * k).toInt = k.toInt * k.toInt := jm (by omega) (by omega)
  have e4 : (k * k * b).toInt = k.toInt * k.toInt * b.toInt := by rw [jm (by rw [e3]; omega) (by rw [e3]; omega), e3]
  have e5 : (2 * k).toInt = 2 * k.toInt := by rw [jm (by rw [j2]; omega) (by rw [j2]; omega), j2]
  have e6 : (2 * k * b).toInt = 2 * (k.toInt * b.toInt) := by rw [jm (by rw [e5, Int.mul_assoc]; omega) (by rw [e5, Int.mul_assoc]; omega), e5, Int.mul_assoc]
  refine ⟨e2, ?_, ?_⟩
  · rw [ja (by rw [e2, e4]; omega) (by rw [e2, e4]; omega), e2, e4]
  · rw [ja (by rw [e6]; omega) (by rw [e6]; omega), e6, Int.mul_assoc]
theorem OkV_swap_01 {v : Nat → Int64} (h : OkV v) : OkV (sTurn (sSwap v 0 1) 2) := by
  have b := OkV_b h
  obtain ⟨hg, h0, h1, h2⟩ := h
  have hp : PD (mk6 ((v 1).toInt) ((v 0).toInt) ((v 2).toInt) (-(v 4).toInt) (-(v 3).toInt) ((v 5).toInt)) := by
    refine PD_sub hg.1 (fun p q r => (q, p, -r)) (fun p q r => ?_) (fun p q r e1 e2 e3 => by simp only at e1 e2 e3; omega)
    simp only [Qf, mk6, I6]
    grind
  refine ⟨⟨PD_ext (fun q hq => ?_) hp, ?_, ?_, ?_⟩, ?_, ?_, ?_⟩
  · match q, hq with
    | 0, _ => rfl
    | 1, _ => rfl
    | 2, _ => rfl
    | 3, _ => show -(v 4).toInt = (-(v 4)).toInt; rw [jn (by omega) (by omega)]
    | 4, _ => show -(v 3).toInt = (-(v 3)).toInt; rw [jn (by omega) (by omega)]
    | 5, _ => rfl
  · show (v 1).toInt ≤ _; omega
  · show (v 0).toInt ≤ _; omega
  · show (v 2).toInt ≤ _; omega
  · show (v 1).toInt ≤ _; omega
  · show (v 0).toInt ≤ _; omega
  · show (v 2).toInt ≤ _; omega
theorem OkV_swap_02 {v : Nat → Int64} (h : OkV v) : OkV (sTurn (sSwap v 0 2) 1) := by
  have b := OkV_b h
  obtain ⟨hg, h0, h1, h2⟩ := h
  have hp : PD (mk6 ((v 2).toInt) ((v 1).toInt) ((v 0).toInt) (-(v 5).toInt) ((v 4).toInt) (-(v 3).toInt)) := by
    refine PD_sub hg.1 (fun p q r => (r, -q, p)) (fun p q r => ?_) (fun p q r e1 e2 e3 => by simp only at e1 e2 e3; omega)
    simp only [Qf, mk6, I6]
    grind
  refine ⟨⟨PD_ext (fun q hq => ?_) hp, ?_, ?_, ?_⟩, ?_, ?_, ?_⟩
  · match q, hq with
    | 0, _ => rfl
    | 1, _ => rfl
    | 2, _ => rfl
    | 3, _ => show -(v 5).toInt = (-(v 5)).toInt; rw [jn (by omega) (by omega)]
    | 4, _ => rfl
    | 5, _ => show -(v 3).toInt = (-(v 3)).toInt; rw [jn (by omega) (by omega)]
  · show (v 2).toInt ≤ _; omega
  · show (v 1).toInt ≤ _; omega
  · show (v 0).toInt ≤ _; omega
  · show (v 2).toInt ≤ _; omega
  · show (v 1).toInt ≤ _; omega
  · show (v 0).toInt ≤ _; omega
theorem OkV_swap_10 {v : Nat → Int64} (h : OkV v) : OkV (sTurn (sSwap v 1 0) 2) := by
  have b := OkV_b h
  obtain ⟨hg, h0, h1, h2⟩ := h
  have hp : PD (mk6 ((v 1).toInt) ((v 0).toInt) ((v 2).toInt) (-(v 4).toInt) (-(v 3).toInt) ((v 5).toInt)) := by
    refine PD_sub hg.1 (fun p q r => (q, p, -r)) (fun p q r => ?_) (fun p q r e1 e2 e3 => by simp only at e1 e2 e3; omega)
    simp only [Qf, mk6, I6]
    grind
  refine ⟨⟨PD_ext (fun q hq => ?_) hp, ?_, ?_, ?_⟩, ?_, ?_, ?_⟩
  · match q, hq with
    | 0, _ => rfl
    | 1, _ => rfl
    | 2, _ => rfl
    | 3, _ => show -(v 4).toInt = (-(v 4)).toInt; rw [jn (by omega) (by omega)]
    | 4, _ => show -(v 3).toInt = (-(v 3)).toInt; rw [jn (by omega) (by omega)]
    | 5, _ => rfl
  · show (v 1).toInt ≤ _; omega
  · show (v 0).toInt ≤ _; omega
  · show (v 2).toInt ≤ _; omega
  · show (v 1).toInt ≤ _; omega
  · show (v 0).toInt ≤ _; omega
  · show (v 2).toInt ≤ _; omega
theorem OkV_swap_12 {v : Nat → Int64} (h : OkV v) : OkV (sTurn (sSwap v 1 2) 0) := by
  have b := OkV_b h
  obtain ⟨hg, h0, h1, h2⟩ := h
  have hp : PD (mk6 ((v 0).toInt) ((v 2).toInt) ((v 1).toInt) ((v 3).toInt) (-(v 5).toInt) (-(v 4).toInt)) := by
    refine PD_sub hg.1 (fun p q r => (-p, r, q)) (fun p q r => ?_) (fun p q r e1 e2 e3 => by simp only at e1 e2 e3; omega)
    simp only [Qf, mk6, I6]
    grind
  refine ⟨⟨PD_ext (fun q hq => ?_) hp, ?_, ?_, ?_⟩, ?_, ?_, ?_⟩
  · match q, hq with
    | 0, _ => rfl
    | 1, _ => rfl
    | 2, _ => rfl
    | 3, _ => rfl
    | 4, _ => show -(v 5).toInt = (-(v 5)).toInt; rw [jn (by omega) (by omega)]
    | 5, _ => show -(v 4).toInt = (-(v 4)).toInt; rw [jn (by omega) (by omega)]
  · show (v 0).toInt ≤ _; omega
  · show (v 2).toInt ≤ _; omega
  · show (v 1).toInt ≤ _; omega
  · show (v 0).toInt ≤ _; omega
  · show (v 2).toInt ≤ _; omega
  · show (v 1).toInt ≤ _; omega
theorem OkV_swap_20 {v : Nat → Int64} (h : OkV v) : OkV (sTurn (sSwap v 2 0) 1) := by
  have b := OkV_b h
  obtain ⟨hg, h0, h1, h2⟩ := h
  have hp : PD (mk6 ((v 2).toInt) ((v 1).toInt) ((v 0).toInt) (-(v 5).toInt) ((v 4).toInt) (-(v 3).toInt)) := by
    refine PD_sub hg.1 (fun p q r => (r, -q, p)) (fun p q r => ?_) (fun p q r e1 e2 e3 => by simp only at e1 e2 e3; omega)
    simp only [Qf, mk6, I6]
    grind
  refine ⟨⟨PD_ext (fun q hq => ?_) hp, ?_, ?_, ?_⟩, ?_, ?_, ?_⟩
  · match q, hq with
    | 0, _ => rfl
    | 1, _ => rfl
    | 2, _ => rfl
    | 3, _ => show -(v 5).toInt = (-(v 5)).toInt; rw [jn (by omega) (by omega)]
    | 4, _ => rfl
    | 5, _ => show -(v 3).toInt = (-(v 3)).toInt; rw [jn (by omega) (by omega)]
  · show (v 2).toInt ≤ _; omega
  · show (v 1).toInt ≤ _; omega
  · show (v 0).toInt ≤ _; omega
  · show (v 2).toInt ≤ _; omega
  · show (v 1).toInt ≤ _; omega
  · show (v 0).toInt ≤ _; omega
theorem OkV_swap_21 {v : Nat → Int64} (h : OkV v) : OkV (sTurn (sSwap v 2 1) 0) := by
  have b := OkV_b h
  obtain ⟨hg, h0, h1, h2⟩ := h
  have hp : PD (mk6 ((v 0).toInt) ((v 2).toInt) ((v 1).toInt) ((v 3).toInt) (-(v 5).toInt) (-(v 4).toInt)) := by
    refine PD_sub hg.1 (fun p q r => (-p, r, q)) (fun p q r => ?_) (fun p q r e1 e2 e3 => by simp only at e1 e2 e3; omega)
    simp only [Qf, mk6, I6]
    grind
  refine ⟨⟨PD_ext (fun q hq => ?_) hp, ?_, ?_, ?_⟩, ?_, ?_, ?_⟩
  · match q, hq with
    | 0, _ => rfl
    | 1, _ => rfl
    | 2, _ => rfl
    | 3, _ => rfl
    | 4, _ => show -(v 5).toInt = (-(v 5)).toInt; rw [jn (by omega) (by omega)]
    | 5, _ => show -(v 4).toInt = (-(v 4)).toInt; rw [jn (by omega) (by omega)]
  · show (v 0).toInt ≤ _; omega
  · show (v 2).toInt ≤ _; omega
  · show (v 1).toInt ≤ _; omega
  · show (v 0).toInt ≤ _; omega
  · show (v 2).toInt ≤ _; omega
  · show (v 1).toInt ≤ _; omega
theorem OkV_adds_01 {v : Nat → Int64} {kk : Int64} (h : OkV v) (hk : -9 ≤ kk.toInt ∧ kk.toInt ≤ 9) (g : ¬ 100000 < sqV v 0 1 2 kk) : OkV (sAdds v 0 1 2 kk) := by
  have b := OkV_b h
  obtain ⟨hg, h0, h1, h2⟩ := h
  have g2 : (v 0 + kk * v 5 + kk * kk * v 1).toInt ≤ 100000 := by
    have := j_le (x := v 0 + kk * v 5 + kk * kk * v 1) (y := 100000)
    have g3 : (v 0 + kk * v 5 + kk * kk * v 1) ≤ (100000 : Int64) := by rw [this]; exact g
    have g4 := Int64.le_iff_toInt_le.mp g3
    rwa [show (100000 : Int64).toInt = 100000 from by decide] at g4
  have L1 := lin9 (k := kk) (a := v 0) (x := v 5) (b := v 1) hk (by omega) (by omega) (by omega)
  have L2 := lin9 (k := kk) (a := v 4) (x := v 3) (b := v 1) hk (by omega) (by omega) (by omega)
  have L3 := lin9 (k := kk) (a := v 5) (x := v 5) (b := v 1) hk (by omega) (by omega) (by omega)
  have hp : PD (mk6 ((v 0).toInt + kk.toInt * (v 5).toInt + kk.toInt * kk.toInt * (v 1).toInt) ((v 1).toInt) ((v 2).toInt) ((v 3).toInt) ((v 4).toInt + kk.toInt * (v 3).toInt) ((v 5).toInt + 2 * kk.toInt * (v 1).toInt)) := by
    refine PD_sub hg.1 (fun p q r => (p, q + kk.toInt * p, r)) (fun p q r => ?_) (fun p q r e1 e2 e3 => ?_)
    · simp only [Qf, mk6, I6]
      grind
    · simp only at e1 e2 e3
      subst e1; rw [Int.mul_zero] at e2; omega
  refine ⟨⟨PD_ext (fun q hq => ?_) hp, ?_, ?_, ?_⟩, ?_, ?_, ?_⟩
  · match q, hq with
    | 0, _ => show _ = (v 0 + kk * v 5 + kk * kk * v 1).toInt; rw [L1.2.1]; rfl
    | 1, _ => rfl
    | 2, _ => rfl
    | 3, _ => rfl
    | 4, _ => show _ = (v 4 + kk * v 3).toInt; rw [L2.1]; rfl
    | 5, _ => show _ = (v 5 + 2 * kk * v 1).toInt; rw [L3.2.2]; rfl
  · show (v 0 + kk * v 5 + kk * kk * v 1).toInt ≤ _; omega
  · show (v 1).toInt ≤ _; omega
  · show (v 2).toInt ≤ _; omega
  · show (v 0 + kk * v 5 + kk * kk * v 1).toInt ≤ _; omega
  · show (v 1).toInt ≤ _; omega
  · show (v 2).toInt ≤ _; omega
theorem OkV_adds_02 {v : Nat → Int64} {kk : Int64} (h : OkV v) (hk : -9 ≤ kk.toInt ∧ kk.toInt ≤ 9) (g : ¬ 100000 < sqV v 0 2 1 kk) : OkV (sAdds v 0 2 1 kk) := by
  have b := OkV_b h
  obtain ⟨hg, h0, h1, h2⟩ := h
  have g2 : (v 0 + kk * v 4 + kk * kk * v 2).toInt ≤ 100000 := by
    have := j_le (x := v 0 + kk * v 4 + kk * kk * v 2) (y := 100000)
    have g3 : (v 0 + kk * v 4 + kk * kk * v 2) ≤ (100000 : Int64) := by rw [this]; exact g
    have g4 := Int64.le_iff_toInt_le.mp g3
    rwa [show (100000 : Int64).toInt = 100000 from by decide] at g4
  have L1 := lin9 (k := kk) (a := v 0) (x := v 4) (b := v 2) hk (by omega) (by omega) (by omega)
  have L2 := lin9 (k := kk) (a := v 5) (x := v 3) (b := v 2) hk (by omega) (by omega) (by omega)
  have L3 := lin9 (k := kk) (a := v 4) (x := v 4) (b := v 2) hk (by omega) (by omega) (by omega)
  have hp : PD (mk6 ((v 0).toInt + kk.toInt * (v 4).toInt + kk.toInt * kk.toInt * (v 2).toInt) ((v 1).toInt) ((v 2).toInt) ((v 3).toInt) ((v 4).toInt + 2 * kk.toInt * (v 2).toInt) ((v 5).toInt + kk.toInt * (v 3).toInt)) := by
    refine PD_sub hg.1 (fun p q r => (p, q, r + kk.toInt * p)) (fun p q r => ?_) (fun p q r e1 e2 e3 => ?_)
    · simp only [Qf, mk6, I6]
      grind
    · simp only at e1 e2 e3
      subst e1; rw [Int.mul_zero] at e3; omega
  refine ⟨⟨PD_ext (fun q hq => ?_) hp, ?_, ?_, ?_⟩, ?_, ?_, ?_⟩
  · match q, hq with
    | 0, _ => show _ = (v 0 + kk * v 4 + kk * kk * v 2).toInt; rw [L1.2.1]; rfl
    | 1, _ => rfl
    | 2, _ => rfl
    | 3, _ => rfl
    | 4, _ => show _ = (v 4 + 2 * kk * v 2).toInt; rw [L3.2.2]; rfl
    | 5, _ => show _ = (v 5 + kk * v 3).toInt; rw [L2.1]; rfl
  · show (v 0 + kk * v 4 + kk * kk * v 2).toInt ≤ _; omega
  · show (v 1).toInt ≤ _; omega
  · show (v 2).toInt ≤ _; omega
  · show (v 0 + kk * v 4 + kk * kk * v 2).toInt ≤ _; omega
  · show (v 1).toInt ≤ _; omega
  · show (v 2).toInt ≤ _; omega
theorem OkV_adds_10 {v : Nat → Int64} {kk : Int64} (h : OkV v) (hk : -9 ≤ kk.toInt ∧ kk.toInt ≤ 9) (g : ¬ 100000 < sqV v 1 0 2 kk) : OkV (sAdds v 1 0 2 kk) := by
  have b := OkV_b h
  obtain ⟨hg, h0, h1, h2⟩ := h
  have g2 : (v 1 + kk * v 5 + kk * kk * v 0).toInt ≤ 100000 := by
    have := j_le (x := v 1 + kk * v 5 + kk * kk * v 0) (y := 100000)
    have g3 : (v 1 + kk * v 5 + kk * kk * v 0) ≤ (100000 : Int64) := by rw [this]; exact g
    have g4 := Int64.le_iff_toInt_le.mp g3
    rwa [show (100000 : Int64).toInt = 100000 from by decide] at g4
  have L1 := lin9 (k := kk) (a := v 1) (x := v 5) (b := v 0) hk (by omega) (by omega) (by omega)
  have L2 := lin9 (k := kk) (a := v 3) (x := v 4) (b := v 0) hk (by omega) (by omega) (by omega)
  have L3 := lin9 (k := kk) (a := v 5) (x := v 5) (b := v 0) hk (by omega) (by omega) (by omega)
  have hp : PD (mk6 ((v 0).toInt) ((v 1).toInt + kk.toInt * (v 5).toInt + kk.toInt * kk.toInt * (v 0).toInt) ((v 2).toInt) ((v 3).toInt + kk.toInt * (v 4).toInt) ((v 4).toInt) ((v 5).toInt + 2 * kk.toInt * (v 0).toInt)) := by
    refine PD_sub hg.1 (fun p q r => (p + kk.toInt * q, q, r)) (fun p q r => ?_) (fun p q r e1 e2 e3 => ?_)
    · simp only [Qf, mk6, I6]
      grind
    · simp only at e1 e2 e3
      subst e2; rw [Int.mul_zero] at e1; omega
  refine ⟨⟨PD_ext (fun q hq => ?_) hp, ?_, ?_, ?_⟩, ?_, ?_, ?_⟩
  · match q, hq with
    | 0, _ => rfl
    | 1, _ => show _ = (v 1 + kk * v 5 + kk * kk * v 0).toInt; rw [L1.2.1]; rfl
    | 2, _ => rfl
    | 3, _ => show _ = (v 3 + kk * v 4).toInt; rw [L2.1]; rfl
    | 4, _ => rfl
    | 5, _ => show _ = (v 5 + 2 * kk * v 0).toInt; rw [L3.2.2]; rfl
  · show (v 0).toInt ≤ _; omega
  · show (v 1 + kk * v 5 + kk * kk * v 0).toInt ≤ _; omega
  · show (v 2).toInt ≤ _; omega
  · show (v 0).toInt ≤ _; omega
  · show (v 1 + kk * v 5 + kk * kk * v 0).toInt ≤ _; omega
  · show (v 2).toInt ≤ _; omega
theorem OkV_adds_12 {v : Nat → Int64} {kk : Int64} (h : OkV v) (hk : -9 ≤ kk.toInt ∧ kk.toInt ≤ 9) (g : ¬ 100000 < sqV v 1 2 0 kk) : OkV (sAdds v 1 2 0 kk) := by
  have b := OkV_b h
  obtain ⟨hg, h0, h1, h2⟩ := h
  have g2 : (v 1 + kk * v 3 + kk * kk * v 2).toInt ≤ 100000 := by
    have := j_le (x := v 1 + kk * v 3 + kk * kk * v 2) (y := 100000)
    have g3 : (v 1 + kk * v 3 + kk * kk * v 2) ≤ (100000 : Int64) := by rw [this]; exact g
    have g4 := Int64.le_iff_toInt_le.mp g3
    rwa [show (100000 : Int64).toInt = 100000 from by decide] at g4
  have L1 := lin9 (k := kk) (a := v 1) (x := v 3) (b := v 2) hk (by omega) (by omega) (by omega)
  have L2 := lin9 (k := kk) (a := v 5) (x := v 4) (b := v 2) hk (by omega) (by omega) (by omega)
  have L3 := lin9 (k := kk) (a := v 3) (x := v 3) (b := v 2) hk (by omega) (by omega) (by omega)
  have hp : PD (mk6 ((v 0).toInt) ((v 1).toInt + kk.toInt * (v 3).toInt + kk.toInt * kk.toInt * (v 2).toInt) ((v 2).toInt) ((v 3).toInt + 2 * kk.toInt * (v 2).toInt) ((v 4).toInt) ((v 5).toInt + kk.toInt * (v 4).toInt)) := by
    refine PD_sub hg.1 (fun p q r => (p, q, r + kk.toInt * q)) (fun p q r => ?_) (fun p q r e1 e2 e3 => ?_)
    · simp only [Qf, mk6, I6]
      grind
    · simp only at e1 e2 e3
      subst e2; rw [Int.mul_zero] at e3; omega
  refine ⟨⟨PD_ext (fun q hq => ?_) hp, ?_, ?_, ?_⟩, ?_, ?_, ?_⟩
  · match q, hq with
    | 0, _ => rfl
    | 1, _ => show _ = (v 1 + kk * v 3 + kk * kk * v 2).toInt; rw [L1.2.1]; rfl
    | 2, _ => rfl
    | 3, _ => show _ = (v 3 + 2 * kk * v 2).toInt; rw [L3.2.2]; rfl
    | 4, _ => rfl
    | 5, _ => show _ = (v 5 + kk * v 4).toInt; rw [L2.1]; rfl
  · show (v 0).toInt ≤ _; omega
  · show (v 1 + kk * v 3 + kk * kk * v 2).toInt ≤ _; omega
  · show (v 2).toInt ≤ _; omega
  · show (v 0).toInt ≤ _; omega
  · show (v 1 + kk * v 3 + kk * kk * v 2).toInt ≤ _; omega
  · show (v 2).toInt ≤ _; omega
theorem OkV_adds_20 {v : Nat → Int64} {kk : Int64} (h : OkV v) (hk : -9 ≤ kk.toInt ∧ kk.toInt ≤ 9) (g : ¬ 100000 < sqV v 2 0 1 kk) : OkV (sAdds v 2 0 1 kk) := by
  have b := OkV_b h
  obtain ⟨hg, h0, h1, h2⟩ := h
  have g2 : (v 2 + kk * v 4 + kk * kk * v 0).toInt ≤ 100000 := by
    have := j_le (x := v 2 + kk * v 4 + kk * kk * v 0) (y := 100000)
    have g3 : (v 2 + kk * v 4 + kk * kk * v 0) ≤ (100000 : Int64) := by rw [this]; exact g
    have g4 := Int64.le_iff_toInt_le.mp g3
    rwa [show (100000 : Int64).toInt = 100000 from by decide] at g4
  have L1 := lin9 (k := kk) (a := v 2) (x := v 4) (b := v 0) hk (by omega) (by omega) (by omega)
  have L2 := lin9 (k := kk) (a := v 3) (x := v 5) (b := v 0) hk (by omega) (by omega) (by omega)
  have L3 := lin9 (k := kk) (a := v 4) (x := v 4) (b := v 0) hk (by omega) (by omega) (by omega)
  have hp : PD (mk6 ((v 0).toInt) ((v 1).toInt) ((v 2).toInt + kk.toInt * (v 4).toInt + kk.toInt * kk.toInt * (v 0).toInt) ((v 3).toInt + kk.toInt * (v 5).toInt) ((v 4).toInt + 2 * kk.toInt * (v 0).toInt) ((v 5).toInt)) := by
    refine PD_sub hg.1 (fun p q r => (p + kk.toInt * r, q, r)) (fun p q r => ?_) (fun p q r e1 e2 e3 => ?_)
    · simp only [Qf, mk6, I6]
      grind
    · simp only at e1 e2 e3
      subst e3; rw [Int.mul_zero] at e1; omega
  refine ⟨⟨PD_ext (fun q hq => ?_) hp, ?_, ?_, ?_⟩, ?_, ?_, ?_⟩
  · match q, hq with
    | 0, _ => rfl
    | 1, _ => rfl
    | 2, _ => show _ = (v 2 + kk * v 4 + kk * kk * v 0).toInt; rw [L1.2.1]; rfl
    | 3, _ => show _ = (v 3 + kk * v 5).toInt; rw [L2.1]; rfl
    | 4, _ => show _ = (v 4 + 2 * kk * v 0).toInt; rw [L3.2.2]; rfl
    | 5, _ => rfl
  · show (v 0).toInt ≤ _; omega
  · show (v 1).toInt ≤ _; omega
  · show (v 2 + kk * v 4 + kk * kk * v 0).toInt ≤ _; omega
  · show (v 0).toInt ≤ _; omega
  · show (v 1).toInt ≤ _; omega
  · show (v 2 + kk * v 4 + kk * kk * v 0).toInt ≤ _; omega
theorem OkV_adds_21 {v : Nat → Int64} {kk : Int64} (h : OkV v) (hk : -9 ≤ kk.toInt ∧ kk.toInt ≤ 9) (g : ¬ 100000 < sqV v 2 1 0 kk) : OkV (sAdds v 2 1 0 kk) := by
  have b := OkV_b h
  obtain ⟨hg, h0, h1, h2⟩ := h
  have g2 : (v 2 + kk * v 3 + kk * kk * v 1).toInt ≤ 100000 := by
    have := j_le (x := v 2 + kk * v 3 + kk * kk * v 1) (y := 100000)
    have g3 : (v 2 + kk * v 3 + kk * kk * v 1) ≤ (100000 : Int64) := by rw [this]; exact g
    have g4 := Int64.le_iff_toInt_le.mp g3
    rwa [show (100000 : Int64).toInt = 100000 from by decide] at g4
  have L1 := lin9 (k := kk) (a := v 2) (x := v 3) (b := v 1) hk (by omega) (by omega) (by omega)
  have L2 := lin9 (k := kk) (a := v 4) (x := v 5) (b := v 1) hk (by omega) (by omega) (by omega)
  have L3 := lin9 (k := kk) (a := v 3) (x := v 3) (b := v 1) hk (by omega) (by omega) (by omega)
  have hp : PD (mk6 ((v 0).toInt) ((v 1).toInt) ((v 2).toInt + kk.toInt * (v 3).toInt + kk.toInt * kk.toInt * (v 1).toInt) ((v 3).toInt + 2 * kk.toInt * (v 1).toInt) ((v 4).toInt + kk.toInt * (v 5).toInt) ((v 5).toInt)) := by
    refine PD_sub hg.1 (fun p q r => (p, q + kk.toInt * r, r)) (fun p q r => ?_) (fun p q r e1 e2 e3 => ?_)
    · simp only [Qf, mk6, I6]
      grind
    · simp only at e1 e2 e3
      subst e3; rw [Int.mul_zero] at e2; omega
  refine ⟨⟨PD_ext (fun q hq => ?_) hp, ?_, ?_, ?_⟩, ?_, ?_, ?_⟩
  · match q, hq with
    | 0, _ => rfl
    | 1, _ => rfl
    | 2, _ => show _ = (v 2 + kk * v 3 + kk * kk * v 1).toInt; rw [L1.2.1]; rfl
    | 3, _ => show _ = (v 3 + 2 * kk * v 1).toInt; rw [L3.2.2]; rfl
    | 4, _ => show _ = (v 4 + kk * v 5).toInt; rw [L2.1]; rfl
    | 5, _ => rfl
  · show (v 0).toInt ≤ _; omega
  · show (v 1).toInt ≤ _; omega
  · show (v 2 + kk * v 3 + kk * kk * v 1).toInt ≤ _; omega
  · show (v 0).toInt ≤ _; omega
  · show (v 1).toInt ≤ _; omega
  · show (v 2 + kk * v 3 + kk * kk * v 1).toInt ≤ _; omega
