/-! THE INVARIANT OF THE LAW: the relation and the room -/
def Bd (ev : Ev) (B s0 j : Nat) (w : Wd) (M T : Nat) (K : Option Nat) : Prop := ∃ r o b im c : Nat, r + o + b + im ≤ j ∧ r + unr w M + T ≤ o + c * b ∧ M + T ≤ o ∧ c + T ≤ o ∧ c ≤ 6 ∧ (∀ k : Nat, K = some k → k ≤ c ∧ 1 ≤ im) ∧ (0 < b → 1 ≤ im) ∧ szW w + 300 * r ≤ ev.1 + 984 + r * B + 300 * j ∧ slW w ≤ s0 + j * (3 * B + 300)
def JJ (ev : Ev) (B s0 j : Nat) (σ : Mm) : Prop := ∃ (w : Wd) (M T : Nat) (K : Option Nat), σ = mem ev w ∧ Rel ev w M K T ∧ Bd ev B s0 j w M T K
/-- the room is as wide as the law gives it -/
def Rm (ev : Ev) (B s0 : Nat) : Prop := B ≤ 11951 ∧ ev.2.1 = ev.1 + 603072 ∧ s0 + 64 * (3 * B + 300) ≤ ev.2.2.1
section XIN
variable {ev : Ev} {w w2 w' : Wd} {fu k n i j B s0 M M' T T' : Nat} {x y z u p : Int32} {K : Option Nat}
theorem sl_up {a b s0 j E : Nat} (h : a ≤ s0 + j * E) (h5 : b ≤ a + E) : b ≤ s0 + (j + 1) * E := by
  rw [Nat.add_mul, Nat.one_mul]
  omega
theorem sl_up3 {a b s0 j B : Nat} (h : a ≤ s0 + j * (3 * B + 300)) (h5 : b ≤ a + 300) : b ≤ s0 + (j + 1) * (3 * B + 300) := sl_up (a := a) (b := b) (s0 := s0) (j := j) (E := 3 * B + 300) h (Nat.le_trans h5 (by omega))
theorem sl_upB {a b s0 j B : Nat} (h : a ≤ s0 + j * (3 * B + 300)) (h5 : b ≤ a + 3 * B) : b ≤ s0 + (j + 1) * (3 * B + 300) := sl_up (a := a) (b := b) (s0 := s0) (j := j) (E := 3 * B + 300) h (Nat.le_trans h5 (by omega))
theorem Bd_49 (h : Bd ev B s0 j w M T K) (hj : j + 1 ≤ 64) : ∃ r : Nat, r ≤ 49 ∧ szW w + 300 * r ≤ ev.1 + 984 + r * B + 300 * j ∧ slW w ≤ s0 + j * (3 * B + 300) := by
  obtain ⟨r, o, b, im, c, h1, h2, h3, h4, h5, h6, h7, h8, h9⟩ := h
  exact ⟨r, bud (o := o) (b := b) (im := im) (c := c) (by omega) (by omega) h5 (by omega) h7, h8, h9⟩
theorem Bd_room (h : Bd ev B s0 j w M T K) (hm : Rm ev B s0) (hj : j + 1 ≤ 64) : szW w + B ≤ ev.2.1 ∧ szW w + 300 ≤ ev.2.1 ∧ slW w + 3 * B + 300 ≤ ev.2.2.1 := by
  obtain ⟨r, h1, h2, h3⟩ := Bd_49 h hj
  obtain ⟨m1, m2, m3⟩ := hm
  obtain ⟨a, ha⟩ : ∃ a, a = szW w := ⟨_, rfl⟩
  obtain ⟨b, hb⟩ : ∃ b, b = slW w := ⟨_, rfl⟩
  obtain ⟨E, hE⟩ : ∃ E, E = 3 * B + 300 := ⟨_, rfl⟩
  obtain ⟨X, hX⟩ : ∃ X, X = ev.2.2.1 := ⟨_, rfl⟩
  obtain ⟨Y, hY⟩ : ∃ Y, Y = ev.2.1 := ⟨_, rfl⟩
  obtain ⟨Z, hZ⟩ : ∃ Z, Z = ev.1 := ⟨_, rfl⟩
  have e3 : (j + 1) * E ≤ 64 * E := Nat.mul_le_mul_right _ hj
  rw [Nat.add_mul, Nat.one_mul] at e3
  rw [← hE, ← hb] at h3
  rw [← hE, ← hX] at m3
  rw [← hY, ← hZ] at m2
  rw [← ha, ← hZ] at h2
  rw [← ha, ← hb, ← hX, ← hY]
  obtain ⟨P, hP⟩ : ∃ P, P = j * E := ⟨_, rfl⟩
  rw [← hP] at h3 e3
  clear hP ha hb hX hY hZ h
  by_cases hB : 300 ≤ B
  · have e5 : r * B + (49 - r) * 300 ≤ 49 * B := by
      have q1 : r * B + (49 - r) * B = 49 * B := by rw [← Nat.add_mul]; congr 1; omega
      have q2 : (49 - r) * 300 ≤ (49 - r) * B := Nat.mul_le_mul_left _ hB
      omega
    obtain ⟨Q, hQ⟩ : ∃ Q, Q = r * B := ⟨_, rfl⟩
    rw [← hQ] at h2 e5
    clear hQ
    refine ⟨by omega, by omega, by omega⟩
  · have e5 : r * B ≤ 49 * B := Nat.mul_le_mul_right _ h1
    obtain ⟨Q, hQ⟩ : ∃ Q, Q = r * B := ⟨_, rfl⟩
    rw [← hQ] at h2 e5
    clear hQ
    refine ⟨by omega, by omega, by omega⟩
/-- a call that makes no cell unreduced -/
theorem Bd_0 (h : Bd ev B s0 j w M T K) (h1 : unr w2 M' + T' ≤ unr w M + T) (h2 : M' + T' ≤ M + T) (h3 : T' ≤ T) (h4 : szW w2 ≤ szW w + 300) (h5 : slW w2 ≤ slW w + 300) : Bd ev B s0 (j + 1) w2 M' T' K := by
  obtain ⟨r, o, b, im, c, a1, a2, a3, a4, a5, a6, a7, a8, a9⟩ := h
  refine ⟨r, o, b, im, c, by omega, by omega, by omega, by omega, a5, a6, a7, by omega, sl_up3 a9 h5⟩
/-- a call that makes at most one cell unreduced -/
theorem Bd_1 (h : Bd ev B s0 j w M T K) (h1 : unr w2 M' + T' ≤ unr w M + T + 1) (h2 : M' + T' ≤ M + T + 1) (h3 : T' ≤ T + 1) (h4 : szW w2 ≤ szW w + 300) (h5 : slW w2 ≤ slW w + 300) : Bd ev B s0 (j + 1) w2 M' T' K := by
  obtain ⟨r, o, b, im, c, a1, a2, a3, a4, a5, a6, a7, a8, a9⟩ := h
  refine ⟨r, o + 1, b, im, c, by omega, by omega, by omega, by omega, a5, a6, a7, by omega, sl_up3 a9 h5⟩
theorem Bd_red (h : Bd ev B s0 j w M T K) (h1 : unr w2 M + 1 ≤ unr w M) (h4 : szW w2 ≤ szW w + B) (h5 : slW w2 ≤ slW w + 3 * B) : Bd ev B s0 (j + 1) w2 M T K := by
  obtain ⟨r, o, b, im, c, a1, a2, a3, a4, a5, a6, a7, a8, a9⟩ := h
  refine ⟨r + 1, o, b, im, c, by omega, by omega, by omega, by omega, a5, a6, a7, ?_, sl_upB a9 h5⟩
  rw [Nat.add_mul, Nat.one_mul]
  omega
theorem Bd_image (h : Bd ev B s0 j w M T K) (h6 : M ≤ 6) (h1 : unr w2 M ≤ unr w M) (h4 : szW w2 ≤ szW w + 300) (h5 : slW w2 ≤ slW w + 300) : Bd ev B s0 (j + 1) w2 M T (some M) := by
  obtain ⟨r, o, b, im, c, a1, a2, a3, a4, a5, a6, a7, a8, a9⟩ := h
  have e : c * b ≤ max c M * b := Nat.mul_le_mul_right _ (Nat.le_max_left _ _)
  refine ⟨r, o, b, im + 1, max c M, by omega, by omega, by omega, by omega, by omega, fun k hk => ⟨?_, by omega⟩, fun _ => by omega, by omega, sl_up3 a9 h5⟩
  obtain rfl := Option.some.inj hk
  exact Nat.le_max_right _ _
theorem Bd_back (h : Bd ev B s0 j w M T K) (hK : K = some k) (h4 : szW w2 ≤ szW w + 300) (h5 : slW w2 ≤ slW w + 300) : Bd ev B s0 (j + 1) w2 k T K := by
  obtain ⟨r, o, b, im, c, a1, a2, a3, a4, a5, a6, a7, a8, a9⟩ := h
  obtain ⟨b1, b2⟩ := a6 k hK
  have u := unr_le (w := w2) (n := k)
  refine ⟨r, o, b + 1, im, c, by omega, ?_, by omega, by omega, a5, a6, fun _ => b2, by omega, sl_up3 a9 h5⟩
  rw [Nat.mul_add, Nat.mul_one]
  omega
theorem JJ_0 (h : Bd ev B s0 j w M T K) (hR : Rel ev w2 M' K T') (h1 : unr w2 M' + T' ≤ unr w M + T) (h2 : M' + T' ≤ M + T) (h3 : T' ≤ T) (h4 : szW w2 ≤ szW w + 300) (h5 : slW w2 ≤ slW w + 300) : JJ ev B s0 (j + 1) (mem ev w2) := ⟨w2, M', T', K, rfl, hR, Bd_0 h h1 h2 h3 h4 h5⟩
theorem unr_eq (h : ∀ l : Nat, l < n → sl w' l = sl w l) : unr w' n = unr w n := by
  induction n with
  | zero => rfl
  | succ n ih =>
    unfold unr
    rw [ih (fun l hl => h l (by omega)), h n (by omega)]
theorem JJ_s (h : Bd ev B s0 j w M T K) (hR : Rel ev w2 M K T) (h1 : ∀ l : Nat, l < M → sl w2 l = sl w l) (h4 : szW w2 ≤ szW w + 300) (h5 : slW w2 ≤ slW w + 300) : JJ ev B s0 (j + 1) (mem ev w2) := JJ_0 h hR (by rw [unr_eq h1]; exact Nat.le_refl _) (Nat.le_refl _) (Nat.le_refl _) h4 h5
theorem JJ_e (h : Bd ev B s0 j w M T K) (hR : Rel ev w M K T) : JJ ev B s0 (j + 1) (mem ev w) := JJ_s h hR (fun _ _ => rfl) (Nat.le_add_right _ _) (Nat.le_add_right _ _)
theorem JJ_q (h : Bd ev B s0 j w M T K) (hR : Rel ev w M K T) (q : Sq w w2) : JJ ev B s0 (j + 1) (mem ev w2) := by
  have h6 : M ≤ 6 := by obtain ⟨⟨C, F, p, r⟩, -⟩ := hR; exact r.1.1
  refine JJ_s h (Rel_Sq hR q) (fun l hl => Sq_sl q (by omega)) ?_ ?_
  · unfold szW; rw [q.2.2]; exact Nat.le_add_right _ _
  · unfold slW; rw [q.2.2]; exact Nat.le_add_right _ _
theorem JJ_1 (h : Bd ev B s0 j w M T K) (hR : Rel ev w2 M' K T) (hM : M' = M ∨ M' = M + 1) (h6 : M' ≤ 6) (hd : w2.2.2.2 = w.2.2.2) (hk : ∃ k : Nat, ∀ l : Nat, l < 6 → l ≠ k → sl w2 l = sl w l) (hn : M' = M + 1 → ∀ l : Nat, l < M → sl w2 l = sl w l) : JJ ev B s0 (j + 1) (mem ev w2) := by
  obtain ⟨k, hk⟩ := hk
  refine ⟨w2, M', T, K, rfl, hR, Bd_1 h ?_ (by omega) (by omega) ?_ ?_⟩
  · rcases hM with rfl | rfl
    · have := unr_one (w := w) (w' := w2) (k := k) M' (fun l hl hne => hk l (by omega) hne)
      omega
    · have e := unr_eq (w := w) (w' := w2) (n := M) (hn rfl)
      have : unr w2 (M + 1) ≤ unr w2 M + 1 := by
        show unr w2 M + (if stV (sl w2 M) ≠ 0 then 1 else 0) ≤ unr w2 M + 1
        split <;> omega
      omega
  · unfold szW; rw [hd]; exact Nat.le_add_right _ _
  · unfold slW; rw [hd]; exact Nat.le_add_right _ _
end XIN
