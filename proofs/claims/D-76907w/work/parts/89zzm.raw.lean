/-! THE CONSTRUCTORS: the map while the two objects are made -/
def rm (ev : Ev) (R : Nat → Option Ob) (n s : Nat) : Mm := (fun a => if a < ev.1 then ev.2.2.2.2 a else R (a - ev.1), ev.1 + n, s)
def Rn (t : Nat → Option Ob) (n : Nat) : Nat → Option Ob := fun r => if r < n then t r else none
/-- one object is not yet whole -/
def Rp (t : Nat → Option Ob) (n : Nat) (X : Option Ob) (k : Nat) : Nat → Option Ob := fun r => if r = n then X else if r < k then t r else none
abbrev L3 : Option Ob := some (.inl (1, 3, .inr (.inl fun _ => 0)))
def CellT (ev : Ev) (t : Nat → Option Ob) (n : Nat) : Prop := t n = some (.inr (1, [.ref (ev.1 + (n + 1)), .ref (ev.1 + (n + 2)), .ref (ev.1 + (n + 3)), .ref (ev.1 + (n + 7))])) ∧ t (n + 1) = L3 ∧ t (n + 2) = L3 ∧ t (n + 3) = some (.inl (6, 3, .inr (.inr (.inr (.inr fun j => if j < 3 then some (ev.1 + (n + 3) + 1 + j) else none))))) ∧ t (n + 4) = L3 ∧ t (n + 5) = L3 ∧ t (n + 6) = L3 ∧ t (n + 7) = some (.inl (2, 3, .inl fun _ => 0))
section XRM
variable {ev : Ev} {R t : Nat → Option Ob} {n s r k N ci fu : Nat} {X X' : Option Ob} {l : List Value}
theorem rm_at : (rm ev R n s).1 (ev.1 + r) = R r := by
  show (if ev.1 + r < ev.1 then _ else R (ev.1 + r - ev.1)) = R r
  rw [if_neg (by omega), Nat.add_sub_cancel_left]
theorem rm_up {n' s' : Nat} {o : Option Ob} : (va_up (rm ev R n s).1 (ev.1 + r) o, ev.1 + n', s') = rm ev (va_up R r o) n' s' := by
  refine Prod.ext (funext fun a => ?_) rfl
  show va_up (rm ev R n s).1 (ev.1 + r) o a = if a < ev.1 then ev.2.2.2.2 a else va_up R r o (a - ev.1)
  by_cases h : a = ev.1 + r
  · rw [h, if_neg (by omega), Nat.add_sub_cancel_left]
    simp [va_up]
  · have e : va_up (rm ev R n s).1 (ev.1 + r) o a = (rm ev R n s).1 a := by simp [va_up, h]
    rw [e]
    show (if a < ev.1 then _ else R (a - ev.1)) = _
    by_cases c : a < ev.1
    · rw [if_pos c, if_pos c]
    · have h2 : a - ev.1 ≠ r := by omega
      have e2 : va_up R r o (a - ev.1) = R (a - ev.1) := by simp [va_up, h2]
      rw [if_neg c, if_neg c, e2]
theorem rm_nwO {fs : List Value} (h1 : ev.1 + n + 1 ≤ ev.2.1) (h2 : s + N ≤ ev.2.2.1) : nwO ev (rm ev R n s) ci N fs = some (ev.1 + n, rm ev (va_up R n (some (.inr (ci, fs)))) (n + 1) (s + N)) := by
  unfold nwO
  have e1 : (rm ev R n s).2.1 = ev.1 + n := rfl
  have e2 : (rm ev R n s).2.2 = s := rfl
  rw [e1, e2, if_pos ⟨h1, h2⟩]
  exact congrArg (fun z => some (ev.1 + n, z)) (rm_up (n' := n + 1))
theorem rm_nwA {κ b : Nat} {x : (Nat → Int32) ⊕ (Nat → Int64) ⊕ (Nat → UInt32) ⊕ (Nat → UInt64) ⊕ (Nat → Option Nat)} (hN : N < 1000) (hb : b ≤ 8) (h1 : ev.1 + n + 1 ≤ ev.2.1) (h2 : s + N ≤ ev.2.2.1) : nwA ev (rm ev R n s) κ (nI N) b x = some (ev.1 + n, rm ev (va_up R n (some (.inl (κ, N, x)))) (n + 1) (s + N)) := by
  unfold nwA
  have e1 : (rm ev R n s).2.1 = ev.1 + n := rfl
  have e2 : (rm ev R n s).2.2 = s := rfl
  have e3 : N * b ≤ 1000 * 8 := Nat.mul_le_mul (by omega) hb
  rw [e1, e2, nI_clamp (by omega), if_pos ⟨nI_pos (by omega), by omega, h1, h2⟩]
  exact congrArg (fun z => some (ev.1 + n, z)) (rm_up (n' := n + 1))
theorem rm_pV {v : Value} (hr : R r = some (.inr (ci, l))) (hk : k < l.length) : pfV ev (rm ev R n s) (ev.1 + r) ci k v = some (rm ev (va_up R r (some (.inr (ci, l.set k v)))) n s) := by
  unfold pfV
  rw [rm_at, hr]
  show (if ci = ci ∧ ev.1 ≤ ev.1 + r ∧ k < l.length then some (va_up (rm ev R n s).1 (ev.1 + r) (some (.inr (ci, l.set k v))), (rm ev R n s).2) else none) = _
  rw [if_pos ⟨rfl, Nat.le_add_right _ _, hk⟩]
  exact congrArg some (rm_up (n' := n) (s' := s))
theorem rm_gV (hr : R r = some (.inr (ci, l))) : gfV (rm ev R n s) (ev.1 + r) ci k = l[k]? := by
  unfold gfV
  rw [rm_at, hr]
  exact if_pos rfl
theorem rm_nwM (h1 : ev.1 + n + 4 ≤ ev.2.1) (h2 : s + 12 ≤ ev.2.2.1) : nwM ev (rm ev R n s) 3 3 = some (ev.1 + n, rm ev (va_up (va_up (va_up (va_up R n (some (.inl (6, 3, .inr (.inr (.inr (.inr fun j => if j < 3 then some (ev.1 + n + 1 + j) else none))))))) (n + 1) L3) (n + 2) L3) (n + 3) L3) (n + 4) (s + 12)) := by
  unfold nwM
  have e1 : (rm ev R n s).2.1 = ev.1 + n := rfl
  have e2 : (rm ev R n s).2.2 = s := rfl
  have e3 : (3 : Int32).toNatClampNeg = 3 := by decide
  rw [e1, e2, e3, if_pos ⟨by decide, by decide, by decide, by decide, by omega, by omega⟩]
  refine congrArg (fun z => some (ev.1 + n, z)) ?_
  refine Prod.ext (funext fun a => ?_) ?_
  · show (if a = ev.1 + n then _ else if ev.1 + n < a ∧ a ≤ ev.1 + n + 3 then _ else (if a < ev.1 then ev.2.2.2.2 a else R (a - ev.1))) = if a < ev.1 then ev.2.2.2.2 a else va_up (va_up (va_up (va_up R n _) (n + 1) L3) (n + 2) L3) (n + 3) L3 (a - ev.1)
    by_cases c : a < ev.1
    · rw [if_neg (by omega), if_neg (by omega), if_pos c, if_pos c]
    · obtain ⟨q, rfl⟩ : ∃ q, a = ev.1 + q := ⟨a - ev.1, by omega⟩
      rw [if_neg c, if_neg c, Nat.add_sub_cancel_left]
      show _ = if q = n + 3 then L3 else if q = n + 2 then L3 else if q = n + 1 then L3 else if q = n then _ else R q
      by_cases c0 : q = n
      · rw [if_pos (by omega), if_neg (by omega), if_neg (by omega), if_neg (by omega), if_pos c0]
      · rw [if_neg (by omega)]
        by_cases c3 : q = n + 3
        · rw [if_pos (by omega), if_pos c3]
        · rw [if_neg c3]
          by_cases c2 : q = n + 2
          · rw [if_pos (by omega), if_pos c2]
          · rw [if_neg c2]
            by_cases c1 : q = n + 1
            · rw [if_pos (by omega), if_pos c1]
            · rw [if_neg c1, if_neg c0, if_neg (by omega)]
  · show (_, _) = (ev.1 + (n + 4), s + 12)
    refine Prod.ext ?_ ?_
    · show ev.1 + n + 1 + 3 = ev.1 + (n + 4)
      omega
    · show s + 3 + 3 * 3 = s + 12
      omega
theorem Rn_new : va_up (Rn t n) n X = Rp t n X (n + 1) := by
  funext r
  show (if r = n then X else if r < n then t r else none) = if r = n then X else if r < n + 1 then t r else none
  by_cases c : r = n
  · rw [if_pos c, if_pos c]
  · rw [if_neg c, if_neg c]
    by_cases c2 : r < n
    · rw [if_pos c2, if_pos (by omega)]
    · rw [if_neg c2, if_neg (by omega)]
theorem Rn_al (h : X = t n) : va_up (Rn t n) n X = Rn t (n + 1) := by
  funext r
  show (if r = n then X else if r < n then t r else none) = if r < n + 1 then t r else none
  by_cases c : r = n
  · rw [if_pos c, if_pos (by omega), h, c]
  · rw [if_neg c]
    by_cases c2 : r < n
    · rw [if_pos c2, if_pos (by omega)]
    · rw [if_neg c2, if_neg (by omega)]
theorem Rp_al (hk : n < k) (h : X' = t k) : va_up (Rp t n X k) k X' = Rp t n X (k + 1) := by
  funext r
  show (if r = k then X' else if r = n then X else if r < k then t r else none) = if r = n then X else if r < k + 1 then t r else none
  by_cases c : r = k
  · rw [if_pos c, if_neg (by omega), if_pos (by omega), h, c]
  · rw [if_neg c]
    by_cases c1 : r = n
    · rw [if_pos c1, if_pos c1]
    · rw [if_neg c1, if_neg c1]
      by_cases c2 : r < k
      · rw [if_pos c2, if_pos (by omega)]
      · rw [if_neg c2, if_neg (by omega)]
theorem Rp_set : va_up (Rp t n X k) n X' = Rp t n X' k := by
  funext r
  show (if r = n then X' else if r = n then X else if r < k then t r else none) = if r = n then X' else if r < k then t r else none
  by_cases c : r = n
  · rw [if_pos c, if_pos c]
  · rw [if_neg c, if_neg c, if_neg c]
theorem Rp_end (hk : n < k) : Rp t n (t n) k = Rn t k := by
  funext r
  show (if r = n then t n else if r < k then t r else none) = if r < k then t r else none
  by_cases c : r = n
  · rw [if_pos c, c, if_pos hk]
  · rw [if_neg c]
theorem Rp_n : Rp t n X k n = X := if_pos rfl
/-- a cell is made -/
theorem r_cell (ht : CellT ev t n) (h1 : ev.1 + n + 8 ≤ ev.2.1) (h2 : s + 25 ≤ ev.2.2.1) : ∃ σ : Mm, nwO ev (rm ev (Rn t n) n s) 1 4 [.null, .null, .null, .null] = some (ev.1 + n, σ) ∧ f_X1_init fu ev σ (ev.1 + n) = some ((), rm ev (Rn t (n + 8)) (n + 8) (s + 25)) := by
  obtain ⟨t0, t1, t2, t3, t4, t5, t6, t7⟩ := ht
  refine ⟨rm ev (Rp t n (some (.inr (1, [.null, .null, .null, .null]))) (n + 1)) (n + 1) (s + 4), ?_, ?_⟩
  · rw [rm_nwO (by omega) (by omega), Rn_new]
  · have pa : ∀ {X0 : List Value} {kk k2 s2 : Nat} {y : Nat}, k2 < X0.length → pfA ev (rm ev (Rp t n (some (.inr (1, X0))) kk) kk s2) (ev.1 + n) 1 k2 (some y) = some (rm ev (Rp t n (some (.inr (1, X0.set k2 (.ref y)))) kk) kk s2) := fun h => by
      unfold pfA
      rw [rm_pV Rp_n h, Rp_set]
      rfl
    unfold f_X1_init b_X1_init_0
    rw [show (3 : Int32) = nI 3 from rfl, rm_nwA (by decide) (by decide) (by omega) (by omega), b2s, Rp_al (n := n) (by omega) t1.symm, pa (by simp), Option.bind_some, rm_nwA (by decide) (by decide) (by omega) (by omega), b2s, Rp_al (n := n) (by omega) t2.symm, pa (by simp), Option.bind_some, show nI 3 = (3 : Int32) from rfl, rm_nwM (by omega) (by omega), b2s, Rp_al (n := n) (by omega) t3.symm, Rp_al (n := n) (by omega) t4.symm, Rp_al (n := n) (by omega) t5.symm, Rp_al (n := n) (by omega) t6.symm, pa (by simp), Option.bind_some, show (3 : Int32) = nI 3 from rfl, rm_nwA (by decide) (by decide) (by omega) (by omega), b2s, Rp_al (n := n) (by omega) t7.symm, pa (by simp), Option.bind_some]
    refine congrArg (fun z => some ((), z)) ?_
    have e : Rp t n (some (.inr (1, [.ref (ev.1 + (n + 1)), .ref (ev.1 + (n + 2)), .ref (ev.1 + (n + 3)), .ref (ev.1 + (n + 7))]))) (n + 8) = Rn t (n + 8) := by
      rw [← t0]
      exact Rp_end (by omega)
    show rm ev (Rp t n (some (.inr (1, [.ref (ev.1 + (n + 1)), .ref (ev.1 + (n + 2)), .ref (ev.1 + (n + 3)), .ref (ev.1 + (n + 7))]))) (n + 8)) (n + 8) _ = _
    rw [e]
end XRM
