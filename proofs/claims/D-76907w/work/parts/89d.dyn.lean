/-! THE REST OF THE MAP: objects that are made later; the cache of Integers -/
def wD (w : Wd) (a : Nat) (o : Option Ob) : Wd := (w.1, w.2.1, w.2.2.1, va_up w.2.2.2.1 a o, w.2.2.2.2)
def nwW (w : Wd) (N : Nat) (o : Ob) : Wd := (w.1, w.2.1, w.2.2.1, va_up w.2.2.2.1 w.2.2.2.2.1 (some o), w.2.2.2.2.1 + 1, w.2.2.2.2.2 + N)
section XDY
variable {ev : Ev} {w : Wd} {a ci k N q : Nat}
theorem mem_dyn (h : ev.1 + 984 ≤ a) : (mem ev w).1 a = w.2.2.2.1 a := by
  show (if a < ev.1 then _ else if a < ev.1 + 984 then fx ev w (a - ev.1) else w.2.2.2.1 a) = _
  rw [if_neg (by omega), if_neg (by omega)]
theorem mem_old (h : a < ev.1) : (mem ev w).1 a = ev.2.2.2.2 a := by
  show (if a < ev.1 then ev.2.2.2.2 a else _) = _
  rw [if_pos h]
theorem mem_upd {o : Option Ob} (h : ev.1 + 984 ≤ a) : (va_up (mem ev w).1 a o, (mem ev w).2) = mem ev (wD w a o) := by
  refine Prod.ext (funext fun b => ?_) rfl
  show va_up (mem ev w).1 a o b = if b < ev.1 then ev.2.2.2.2 b else if b < ev.1 + 984 then fx ev (wD w a o) (b - ev.1) else va_up w.2.2.2.1 a o b
  by_cases hb : b = a
  · subst hb
    rw [if_neg (by omega), if_neg (by omega)]
    simp [va_up]
  · have e : va_up (mem ev w).1 a o b = (mem ev w).1 b := by simp [va_up, hb]
    have e2 : va_up w.2.2.2.1 a o b = w.2.2.2.1 b := by simp [va_up, hb]
    rw [e, e2]
    rfl
theorem d_gV {l : List Value} (h : ev.1 + 984 ≤ a) (hd : w.2.2.2.1 a = some (.inr (ci, l))) : gfV (mem ev w) a ci k = l[k]? := by
  unfold gfV
  rw [mem_dyn h, hd]
  exact if_pos rfl
theorem d_pV {l : List Value} {v : Value} (h : ev.1 + 984 ≤ a) (hd : w.2.2.2.1 a = some (.inr (ci, l))) (hk : k < l.length) : pfV ev (mem ev w) a ci k v = some (mem ev (wD w a (some (.inr (ci, l.set k v))))) := by
  unfold pfV
  rw [mem_dyn h, hd]
  show (if ci = ci ∧ ev.1 ≤ a ∧ k < l.length then some (va_up (mem ev w).1 a (some (.inr (ci, l.set k v))), (mem ev w).2) else none) = _
  rw [if_pos ⟨rfl, by omega, hk⟩, mem_upd h]
theorem d_nwO {fs : List Value} (h : ev.1 + 984 ≤ w.2.2.2.2.1) (h1 : w.2.2.2.2.1 + 1 ≤ ev.2.1) (h2 : w.2.2.2.2.2 + N ≤ ev.2.2.1) : nwO ev (mem ev w) ci N fs = some (w.2.2.2.2.1, mem ev (nwW w N (.inr (ci, fs)))) := by
  unfold nwO
  have e1 : (mem ev w).2.1 = w.2.2.2.2.1 := rfl
  have e2 : (mem ev w).2.2 = w.2.2.2.2.2 := rfl
  rw [e1, e2, if_pos ⟨h1, h2⟩]
  refine congrArg (fun z => some (w.2.2.2.2.1, z)) ?_
  refine Prod.ext ?_ rfl
  have := congrArg Prod.fst (mem_upd (ev := ev) (w := w) (a := w.2.2.2.2.1) (o := some (.inr (ci, fs))) h)
  exact this
/-- a node of a list -/
def nd (i n p : Option Nat) : Option Ob := some (.inr (6, [va_rf i, va_rf n, va_rf p]))
theorem rfA {r : Option Nat} : (match (some (va_rf r) : Option Value) with | some .null => some none | some (.ref b) => some (some b) | _ => none) = some r := by cases r <;> rfl
theorem nd_0 {i n p : Option Nat} (h : ev.1 + 984 ≤ a) (hd : w.2.2.2.1 a = nd i n p) : gfA (mem ev w) a 6 0 = some i := by
  unfold gfA
  rw [d_gV h hd]
  cases i <;> rfl
theorem nd_1 {i n p : Option Nat} (h : ev.1 + 984 ≤ a) (hd : w.2.2.2.1 a = nd i n p) : gfA (mem ev w) a 6 1 = some n := by
  unfold gfA
  rw [d_gV h hd]
  cases n <;> rfl
theorem nd_2 {i n p : Option Nat} (h : ev.1 + 984 ≤ a) (hd : w.2.2.2.1 a = nd i n p) : gfA (mem ev w) a 6 2 = some p := by
  unfold gfA
  rw [d_gV h hd]
  cases p <;> rfl
theorem nd_p0 {i n p x : Option Nat} (h : ev.1 + 984 ≤ a) (hd : w.2.2.2.1 a = nd i n p) : pfA ev (mem ev w) a 6 0 x = some (mem ev (wD w a (nd x n p))) := d_pV (k := 0) h hd (by simp)
theorem nd_p1 {i n p x : Option Nat} (h : ev.1 + 984 ≤ a) (hd : w.2.2.2.1 a = nd i n p) : pfA ev (mem ev w) a 6 1 x = some (mem ev (wD w a (nd i x p))) := d_pV (k := 1) h hd (by simp)
theorem nd_p2 {i n p x : Option Nat} (h : ev.1 + 984 ≤ a) (hd : w.2.2.2.1 a = nd i n p) : pfA ev (mem ev w) a 6 2 x = some (mem ev (wD w a (nd i n x))) := d_pV (k := 2) h hd (by simp)
/-- Integer.valueOf of a small number -/
theorem valueOf {fu : Nat} (hE : EvOk ev) (hq : q < 128) : f_J32_valueOf fu ev (mem ev w) (nI q) = some (some (xel ev (xst ev 1) (q + 128)), mem ev w) := by
  obtain ⟨⟨s0, s1, -⟩, c1, -, -, -, -, -, -, -, -, -, -, hlt⟩ := hE
  have h1 : ¬ nI q < (-128 : Int32) := by
    intro z
    have := Int32.lt_iff_toInt_lt.mp z
    rw [nI_toInt (by omega), show (-128 : Int32).toInt = -128 from by decide] at this
    omega
  have h2 : ¬ (127 : Int32) < nI q := nI_nlt (b := q) (a := 127) (by omega) (by decide)
  have g0 : gsI ev 0 = some 127 := by unfold gsI; rw [s0]
  have g1 : gsA ev 1 = some (some (xst ev 1)) := by unfold gsA; rw [s1]
  have g2 : aldA 7 (mem ev w) (xst ev 1) (nI q + 128) = some (some (xel ev (xst ev 1) (q + 128))) := by
    have e : nI q + (128 : Int32) = nI (q + 128) := nI_add q 128
    rw [e]
    unfold aldA
    rw [mem_old (hlt _ _ c1), c1]
    show (if 7 = 7 ∧ ¬ (nI (q + 128) < 0 ∨ 256 ≤ (nI (q + 128)).toNatClampNeg) then some (if (nI (q + 128)).toNatClampNeg < 256 then some (xel ev (xst ev 1) (nI (q + 128)).toNatClampNeg) else none) else none) = _
    rw [if_pos ⟨rfl, nI_in (by omega) (by decide)⟩, nI_clamp (by omega), if_pos (by omega)]
  simp only [f_J32_valueOf, b_J32_valueOf_0, b_J32_valueOf_6, b_J32_valueOf_13, h1, h2, g0, g1, g2, if_false, Option.bind_some]
end XDY
