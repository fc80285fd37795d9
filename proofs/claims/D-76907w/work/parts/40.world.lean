/-! THE WORLD: what class and model hold, at fixed places behind ev.1 (984 of them), and the rest of the map -/
abbrev Wd : Type := (Nat → Nat → Int64) × (Nat → Nat → Int32) × (Nat → Nat → Option Nat) × (Nat → Option Ob) × Nat × Nat
/-- where a cell of the pool begins -/
def cr (c : Nat) : Nat := if c < 3 then 2 + 8 * c else 22 + 8 * c
/-- the kinds of the places: (1, _, n) longs, (2, κ, n) ints, (3, κ, n) references, (4, ci, n) an object of n fields -/
def dCell (q : Nat) : Nat × Nat × Nat := match q with
  | 0 => (4, 1, 4)
  | 3 => (3, 6, 3)
  | 7 => (2, 2, 3)
  | _ => (1, 1, 3)
def dRest (r : Nat) : Nat × Nat × Nat := match r with
  | 26 => (3, 5, 12)
  | 27 => (2, 0, 12)
  | 28 => (4, 5, 4)
  | 29 => (3, 6, 3)
  | 30 => (1, 1, 3)
  | 31 => (1, 1, 3)
  | 32 => (1, 1, 3)
  | 33 => (1, 1, 364)
  | 34 => (4, 10, 3)
  | 35 => (1, 1, 1)
  | 36 => (3, 5, 91)
  | 37 => (1, 1, 6)
  | 38 => (4, 8, 3)
  | 39 => (3, 4, 17)
  | 40 => (2, 3, 160)
  | 41 => (3, 6, 4)
  | 42 => (3, 5, 6)
  | 43 => (4, 5, 4)
  | 44 => (4, 8, 3)
  | 45 => (3, 4, 17)
  | 966 => (4, 2, 32)
  | 967 => (1, 1, 156)
  | 968 => (1, 1, 234)
  | 969 => (2, 0, 30)
  | 970 => (2, 0, 30)
  | 971 => (2, 0, 6)
  | 972 => (2, 0, 6)
  | 973 => (2, 0, 12)
  | 974 => (1, 1, 546)
  | 975 => (1, 1, 12)
  | 976 => (1, 1, 6)
  | 977 => (2, 0, 160)
  | 978 => (2, 0, 80)
  | 979 => (2, 0, 13)
  | 980 => (1, 1, 78)
  | 981 => (1, 1, 9)
  | 982 => (2, 0, 4)
  | 983 => (1, 1, 64)
  | _ => (0, 0, 0)
def ds (r : Nat) : Nat × Nat × Nat := if r = 0 then (4, 0, 25) else if r = 1 then (3, 5, 6) else if r < 26 then dCell ((r - 2) % 8) else if r < 46 then dRest r else if r < 966 then dCell ((r - 46) % 8) else dRest r
/-- which fields are ints -/
def fki (ci k : Nat) : Bool := match ci with
  | 0 => [1, 5, 8, 14, 18, 24].contains k
  | 1 => false
  | 2 => [2, 3, 4, 5, 6, 7, 8, 9, 10, 11, 25, 26, 27, 28, 31].contains k
  | 5 => [0, 1].contains k
  | 8 => [1, 2].contains k
  | 10 => [1, 2].contains k
  | _ => false
/-- which references may change -/
def mu (r k : Nat) : Bool := match r with
  | 0 => k == 19
  | 26 => true
  | 41 => true
  | 28 => true
  | 43 => true
  | 39 => true
  | 45 => true
  | _ => false
/-- the others -/
def cA (r k : Nat) : Nat := if r = 0 then ([1, 0, 2, 10, 18, 0, 26, 27, 0, 28, 29, 33, 34, 36, 0, 37, 38, 40, 0, 0, 41, 42, 43, 44] : List Nat).getD k 0
  else if r = 1 then cr (3 + 2 * k)
  else if r = 29 then 30 + k
  else if r = 34 then 35
  else if r = 36 then cr (27 + k)
  else if r = 38 then 39
  else if r = 42 then cr (4 + 2 * k)
  else if r = 44 then 45
  else if r = 966 then ([967, 968, 0, 0, 0, 0, 0, 0, 0, 0, 0, 0, 969, 970, 971, 972, 973, 974, 975, 976, 977, 978, 979, 980, 981, 0, 0, 0, 0, 982, 983] : List Nat).getD k 0
  else if (if r < 26 then (r - 2) % 8 else (r - 46) % 8) = 3 then r + 1 + k
  else ([r + 1, r + 2, r + 3, r + 7] : List Nat).getD k 0
def rf (ev : Ev) (w : Wd) (r k : Nat) : Option Nat := if mu r k = true then w.2.2.1 r k else some (ev.1 + cA r k)
def fx (ev : Ev) (w : Wd) (r : Nat) : Option Ob := match ds r with
  | (1, _, n) => some (.inl (1, n, .inr (.inl fun i => if i < n then w.1 r i else 0)))
  | (2, κ, n) => some (.inl (κ, n, .inl fun i => if i < n then w.2.1 r i else 0))
  | (3, κ, n) => some (.inl (κ, n, .inr (.inr (.inr (.inr fun i => if i < n then rf ev w r i else none)))))
  | (4, ci, n) => some (.inr (ci, (List.range n).map fun k => if fki ci k = true then .int (w.2.1 r k) else va_rf (rf ev w r k)))
  | _ => none
def mem (ev : Ev) (w : Wd) : Mm := (fun a => if a < ev.1 then ev.2.2.2.2 a else if a < ev.1 + 984 then fx ev w (a - ev.1) else w.2.2.2.1 a, w.2.2.2.2)
/-- what is written -/
def wJ (w : Wd) (r i : Nat) (x : Int64) : Wd := (fun q j => if q = r ∧ j = i then x else w.1 q j, w.2)
def wI (w : Wd) (r i : Nat) (x : Int32) : Wd := (w.1, fun q j => if q = r ∧ j = i then x else w.2.1 q j, w.2.2)
def wA (w : Wd) (r i : Nat) (x : Option Nat) : Wd := (w.1, w.2.1, fun q j => if q = r ∧ j = i then x else w.2.2.1 q j, w.2.2.2)
theorem mem_at {ev : Ev} {w : Wd} {r : Nat} (h : r < 984) : (mem ev w).1 (ev.1 + r) = fx ev w r := by
  show (if ev.1 + r < ev.1 then _ else if ev.1 + r < ev.1 + 984 then fx ev w (ev.1 + r - ev.1) else _) = _
  rw [if_neg (by omega), if_pos (by omega), Nat.add_sub_cancel_left]
theorem fx_congr {ev : Ev} {w w' : Wd} {r : Nat} (hJ : w'.1 r = w.1 r) (hI : w'.2.1 r = w.2.1 r) (hA : w'.2.2.1 r = w.2.2.1 r) : fx ev w' r = fx ev w r := by
  unfold fx rf
  rw [hJ, hI, hA]
theorem mem_up {ev : Ev} {w w' : Wd} {r : Nat} {o : Option Ob} (hr : r < 984) (h1 : fx ev w' r = o) (h2 : ∀ q : Nat, q ≠ r → w'.1 q = w.1 q ∧ w'.2.1 q = w.2.1 q ∧ w'.2.2.1 q = w.2.2.1 q) (h3 : w'.2.2.2 = w.2.2.2) : (va_up (mem ev w).1 (ev.1 + r) o, (mem ev w).2) = mem ev w' := by
  refine Prod.ext (funext fun a => ?_) ?_
  · show va_up (mem ev w).1 (ev.1 + r) o a = (mem ev w').1 a
    by_cases ha : a = ev.1 + r
    · subst ha
      rw [mem_at hr, h1]
      simp [va_up]
    · have e : va_up (mem ev w).1 (ev.1 + r) o a = (mem ev w).1 a := by simp [va_up, ha]
      rw [e]
      show (if a < ev.1 then _ else if a < ev.1 + 984 then fx ev w (a - ev.1) else w.2.2.2.1 a) = if a < ev.1 then _ else if a < ev.1 + 984 then fx ev w' (a - ev.1) else w'.2.2.2.1 a
      by_cases h4 : a < ev.1
      · rw [if_pos h4, if_pos h4]
      · rw [if_neg h4, if_neg h4]
        by_cases h5 : a < ev.1 + 984
        · rw [if_pos h5, if_pos h5]
          obtain ⟨e1, e2, e3⟩ := h2 (a - ev.1) (by omega)
          exact (fx_congr e1 e2 e3).symm
        · rw [if_neg h5, if_neg h5, h3]
  · show w.2.2.2.2 = w'.2.2.2.2
    rw [h3]
theorem wJ_row {w : Wd} {r i : Nat} {x : Int64} {q : Nat} (h : q ≠ r) : (wJ w r i x).1 q = w.1 q := by
  funext j
  show (if q = r ∧ j = i then x else w.1 q j) = w.1 q j
  rw [if_neg (fun z => h z.1)]
theorem wI_row {w : Wd} {r i : Nat} {x : Int32} {q : Nat} (h : q ≠ r) : (wI w r i x).2.1 q = w.2.1 q := by
  funext j
  show (if q = r ∧ j = i then x else w.2.1 q j) = w.2.1 q j
  rw [if_neg (fun z => h z.1)]
theorem wA_row {w : Wd} {r i : Nat} {x : Option Nat} {q : Nat} (h : q ≠ r) : (wA w r i x).2.2.1 q = w.2.2.1 q := by
  funext j
  show (if q = r ∧ j = i then x else w.2.2.1 q j) = w.2.2.1 q j
  rw [if_neg (fun z => h z.1)]
/-! reads and writes -/
theorem fx1 {ev : Ev} {w : Wd} {r κ n : Nat} (hd : ds r = (1, κ, n)) : fx ev w r = some (.inl (1, n, .inr (.inl fun i => if i < n then w.1 r i else 0))) := by
  unfold fx
  simp only [hd]
theorem fx2 {ev : Ev} {w : Wd} {r κ n : Nat} (hd : ds r = (2, κ, n)) : fx ev w r = some (.inl (κ, n, .inl fun i => if i < n then w.2.1 r i else 0)) := by
  unfold fx
  simp only [hd]
theorem fx3 {ev : Ev} {w : Wd} {r κ n : Nat} (hd : ds r = (3, κ, n)) : fx ev w r = some (.inl (κ, n, .inr (.inr (.inr (.inr fun i => if i < n then rf ev w r i else none))))) := by
  unfold fx
  simp only [hd]
theorem fx4 {ev : Ev} {w : Wd} {r ci n : Nat} (hd : ds r = (4, ci, n)) : fx ev w r = some (.inr (ci, (List.range n).map fun k => if fki ci k = true then .int (w.2.1 r k) else va_rf (rf ev w r k))) := by
  unfold fx
  simp only [hd]
section XMEM
variable {ev : Ev} {w : Wd} {r n κ ci : Nat}
theorem ldJ (hd : ds r = (1, κ, n)) (hr : r < 984) {i : Int32} (hi : vp_in i n) : aldJ (mem ev w) (ev.1 + r) i = some (w.1 r i.toNatClampNeg) := by
  have hlt : i.toNatClampNeg < n := Nat.not_le.mp fun q => hi (Or.inr q)
  have h : (mem ev w).1 (ev.1 + r) = some (.inl (1, n, .inr (.inl fun i => if i < n then w.1 r i else 0))) := by rw [mem_at hr, fx1 hd]
  unfold aldJ
  rw [h]
  show (if 1 = 1 ∧ ¬ (i < 0 ∨ n ≤ i.toNatClampNeg) then some (if i.toNatClampNeg < n then w.1 r i.toNatClampNeg else 0) else none) = _
  rw [if_pos ⟨rfl, hi⟩, if_pos hlt]
theorem stJ (hd : ds r = (1, κ, n)) (hr : r < 984) {i : Int32} (hi : vp_in i n) (x : Int64) : astJ ev (mem ev w) (ev.1 + r) i x = some (mem ev (wJ w r i.toNatClampNeg x)) := by
  have hlt : i.toNatClampNeg < n := Nat.not_le.mp fun q => hi (Or.inr q)
  have h : (mem ev w).1 (ev.1 + r) = some (.inl (1, n, .inr (.inl fun i => if i < n then w.1 r i else 0))) := by rw [mem_at hr, fx1 hd]
  unfold astJ
  rw [h]
  show (if 1 = 1 ∧ ev.1 ≤ ev.1 + r ∧ ¬ (i < 0 ∨ n ≤ i.toNatClampNeg) then some (va_up (mem ev w).1 (ev.1 + r) (some (.inl (1, n, .inr (.inl (vp_updL (fun i => if i < n then w.1 r i else 0) i.toNatClampNeg x))))), (mem ev w).2) else none) = _
  rw [if_pos ⟨rfl, Nat.le_add_right _ _, hi⟩]
  refine congrArg some (mem_up hr ?_ (fun q hq => ⟨wJ_row hq, rfl, rfl⟩) rfl)
  rw [fx1 hd]
  refine congrArg (fun f => some (Sum.inl (1, n, Sum.inr (Sum.inl f)))) (funext fun j => ?_)
  show (if j < n then (if r = r ∧ j = i.toNatClampNeg then x else w.1 r j) else 0) = if j = i.toNatClampNeg then x else if j < n then w.1 r j else 0
  by_cases hj : j = i.toNatClampNeg
  · rw [if_pos hj, if_pos (by omega), if_pos ⟨rfl, hj⟩]
  · rw [if_neg hj, if_neg (fun z : r = r ∧ j = i.toNatClampNeg => hj z.2)]
theorem ldI (hd : ds r = (2, κ, n)) (hr : r < 984) {i : Int32} (hi : vp_in i n) : aldI κ (mem ev w) (ev.1 + r) i = some (w.2.1 r i.toNatClampNeg) := by
  have hlt : i.toNatClampNeg < n := Nat.not_le.mp fun q => hi (Or.inr q)
  have h : (mem ev w).1 (ev.1 + r) = some (.inl (κ, n, .inl fun i => if i < n then w.2.1 r i else 0)) := by rw [mem_at hr, fx2 hd]
  unfold aldI
  rw [h]
  show (if κ = κ ∧ ¬ (i < 0 ∨ n ≤ i.toNatClampNeg) then some (if i.toNatClampNeg < n then w.2.1 r i.toNatClampNeg else 0) else none) = _
  rw [if_pos ⟨rfl, hi⟩, if_pos hlt]
theorem stI (hd : ds r = (2, κ, n)) (hr : r < 984) {i : Int32} (hi : vp_in i n) (x : Int32) : astI ev κ (mem ev w) (ev.1 + r) i x = some (mem ev (wI w r i.toNatClampNeg (vp_nar (xTy κ) x))) := by
  have hlt : i.toNatClampNeg < n := Nat.not_le.mp fun q => hi (Or.inr q)
  have h : (mem ev w).1 (ev.1 + r) = some (.inl (κ, n, .inl fun i => if i < n then w.2.1 r i else 0)) := by rw [mem_at hr, fx2 hd]
  unfold astI
  rw [h]
  show (if κ = κ ∧ ev.1 ≤ ev.1 + r ∧ ¬ (i < 0 ∨ n ≤ i.toNatClampNeg) then some (va_up (mem ev w).1 (ev.1 + r) (some (.inl (κ, n, .inl (upd (fun i => if i < n then w.2.1 r i else 0) i.toNatClampNeg (vp_nar (xTy κ) x))))), (mem ev w).2) else none) = _
  rw [if_pos ⟨rfl, Nat.le_add_right _ _, hi⟩]
  refine congrArg some (mem_up hr ?_ (fun q hq => ⟨rfl, wI_row hq, rfl⟩) rfl)
  rw [fx2 hd]
  refine congrArg (fun f => some (Sum.inl (κ, n, Sum.inl f))) (funext fun j => ?_)
  show (if j < n then (if r = r ∧ j = i.toNatClampNeg then vp_nar (xTy κ) x else w.2.1 r j) else 0) = upd (fun i => if i < n then w.2.1 r i else 0) i.toNatClampNeg (vp_nar (xTy κ) x) j
  by_cases hj : j = i.toNatClampNeg
  · subst hj
    rw [pk_us, if_pos hlt, if_pos ⟨rfl, rfl⟩]
  · rw [pk_un hj, if_neg (fun z : r = r ∧ j = i.toNatClampNeg => hj z.2)]
theorem ldA (hd : ds r = (3, κ, n)) (hr : r < 984) {i : Int32} (hi : vp_in i n) : aldA κ (mem ev w) (ev.1 + r) i = some (rf ev w r i.toNatClampNeg) := by
  have hlt : i.toNatClampNeg < n := Nat.not_le.mp fun q => hi (Or.inr q)
  have h : (mem ev w).1 (ev.1 + r) = some (.inl (κ, n, .inr (.inr (.inr (.inr fun i => if i < n then rf ev w r i else none))))) := by rw [mem_at hr, fx3 hd]
  unfold aldA
  rw [h]
  show (if κ = κ ∧ ¬ (i < 0 ∨ n ≤ i.toNatClampNeg) then some (if i.toNatClampNeg < n then rf ev w r i.toNatClampNeg else none) else none) = _
  rw [if_pos ⟨rfl, hi⟩, if_pos hlt]
theorem lenJ (hd : ds r = (1, κ, n)) (hr : r < 984) : alen (mem ev w) (ev.1 + r) = some (nI n) := by
  have h : (mem ev w).1 (ev.1 + r) = some (.inl (1, n, .inr (.inl fun i => if i < n then w.1 r i else 0))) := by rw [mem_at hr, fx1 hd]
  unfold alen
  rw [h]
  rfl
theorem ob_at (hd : ds r = (4, ci, n)) (hr : r < 984) : (mem ev w).1 (ev.1 + r) = some (.inr (ci, (List.range n).map fun k => if fki ci k = true then .int (w.2.1 r k) else va_rf (rf ev w r k))) := by rw [mem_at hr, fx4 hd]
theorem isCm (hd : ds r = (4, ci, n)) (hr : r < 984) : isC (mem ev w) (ev.1 + r) ci = some () := by
  unfold isC
  rw [ob_at hd hr]
  exact if_pos rfl
theorem gV {k : Nat} (hd : ds r = (4, ci, n)) (hr : r < 984) (hk : k < n) : gfV (mem ev w) (ev.1 + r) ci k = some (if fki ci k = true then .int (w.2.1 r k) else va_rf (rf ev w r k)) := by
  unfold gfV
  rw [ob_at hd hr]
  show (if ci = ci then _ else none) = _
  rw [if_pos rfl, List.getElem?_map, List.getElem?_range hk]
  rfl
theorem gI {k : Nat} (hd : ds r = (4, ci, n)) (hr : r < 984) (hk : k < n) (hf : fki ci k = true) : gfI (mem ev w) (ev.1 + r) ci k = some (w.2.1 r k) := by
  unfold gfI
  rw [gV hd hr hk, if_pos hf]
theorem gA {k : Nat} (hd : ds r = (4, ci, n)) (hr : r < 984) (hk : k < n) (hf : fki ci k = false) : gfA (mem ev w) (ev.1 + r) ci k = some (rf ev w r k) := by
  unfold gfA
  rw [gV hd hr hk, hf]
  cases h : rf ev w r k <;> simp [va_rf]
theorem range_set {n k : Nat} {f g : Nat → Value} {v : Value} (hk : k < n) (h1 : g k = v) (h2 : ∀ j : Nat, j ≠ k → g j = f j) : ((List.range n).map f).set k v = (List.range n).map g := by
  refine List.ext_getElem? fun j => ?_
  by_cases hj : j = k
  · subst hj
    rw [List.getElem?_set_self (by simpa using hk), List.getElem?_map, List.getElem?_range hk]
    simp [h1]
  · rw [List.getElem?_set_ne (Ne.symm hj), List.getElem?_map, List.getElem?_map]
    by_cases hjn : j < n
    · rw [List.getElem?_range hjn]
      simp [h2 j hj]
    · rw [List.getElem?_eq_none (by simpa using hjn)]
      rfl
theorem pI {k : Nat} (hd : ds r = (4, ci, n)) (hr : r < 984) (hk : k < n) (hf : fki ci k = true) (x : Int32) : pfI ev (mem ev w) (ev.1 + r) ci k x = some (mem ev (wI w r k x)) := by
  unfold pfI pfV
  rw [ob_at hd hr]
  show (if ci = ci ∧ ev.1 ≤ ev.1 + r ∧ k < List.length _ then _ else none) = _
  rw [if_pos ⟨rfl, Nat.le_add_right _ _, by simpa using hk⟩]
  refine congrArg some (mem_up hr ?_ (fun q hq => ⟨rfl, wI_row hq, rfl⟩) rfl)
  rw [fx4 hd]
  refine congrArg (fun l => some (Sum.inr (ci, l))) (range_set hk ?_ (fun j hj => ?_)).symm
  · rw [if_pos hf]
    show Value.int (if r = r ∧ k = k then x else _) = _
    rw [if_pos ⟨rfl, rfl⟩]
  · show (if fki ci j = true then Value.int (if r = r ∧ j = k then x else w.2.1 r j) else _) = _
    rw [if_neg (fun z : r = r ∧ j = k => hj z.2)]
    rfl
theorem pA {k : Nat} (hd : ds r = (4, ci, n)) (hr : r < 984) (hk : k < n) (hf : fki ci k = false) (hm : mu r k = true) (x : Option Nat) : pfA ev (mem ev w) (ev.1 + r) ci k x = some (mem ev (wA w r k x)) := by
  unfold pfA pfV
  rw [ob_at hd hr]
  show (if ci = ci ∧ ev.1 ≤ ev.1 + r ∧ k < List.length _ then _ else none) = _
  rw [if_pos ⟨rfl, Nat.le_add_right _ _, by simpa using hk⟩]
  refine congrArg some (mem_up hr ?_ (fun q hq => ⟨rfl, rfl, wA_row hq⟩) rfl)
  rw [fx4 hd]
  refine congrArg (fun l => some (Sum.inr (ci, l))) (range_set hk ?_ (fun j hj => ?_)).symm
  · rw [hf]
    show va_rf (if mu r k = true then (if r = r ∧ k = k then x else _) else _) = _
    rw [if_pos hm, if_pos ⟨rfl, rfl⟩]
  · show (if fki ci j = true then Value.int (w.2.1 r j) else va_rf (if mu r j = true then (if r = r ∧ j = k then x else w.2.2.1 r j) else _)) = _
    rw [if_neg (fun z : r = r ∧ j = k => hj z.2)]
    rfl
end XMEM
