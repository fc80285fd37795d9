/-! THE PAPER: a text that grows -/
def obB (V n : Nat) : Option Ob := some (.inr (13, [.ref V, .int 0, .int 0, .int (nI n)]))
def oBy (cap : Nat) (f : Nat → Int32) : Option Ob := some (.inl (3, cap, .inl f))
/-- rows and what lies below lo stay -/
def Fr0 (lo : Nat) (w w' : Wd) : Prop := w'.1 = w.1 ∧ w'.2.1 = w.2.1 ∧ w'.2.2.1 = w.2.2.1 ∧ szW w ≤ szW w' ∧ ∀ c : Nat, c < lo → dyn w' c = dyn w c
/-- rows stay, and what is there but for S and V -/
def FrS (S V : Nat) (w w' : Wd) : Prop := w'.1 = w.1 ∧ w'.2.1 = w.2.1 ∧ w'.2.2.1 = w.2.2.1 ∧ szW w ≤ szW w' ∧ ∀ c : Nat, c < szW w → c ≠ S → c ≠ V → dyn w' c = dyn w c
def SBd (ev : Ev) (w : Wd) (lo S V cap n : Nat) (f : Nat → Int32) : Prop := ev.1 + 984 ≤ lo ∧ lo ≤ S ∧ lo ≤ V ∧ S < szW w ∧ V < szW w ∧ S ≠ V ∧ dyn w S = obB V n ∧ dyn w V = oBy cap f ∧ n ≤ cap ∧ cap ≤ 120 ∧ 16 ≤ cap ∧ ∀ i : Nat, 0 ≤ (f i).toInt ∧ (f i).toInt ≤ 127
section XSB
variable {ev : Ev} {w w' w'' : Wd} {fu lo S V cap n k i : Nat} {f : Nat → Int32} {x : Int32}
theorem Fr0_refl : Fr0 lo w w := ⟨rfl, rfl, rfl, Nat.le_refl _, fun _ _ => rfl⟩
theorem Fr0_trans (h : Fr0 lo w w') (h2 : Fr0 lo w' w'') : Fr0 lo w w'' := ⟨h2.1.trans h.1, h2.2.1.trans h.2.1, h2.2.2.1.trans h.2.2.1, Nat.le_trans h.2.2.2.1 h2.2.2.2.1, fun c hc => (h2.2.2.2.2 c hc).trans (h.2.2.2.2 c hc)⟩
theorem Fr0_wD {o : Option Ob} {A : Nat} (h : lo ≤ A) : Fr0 lo w (wD w A o) := ⟨rfl, rfl, rfl, Nat.le_refl _, fun c hc => dn_ne (by omega)⟩
theorem Fr0_nw {N : Nat} {o : Ob} (h : lo ≤ szW w) : Fr0 lo w (nwW w N o) := ⟨rfl, rfl, rfl, Nat.le_succ _, fun c hc => (Nw_new (w := w) (N := N) (o := o)).2.2.2.2.2.2 c (by omega)⟩
theorem FrS_refl : FrS S V w w := ⟨rfl, rfl, rfl, Nat.le_refl _, fun _ _ _ _ => rfl⟩
theorem FrS_trans {V' : Nat} (h : FrS S V w w') (h2 : FrS S V' w' w'') (hV : V' = V ∨ szW w ≤ V') : FrS S V w w'' := ⟨h2.1.trans h.1, h2.2.1.trans h.2.1, h2.2.2.1.trans h.2.2.1, Nat.le_trans h.2.2.2.1 h2.2.2.2.1, fun c hc c1 c2 => (h2.2.2.2.2 c (Nat.lt_of_lt_of_le hc h.2.2.2.1) c1 (by rcases hV with z | z <;> omega)).trans (h.2.2.2.2 c hc c1 c2)⟩
theorem FrS_S {o : Option Ob} : FrS S V w (wD w S o) := ⟨rfl, rfl, rfl, Nat.le_refl _, fun c _ c1 _ => dn_ne c1⟩
theorem FrS_V {o : Option Ob} : FrS S V w (wD w V o) := ⟨rfl, rfl, rfl, Nat.le_refl _, fun c _ _ c2 => dn_ne c2⟩
theorem Fr0_S (h : FrS S V w w') (h1 : lo ≤ S) (h2 : lo ≤ V) (h3 : lo ≤ szW w) : Fr0 lo w w' := ⟨h.1, h.2.1, h.2.2.1, h.2.2.2.1, fun c hc => h.2.2.2.2 c (by omega) (by omega) (by omega)⟩
theorem o_gI {ci : Nat} {l : List Value} {y : Int32} {L : Nat} (h : ev.1 + 984 ≤ L) (hd : dyn w L = some (.inr (ci, l))) (hk : l[k]? = some (.int y)) : gfI (mem ev w) L ci k = some y := by
  unfold gfI
  rw [d_gV h hd, hk]
theorem o_gA {ci : Nat} {l : List Value} {y L : Nat} (h : ev.1 + 984 ≤ L) (hd : dyn w L = some (.inr (ci, l))) (hk : l[k]? = some (.ref y)) : gfA (mem ev w) L ci k = some (some y) := by
  unfold gfA
  rw [d_gV h hd, hk]
theorem o_is {ci : Nat} {l : List Value} {L : Nat} (h : ev.1 + 984 ≤ L) (hd : dyn w L = some (.inr (ci, l))) : isC (mem ev w) L ci = some () := by
  unfold isC
  rw [mem_dyn h]
  unfold dyn at hd
  rw [hd]
  exact if_pos rfl
theorem by_len (h : ev.1 + 984 ≤ V) (hd : dyn w V = oBy cap f) : alen (mem ev w) V = some (nI cap) := by
  unfold alen
  rw [mem_dyn h]
  unfold dyn at hd
  rw [hd]
  rfl
theorem nar_b {y : Int32} (h0 : 0 ≤ y.toInt) (h1 : y.toInt ≤ 127) : vp_nar (xTy 3) y = y := by
  have key : ∀ j : Nat, j < 128 → vp_nar (xTy 3) (nI j) = nI j := by decide +kernel
  have e : y = nI y.toInt.toNat := by
    apply Int32.toInt_inj.mp
    rw [nI_toInt (by omega)]
    omega
  rw [e]
  exact key _ (by omega)
theorem by_st {p : Nat} (h : ev.1 + 984 ≤ V) (hd : dyn w V = oBy cap f) (hp : p < cap) (hc : cap < 1000) (h0 : 0 ≤ x.toInt) (h1 : x.toInt ≤ 127) : astI ev 3 (mem ev w) V (nI p) x = some (mem ev (wD w V (oBy cap (fun j => if j = p then x else f j)))) := by
  unfold astI
  rw [mem_dyn h]
  unfold dyn at hd
  rw [hd]
  show (if 3 = 3 ∧ ev.1 ≤ V ∧ ¬ (nI p < 0 ∨ cap ≤ (nI p).toNatClampNeg) then some (va_up (mem ev w).1 V (some (.inl (3, cap, .inl (upd f (nI p).toNatClampNeg (vp_nar (xTy 3) x))))), (mem ev w).2) else none) = _
  rw [if_pos ⟨rfl, by omega, nI_in hp (by omega)⟩, nI_clamp (by omega), mem_upd h, nar_b h0 h1]
  rfl
theorem sh0 (h : n < 2 ^ 31) : nI n >>> ((0 : Int32) &&& 31) = nI n := by
  rw [pk_shrN h _ 0 (by decide)]
  simp
theorem shl0 : ∀ y : Int32, y <<< ((0 : Int32) &&& 31) = y := fun y => by
  show y <<< (0 : Int32) = y
  exact Int32.shiftLeft_zero
/-- room for k more letters -/
theorem sb_room (hE : EvOk ev) (h : SBd ev w lo S V cap n f) (hk : n + k ≤ 60) (hk2 : k ≤ 16) (h1 : szW w + 1 ≤ ev.2.1) (h2 : slW w + 2 * (120 - cap) ≤ ev.2.2.1) : ∃ (w' : Wd) (V' cap' : Nat) (f' : Nat → Int32), f_J13_ensureCapacityInternal fu ev (mem ev w) S (nI (n + k)) = some ((), mem ev w') ∧ SBd ev w' lo S V' cap' n f' ∧ n + k ≤ cap' ∧ (∀ i : Nat, i < n → f' i = f i) ∧ FrS S V w w' ∧ (V' = V ∨ szW w ≤ V') ∧ szW w' ≤ szW w + 1 ∧ cap ≤ cap' ∧ slW w' + 2 * cap ≤ slW w + 2 * cap' := by
  obtain ⟨hlo, hS, hV, hSs, hVs, hSV, dS, dV, hn, hc, hc16, hf⟩ := id h
  have g0 : gfA (mem ev w) S 13 0 = some (some V) := o_gA (by omega) dS rfl
  have g1 : gfI (mem ev w) S 13 1 = some 0 := o_gI (by omega) dS rfl
  have ln := by_len (ev := ev) (w := w) (by omega) dV
  have iS : isC (mem ev w) S 13 = some () := o_is (by omega) dS
  by_cases c : n + k ≤ cap
  · refine ⟨w, V, cap, f, ?_, h, c, fun _ _ => rfl, FrS_refl, Or.inl rfl, Nat.le_succ _, Nat.le_refl _, Nat.le_refl _⟩
    unfold f_J13_ensureCapacityInternal b_J13_ensureCapacityInternal_0
    rw [g0, Option.bind_some, Option.bind_some, ln, Option.bind_some, g1, Option.bind_some, sh0 (by omega), if_pos]
    · rfl
    · rw [Int32.le_iff_toInt_le, pk_sub_toInt (by omega) (by omega)]
      show _ ≤ (0 : Int)
      omega
  · obtain ⟨cap', hcap⟩ : ∃ cap' : Nat, cap' = if n + k - cap < cap + 2 then cap + (cap + 2) else cap + (n + k - cap) := ⟨_, rfl⟩
    have hc' : cap' = 2 * cap + 2 := by rw [hcap]; split <;> omega
    obtain ⟨A, hA⟩ : ∃ A, A = szW w := ⟨_, rfl⟩
    obtain ⟨w1, hw1⟩ : ∃ w1, w1 = nwW w cap' (.inl (3, cap', .inl fun _ => 0)) := ⟨_, rfl⟩
    obtain ⟨w2, hw2⟩ : ∃ w2, w2 = wD w1 A (oBy cap' (fun j => if j < cap then f j else 0)) := ⟨_, rfl⟩
    obtain ⟨w3, hw3⟩ : ∃ w3, w3 = wD w2 S (obB A n) := ⟨_, rfl⟩
    have z1 : szW w1 = A + 1 := by rw [hw1, hA]; rfl
    have d1 : ∀ c : Nat, c < A → dyn w1 c = dyn w c := fun c hc => by rw [hw1]; exact (Nw_new (w := w)).2.2.2.2.2.2 c (by omega)
    have d1A : dyn w1 A = oBy cap' (fun _ => 0) := by rw [hw1, hA]; exact dn_new
    have d2S : dyn w2 S = obB V n := by rw [hw2, dn_ne (by omega), d1 S (by omega)]; exact dS
    have nl : f_J18_newLength fu ev (mem ev w) (nI cap) (nI (n + k) - nI cap) (nI cap + 2) = some (nI cap', mem ev w) := by
      have e1 : nI (n + k) - nI cap = nI (n + k - cap) := s_sub (by omega)
      have e2 : nI cap + (2 : Int32) = nI (cap + 2) := nI_add cap 2
      have e3 : (if nI (n + k - cap) < nI (cap + 2) then nI (cap + 2) else nI (n + k - cap)) = nI (cap' - cap) := by
        by_cases c2 : n + k - cap < cap + 2
        · rw [if_pos (by rw [Int32.lt_iff_toInt_lt, nI_toInt (by omega), nI_toInt (by omega)]; omega), hc', show 2 * cap + 2 - cap = cap + 2 by omega]
        · omega
      have e4 : nI cap + nI (cap' - cap) = nI cap' := by rw [nI_add, show cap + (cap' - cap) = cap' by omega]
      unfold f_J18_newLength b_J18_newLength_0
      rw [e1, e2, e3, e4, if_neg, b_J18_newLength_13, if_neg]
      · rfl
      · rw [Int32.lt_iff_toInt_lt, nI_toInt (by omega)]
        show ¬ (2147483639 : Int) < _
        omega
      · rw [Int32.le_iff_toInt_le, nI_toInt (by omega)]
        show ¬ _ ≤ (0 : Int)
        omega
    have nc : f_J13_newCapacity fu ev (mem ev w) S (nI (n + k)) = some (nI cap', mem ev w) := by
      unfold f_J13_newCapacity b_J13_newCapacity_0
      rw [g0, Option.bind_some, Option.bind_some, ln, Option.bind_some, g1, Option.bind_some, Option.bind_some, shl0, shl0, nl, b2s, if_neg]
      · unfold b_J13_newCapacity_51
        rw [g1, Option.bind_some, sh0 (by omega)]
      · intro z
        have := congrArg Int32.toInt z
        rw [nI_toInt (by omega)] at this
        have e : (2147483647 : Int32).toInt = 2147483647 := by decide
        omega
    have en : nwA ev (mem ev w) 3 (nI cap') 1 (.inl fun _ => 0) = some (A, mem ev w1) := by
      unfold nwA
      have q1 : (mem ev w).2.1 = A := hA.symm
      have q2 : (mem ev w).2.2 = slW w := rfl
      rw [q1, q2, nI_clamp (by omega), if_pos ⟨nI_pos (by omega), by omega, by omega, by omega⟩]
      refine congrArg (fun q => some (A, q)) ?_
      rw [hw1]
      refine Prod.ext ?_ ?_
      · have := congrArg Prod.fst (mem_upd (ev := ev) (w := w) (a := A) (o := some (.inl (3, cap', .inl fun _ => 0))) (by omega))
        refine this.trans ?_
        rw [hA]
        rfl
      · show (A + 1, slW w + cap') = (szW w + 1, slW w + cap')
        rw [hA]
    have d1V : dyn w1 V = oBy cap f := by rw [d1 V (by omega)]; exact dV
    have cp : cpyB ev (mem ev w1) V (0 : Int32) A (0 : Int32) (nI cap) = some (mem ev w2) := by
      unfold cpyB
      rw [mem_dyn (show ev.1 + 984 ≤ V by omega), mem_dyn (show ev.1 + 984 ≤ A by omega)]
      have q1 : w1.2.2.2.1 V = some (.inl (3, cap, .inl f)) := d1V
      have q2 : w1.2.2.2.1 A = some (.inl (3, cap', .inl fun _ => 0)) := d1A
      rw [q1, q2]
      have c3 : ¬ nI cap < 0 := nI_pos (by omega)
      have z0 : (0 : Int32).toNatClampNeg = 0 := by decide
      have hall : bytesAll f 0 cap = true := by
        unfold bytesAll
        rw [List.all_eq_true]
        intro i _
        have := hf (0 + i)
        rw [Bool.and_eq_true, decide_eq_true_eq, decide_eq_true_eq, Int32.le_iff_toInt_le, Int32.le_iff_toInt_le]
        show (-128 : Int) ≤ _ ∧ _ ≤ (127 : Int)
        omega
      have hs : 0 + cap ≤ cap := by omega
      have hd : 0 + cap ≤ cap' := by omega
      show (if _ then _ else _) = _
      rw [nI_clamp (n := cap) (by omega), z0, if_pos ⟨⟨rfl, rfl, by omega⟩, by simp only [c3, hs, hd]; decide, hall⟩, mem_upd (by omega), hw2]
      refine congrArg (fun q => some (mem ev (wD w1 A (oBy cap' q)))) (funext fun j => ?_)
      unfold va_cpy
      by_cases cj : j < cap
      · rw [if_pos (by omega), if_pos cj, show 0 + (j - 0) = j by omega]
      · rw [if_neg (by omega), if_neg cj]
    have co : f_J20_copyOf fu ev (mem ev w) (some V) (nI cap') = some (some A, mem ev w2) := by
      unfold f_J20_copyOf b_J20_copyOf_0
      rw [Option.bind_some, ln, Option.bind_some, if_neg (nI_ne (by omega) (by omega) (by omega))]
      unfold b_J20_copyOf_14
      have ni : ¬ nI cap' < nI cap := by
        rw [Int32.lt_iff_toInt_lt, nI_toInt (by omega), nI_toInt (by omega)]
        omega
      rw [en, b2s, by_len (by omega) d1V, Option.bind_some, if_neg ni, cp]
      rfl
    have pf : pfA ev (mem ev w2) S 13 0 (some A) = some (mem ev w3) := by
      unfold pfA
      rw [d_pV (k := 0) (show ev.1 + 984 ≤ S by omega) d2S (by simp), hw3]
      rfl
    have zs : szW w3 = A + 1 := by rw [hw3, hw2]; exact z1
    have sls : slW w3 = slW w + cap' := by rw [hw3, hw2, hw1]; rfl
    refine ⟨w3, A, cap', fun j => if j < cap then f j else 0, ?_, ⟨hlo, hS, by omega, by omega, by omega, by omega, by rw [hw3]; exact dn_wD, by rw [hw3, dn_ne (by omega), hw2]; exact dn_wD, by omega, by omega, by omega, fun i => ?_⟩, by omega, fun i hi => if_pos (by omega), ?_, Or.inr (by omega), by omega, by omega, by omega⟩
    · unfold f_J13_ensureCapacityInternal b_J13_ensureCapacityInternal_0
      rw [g0, Option.bind_some, Option.bind_some, ln, Option.bind_some, g1, Option.bind_some, sh0 (by omega), if_neg]
      · unfold b_J13_ensureCapacityInternal_17
        rw [g0, Option.bind_some, iS, Option.bind_some, nc, b2s, g1, Option.bind_some, shl0, co, b2s, pf]
        rfl
      · rw [Int32.le_iff_toInt_le, pk_sub_toInt (by omega) (by omega)]
        show ¬ _ ≤ (0 : Int)
        omega
    · show 0 ≤ (if i < cap then f i else 0).toInt ∧ (if i < cap then f i else 0).toInt ≤ 127
      split
      · exact hf i
      · decide
    · refine ⟨by rw [hw3, hw2, hw1]; rfl, by rw [hw3, hw2, hw1]; rfl, by rw [hw3, hw2, hw1]; rfl, by omega, fun c hc c1 c2 => ?_⟩
      rw [hw3, dn_ne c1, hw2, dn_ne (by omega)]
      exact d1 c (by omega)
end XSB
