/-! THE SET OF BITS, AND THE OPERATION squares -/
def bt (x : Int64) (i : Nat) : Bool := x.toBitVec.getLsbD i
theorem bt_or {x y : Int64} {i : Nat} : bt (x ||| y) i = (bt x i || bt y i) := by unfold bt; rw [Int64.toBitVec_or, BitVec.getLsbD_or]
theorem bt_and {x y : Int64} {i : Nat} : bt (x &&& y) i = (bt x i && bt y i) := by unfold bt; rw [Int64.toBitVec_and, BitVec.getLsbD_and]
theorem bt_0 {i : Nat} : bt 0 i = false := by unfold bt; rw [show (0 : Int64).toBitVec = 0#64 from rfl, BitVec.getLsbD_zero]
theorem bt_ext {x y : Int64} (h : ∀ i : Nat, i < 64 → bt x i = bt y i) : x = y := Int64.toBitVec_inj.mp (BitVec.eq_of_getLsbD_eq fun i hi => h i hi)
theorem bt_1 : ∀ s : Nat, s < 64 → ∀ i : Nat, i < 64 → bt ((1 : Int64) <<< ((nI s).toInt64 &&& 63)) i = decide (i = s) := by decide +kernel
theorem bt_m : ∀ s : Nat, s < 64 → ∀ i : Nat, i < 64 → bt ((-1 : Int64) <<< ((nI s).toInt64 &&& 63)) i = decide (s ≤ i) := by decide +kernel
theorem sh6 : ∀ s : Nat, s < 64 → nI s >>> ((6 : Int32) &&& 31) = 0 := by decide +kernel
theorem nJ_i : ∀ s : Nat, s < 64 → (nI s).toInt64.toInt = s ∧ (nI s).toInt64.toInt32 = nI s := by decide +kernel
theorem J_nI {x : Int64} {s : Nat} (hs : s < 64) (h : x.toInt = s) : x = (nI s).toInt64 := Int64.toInt_inj.mp (by rw [h, (nJ_i s hs).1])
/-- only the set of bits differs -/
def O34 (w w' : Wd) : Prop := (∀ q i : Nat, q ≠ 35 → w'.1 q i = w.1 q i) ∧ (∀ q i : Nat, q ≠ 34 → w'.2.1 q i = w.2.1 q i) ∧ w'.2.2 = w.2.2
section XBS
variable {ev : Ev} {w w0 w' w'' : Wd} {fu k n i j J L a b c N M T s f : Nat} {v A : Nat → Int64} {x y : Int64} {m u z x3 : Int32} {Kp : Option Nat} {B : Nat → Bool}
theorem O34_refl : O34 w w := ⟨fun _ _ _ => rfl, fun _ _ _ => rfl, rfl⟩
theorem O34_trans (h1 : O34 w w') (h2 : O34 w' w'') : O34 w w'' := ⟨fun q i h => (h2.1 q i h).trans (h1.1 q i h), fun q i h => (h2.2.1 q i h).trans (h1.2.1 q i h), h2.2.2.trans h1.2.2⟩
theorem b_is : isC (mem ev w) (ev.1 + 34) 10 = some () := isCm (n := 3) rfl (by decide)
theorem b_A : gfA (mem ev w) (ev.1 + 34) 10 0 = some (some (ev.1 + 35)) := gA (r := 34) (n := 3) rfl (by decide) (by decide) rfl
theorem b_g : gfI (mem ev w) (ev.1 + 34) 10 1 = some (w.2.1 34 1) := gI (r := 34) (n := 3) rfl (by decide) (by decide) rfl
theorem b_p : pfI ev (mem ev w) (ev.1 + 34) 10 1 m = some (mem ev (wI w 34 1 m)) := pI (r := 34) (n := 3) rfl (by decide) (by decide) rfl m
theorem b_ld : aldJ (mem ev w) (ev.1 + 35) 0 = some (w.1 35 0) := rdJ (r := 35) (N := 1) (k := 0) rfl (by decide) (by decide) (by decide)
theorem b_st : astJ ev (mem ev w) (ev.1 + 35) 0 x = some (mem ev (wJ w 35 0 x)) := wrJ (r := 35) (N := 1) (k := 0) rfl (by decide) (by decide) (by decide)
theorem b_ln : alen (mem ev w) (ev.1 + 35) = some (nI 1) := lenJ (n := 1) (κ := 1) rfl (by decide)
theorem w34_e : (wI w 34 1 m).2.1 34 1 = m := by
  show (if 34 = 34 ∧ 1 = 1 then m else w.2.1 34 1) = m
  rw [if_pos ⟨rfl, rfl⟩]
theorem w35_e : (wJ w 35 0 x).1 35 0 = x := by
  show (if 35 = 35 ∧ 0 = 0 then x else w.1 35 0) = x
  rw [if_pos ⟨rfl, rfl⟩]
theorem O34_I : O34 w (wI w 34 1 m) := ⟨fun _ _ _ => rfl, fun q i h => by
  show (if q = 34 ∧ i = 1 then m else w.2.1 q i) = _
  rw [if_neg (fun e => h e.1)], rfl⟩
theorem O34_J : O34 w (wJ w 35 0 x) := ⟨fun q i h => by
  show (if q = 35 ∧ i = 0 then x else w.1 q i) = _
  rw [if_neg (fun e => h e.1)], fun _ _ _ => rfl, rfl⟩
theorem b_clear (hf : 2 ≤ fu) (h : BS w) : ∃ w' : Wd, O34 w w' ∧ w'.2.1 34 1 = nI 0 ∧ w'.1 35 0 = 0 ∧ f_J4_clear fu ev (mem ev w) (ev.1 + 34) = some ((), mem ev w') := by
  obtain ⟨g, rfl⟩ : ∃ g, fu = g + 2 := ⟨fu - 2, by omega⟩
  rcases h with h | ⟨h, h2⟩
  · refine ⟨wJ (wI w 34 1 (nI 0)) 35 0 0, O34_trans O34_I O34_J, w34_e, w35_e, ?_⟩
    show b_J4_clear_0 (L_J4_clear_0 (g + 2) ev (g + 1)) (g + 2) ev (mem ev w) (ev.1 + 34) = _
    have e0 : nI 1 - (1 : Int32) = nI 0 := by decide
    have e1 : ¬ nI 1 ≤ (0 : Int32) := by decide
    have e2 : nI 0 ≤ (0 : Int32) := by decide
    have st : astJ ev (mem ev (wI w 34 1 (nI 0))) (ev.1 + 35) (nI 0) 0 = some (mem ev (wJ (wI w 34 1 (nI 0)) 35 0 0)) := b_st
    have gg : gfI (mem ev (wJ (wI w 34 1 (nI 0)) 35 0 0)) (ev.1 + 34) 10 1 = some (nI 0) := b_g.trans (congrArg some w34_e)
    simp only [b_J4_clear_0, b_J4_clear_7, L_J4_clear_0, b_J4_clear_27, b_g, h, e1, if_false, b_A, e0, b_p, st, gg, e2, if_true, Option.bind_some]
  · refine ⟨w, O34_refl, h, h2, ?_⟩
    show b_J4_clear_0 (L_J4_clear_0 (g + 2) ev (g + 1)) (g + 2) ev (mem ev w) (ev.1 + 34) = _
    have e2 : nI 0 ≤ (0 : Int32) := by decide
    simp only [b_J4_clear_0, b_J4_clear_27, b_g, h, e2, if_true, Option.bind_some]
theorem b_chk (hE : EvOk ev) : f_J4_checkInvariants fu ev (mem ev w) (ev.1 + 34) = some ((), mem ev w) := by
  have s8 : gsI ev 8 = some 1 := by unfold gsI; rw [hE.1.2.2.2.2.2.2.2.2.1]
  have z1 : ¬ (1 : Int32) = 0 := by decide
  simp only [b_J4_checkInvariants_110, b_J4_checkInvariants_102, b_J4_checkInvariants_88, b_J4_checkInvariants_76, b_J4_checkInvariants_70, b_J4_checkInvariants_62, b_J4_checkInvariants_50, b_J4_checkInvariants_43, b_J4_checkInvariants_37, b_J4_checkInvariants_29, b_J4_checkInvariants_13, b_J4_checkInvariants_6, b_J4_checkInvariants_0, f_J4_checkInvariants, s8, z1, if_false, Option.bind_some]
theorem b_set (hE : EvOk ev) (hs : s < 61) (h : BS w) : ∃ w' : Wd, O34 w w' ∧ w'.2.1 34 1 = nI 1 ∧ w'.1 35 0 = w.1 35 0 ||| ((1 : Int64) <<< ((nI s).toInt64 &&& 63)) ∧ f_J4_set fu ev (mem ev w) (ev.1 + 34) (nI s) = some ((), mem ev w') := by
  have hp : (0 : Int32) ≤ nI s := nI_le (a := 0) (by omega) (by omega)
  have e1 : (0 : Int32) + 1 = nI 1 := by decide
  rcases h with h | ⟨h, -⟩
  · refine ⟨wJ w 35 0 (w.1 35 0 ||| ((1 : Int64) <<< ((nI s).toInt64 &&& 63))), O34_J, h, w35_e, ?_⟩
    have e2 : nI 1 ≤ nI 1 := by decide
    simp only [b_J4_set_31, b_J4_set_4, b_J4_set_0, f_J4_set, b_J4_wordIndex_0, f_J4_wordIndex, b_J4_expandTo_22, b_J4_expandTo_12, b_J4_expandTo_0, f_J4_expandTo, hp, sh6 s (by omega), if_true, b_is, b_g, h, e1, e2, b_A, b_ld, b_st, b_chk hE, Option.bind_some, bd2]
  · refine ⟨wJ (wI w 34 1 (nI 1)) 35 0 (w.1 35 0 ||| ((1 : Int64) <<< ((nI s).toInt64 &&& 63))), O34_trans O34_I O34_J, w34_e, w35_e, ?_⟩
    have e2 : ¬ nI 1 ≤ nI 0 := by decide
    have e3 : nI 1 ≤ nI 1 := by decide
    have l1 : aldJ (mem ev (wI w 34 1 (nI 1))) (ev.1 + 35) 0 = some (w.1 35 0) := b_ld
    simp only [b_J4_set_31, b_J4_set_4, b_J4_set_0, f_J4_set, b_J4_wordIndex_0, f_J4_wordIndex, b_J4_expandTo_22, b_J4_expandTo_12, b_J4_expandTo_0, f_J4_expandTo, b_J4_ensureCapacity_38, b_J4_ensureCapacity_9, b_J4_ensureCapacity_0, f_J4_ensureCapacity, hp, sh6 s (by omega), if_true, if_false, b_is, b_g, h, e1, e2, e3, b_A, b_ln, b_p, l1, b_st, b_chk hE, Option.bind_some, bd2]
theorem b_next (hE : EvOk ev) (hf : 1 ≤ fu) (hs : s < 64) (h : BS w) : (∃ k : Nat, s ≤ k ∧ k < 64 ∧ bt (w.1 35 0) k = true ∧ (∀ i : Nat, s ≤ i → i < k → bt (w.1 35 0) i = false) ∧ f_J4_nextSetBit fu ev (mem ev w) (ev.1 + 34) (nI s) = some (nI k, mem ev w)) ∨ ((∀ i : Nat, s ≤ i → i < 64 → bt (w.1 35 0) i = false) ∧ f_J4_nextSetBit fu ev (mem ev w) (ev.1 + 34) (nI s) = some (-1, mem ev w)) := by
  obtain ⟨g, hg⟩ : ∃ g, fu = g + 1 := ⟨fu - 1, by omega⟩
  have hL : ∀ σ x0 x2 x3, L_J4_nextSetBit_63 fu ev fu σ x0 x2 x3 = b_J4_nextSetBit_63 (L_J4_nextSetBit_63 fu ev g) fu ev σ x0 x2 x3 := fun _ _ _ _ => by rw [hg]; rfl
  have hp : (0 : Int32) ≤ nI s := nI_le (a := 0) (by omega) (by omega)
  rcases h with h | ⟨h, h2⟩
  · have e1 : (0 : Int32) < nI 1 := by decide
    have e2 : (0 : Int32) + 1 = nI 1 := by decide
    obtain ⟨y, hy⟩ : ∃ y, y = w.1 35 0 &&& ((-1 : Int64) <<< ((nI s).toInt64 &&& 63)) := ⟨_, rfl⟩
    have by_ : ∀ i : Nat, i < 64 → bt y i = (bt (w.1 35 0) i && decide (s ≤ i)) := fun i hi => by rw [hy, bt_and, bt_m s hs i hi]
    by_cases hz : y = 0
    · right
      refine ⟨fun i h1 h2 => ?_, ?_⟩
      · have := by_ i h2
        rw [hz, bt_0, decide_eq_true h1, Bool.and_true] at this
        exact this.symm
      · simp only [b_J4_nextSetBit_92, b_J4_nextSetBit_90, b_J4_nextSetBit_79, b_J4_nextSetBit_69, b_J4_nextSetBit_63, b_J4_nextSetBit_50, b_J4_nextSetBit_48, b_J4_nextSetBit_31, b_J4_nextSetBit_4, b_J4_nextSetBit_0, f_J4_nextSetBit, b_J4_wordIndex_0, f_J4_wordIndex, hp, sh6 s hs, if_true, b_is, b_g, h, e1, e2, b_A, b_ld, hL, ← hy, hz, b_chk hE, Option.bind_some, bd2]
    · left
      have ex : ∃ k : Nat, k < 64 ∧ bt y k = true := by
        apply Classical.byContradiction
        intro hn
        apply hz
        apply bt_ext
        intro i hi
        rw [bt_0]
        cases q : bt y i
        · rfl
        · exact absurd ⟨i, hi, q⟩ hn
      obtain ⟨k, k1, k2, k3⟩ : ∃ k : Nat, k < 64 ∧ bt y k = true ∧ ∀ i : Nat, i < k → bt y i = false := by
        obtain ⟨k, k1, k2⟩ := ex
        induction k using Nat.strongRecOn with
        | ind k ih =>
          by_cases q : ∃ i : Nat, i < k ∧ bt y i = true
          · obtain ⟨i, i1, i2⟩ := q
            exact ih i i1 (by omega) i2
          · refine ⟨k, k1, k2, fun i hi => ?_⟩
            cases q2 : bt y i
            · rfl
            · exact absurd ⟨i, hi, q2⟩ q
      have b1 := by_ k k1
      rw [k2] at b1
      have b2 := (Bool.and_eq_true _ _).mp b1.symm
      refine ⟨k, of_decide_eq_true b2.2, k1, b2.1, fun i h1 h2 => ?_, ?_⟩
      · have := by_ i (by omega)
        rw [k3 i h2, decide_eq_true h1, Bool.and_true] at this
        exact this.symm
      · have nt := ntz_64 (fu := fu) (ev := ev) (σ := mem ev w) (y := y) k1 k2 k3
        have e3 : (0 : Int32) * 64 + nI k = nI k := by rw [Int32.zero_mul, Int32.zero_add]
        simp only [b_J4_nextSetBit_92, b_J4_nextSetBit_90, b_J4_nextSetBit_79, b_J4_nextSetBit_69, b_J4_nextSetBit_63, b_J4_nextSetBit_50, b_J4_nextSetBit_48, b_J4_nextSetBit_31, b_J4_nextSetBit_4, b_J4_nextSetBit_0, f_J4_nextSetBit, b_J4_wordIndex_0, f_J4_wordIndex, hp, sh6 s hs, if_true, b_is, b_g, h, e1, b_A, b_ld, hL, ← hy, hz, if_false, nt, e3, b_chk hE, Option.bind_some, bd2]
  · right
    refine ⟨fun i _ _ => by rw [h2, bt_0], ?_⟩
    have e1 : ¬ (0 : Int32) < nI 0 := by decide
    simp only [b_J4_nextSetBit_92, b_J4_nextSetBit_90, b_J4_nextSetBit_79, b_J4_nextSetBit_69, b_J4_nextSetBit_63, b_J4_nextSetBit_50, b_J4_nextSetBit_48, b_J4_nextSetBit_31, b_J4_nextSetBit_4, b_J4_nextSetBit_0, f_J4_nextSetBit, b_J4_wordIndex_0, f_J4_wordIndex, hp, sh6 s hs, if_true, if_false, b_is, b_g, h, e1, b_chk hE, Option.bind_some, bd2]
end XBS
