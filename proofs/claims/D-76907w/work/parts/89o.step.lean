/-! OPERATIONS log, step -/
def lgV (n : Nat) (qs : Nat → Nat) (x : Int32) : Int32 := if (-1 : Int32) ≤ x then (if x = -1 then nI n else if nI n ≤ x then -2 else nI (qs x.toNatClampNeg)) else -1
/-- a log gets one more -/
def lgA (s : Nat × (Nat → Nat)) (v : Nat) : Nat × (Nat → Nat) := (min (s.1 + 1) 30, adQ s.1 s.2 v)
/-- the class's log, apart from the kept one -/
def Ls (ev : Ev) (w : Wd) (s : Nat × (Nat → Nat)) (n' : Nat) (ad' : Nat → Nat) : Prop := s.1 ≤ 30 ∧ ∃ ad : Nat → Nat, LL ev w 28 s.1 ad s.2 ∧ ∀ i j : Nat, i < s.1 → j < n' → ad i ≠ ad' j
def FrK (n' : Nat) (ad' : Nat → Nat) (w w' : Wd) : Prop := FrD w w' ∧ ∀ j : Nat, j < n' → dyn w' (ad' j) = dyn w (ad' j)
section XO14
variable {ev : Ev} {w w' w'' w1 wb w2 : Wd} {fu M C F k n n' t : Nat} {x : Int32} {p ad qs ad' : Nat → Nat} {K : Option Nat} {T : Nat} {S U : List Nat} {V : Nat → Int64} {s : Nat × (Nat → Nat)}
theorem lg_pos (h : (-1 : Int32) ≤ x) (hn : ¬ x = -1) : ¬ x < 0 := by
  intro z
  have a := Int32.le_iff_toInt_le.mp h
  have b := Int32.lt_iff_toInt_lt.mp z
  rw [show (-1 : Int32).toInt = -1 from by decide] at a
  rw [show (0 : Int32).toInt = 0 from by decide] at b
  exact hn (Int32.toInt_inj.mp ((show x.toInt = -1 by omega).trans (show (-1 : Int32).toInt = -1 from by decide).symm))
theorem X0_log (hE : EvOk ev) (hf : 1001 ≤ fu) (hL : LL ev w 28 n ad qs) (hq : ∀ i : Nat, i < n → qs i < 60) : f_X0_log fu ev (mem ev w) ev.1 x = some (lgV n qs x, mem ev w) := by
  have hr : Hd 28 := Or.inl rfl
  have sz := ll_size (fu := fu) hr hL
  unfold f_X0_log b_X0_log_0 lgV
  by_cases h1 : (-1 : Int32) ≤ x
  · rw [if_pos h1, if_pos h1]
    unfold b_X0_log_7
    by_cases h2 : x = -1
    · rw [if_pos h2, if_pos h2]
      unfold b_X0_log_12
      rw [xf9, Option.bind_some, Option.bind_some, hIs hr, Option.bind_some, sz]
      rfl
    · rw [if_neg h2, if_neg h2]
      unfold b_X0_log_22
      rw [xf9, Option.bind_some, Option.bind_some, hIs hr, Option.bind_some, sz]
      show (if nI n ≤ x then b_X0_log_50 fu ev (mem ev w) else b_X0_log_33 fu ev (mem ev w) ev.1 x) = _
      by_cases h3 : nI n ≤ x
      · rw [if_pos h3, if_pos h3]
        rfl
      · rw [if_neg h3, if_neg h3]
        obtain ⟨j, hj, rfl⟩ := nI_of (lg_pos h1 h2)
        have hn := hL.1
        have hjn : j < n := Nat.not_le.mp fun z => h3 (nI_le z hj)
        have h60 := hq j hjn
        unfold b_X0_log_33
        rw [xf9, Option.bind_some, Option.bind_some, hIs hr, Option.bind_some, ll_get hr hf hL hjn]
        show (ckC (mem ev w) (some (ia ev (qs j))) "java/lang/Integer").bind _ = _
        rw [ia_ck hE (by omega), Option.bind_some]
        show (isC (mem ev w) (ia ev (qs j)) 15).bind _ = _
        rw [ia_is hE (by omega), Option.bind_some, ia_val hE (by omega), nI_clamp hj]
        rfl
  · rw [if_neg h1, if_neg h1]
    rfl
theorem X2_log (hL : LM w 4 969 n qs) : f_X2_log fu ev (mem ev w) (ev.1 + 966) x = some (lgV n qs x, mem ev w) := by
  obtain ⟨h30, h4, hv⟩ := hL
  unfold f_X2_log b_X2_log_0 lgV
  by_cases h1 : (-1 : Int32) ≤ x
  · rw [if_pos h1, if_pos h1]
    unfold b_X2_log_7
    by_cases h2 : x = -1
    · rw [if_pos h2, if_pos h2]
      unfold b_X2_log_12
      rw [mi4, Option.bind_some, h4]
      rfl
    · rw [if_neg h2, if_neg h2]
      unfold b_X2_log_19
      rw [mi4, Option.bind_some, h4]
      by_cases h3 : nI n ≤ x
      · rw [if_pos h3, if_pos h3]
        rfl
      · rw [if_neg h3, if_neg h3]
        obtain ⟨j, hj, rfl⟩ := nI_of (lg_pos h1 h2)
        have hjn : j < n := Nat.not_le.mp fun z => h3 (nI_le z hj)
        unfold b_X2_log_27
        rw [mf12, Option.bind_some, Option.bind_some, rdI (N := 30) rfl (by decide) (by decide) (by omega), Option.bind_some, (hv j hjn).1, nI_clamp hj]
        rfl
  · rw [if_neg h1, if_neg h1]
    rfl
theorem op_log (hE : EvOk ev) (hf : 1001 ≤ fu) (hR : Rel ev w M K T) : ∃ r : Int32, f_X0_log fu ev (mem ev w) ev.1 x = some (r, mem ev w) ∧ f_X2_log fu ev (mem ev w) (ev.1 + 966) x = some (r, mem ev w) := by
  obtain ⟨-, -, -, ⟨n, ad, qs, n', ad', qs', ⟨h1, h2⟩, -⟩, -⟩ := hR
  exact ⟨lgV n qs x, X0_log hE hf h1 (fun i hi => (h2.2.2 i hi).2), X2_log h2⟩
/-! keeping commutes with changes of other parts -/
theorem keepM_Ip {q i : Nat} (h : w'.2.1 q i = w.2.1 q i) : (keepM w' C F k).2.1 q i = (keepM w C F k).2.1 q i := by
  unfold keepM
  by_cases h12 : C < 12
  · rw [if_pos h12, if_pos h12]
    show (wI (wI w' 966 9 _) 973 _ _).2.1 q i = (wI (wI w 966 9 _) 973 _ _).2.1 q i
    simp only [wI_at, h]
  · rw [if_neg h12, if_neg h12]
    show (wI (wI w' 966 10 _) 973 _ _).2.1 q i = (wI (wI w 966 10 _) 973 _ _).2.1 q i
    simp only [wI_at, h]
theorem keepM_22 : (keepM w C F k).2.2 = w.2.2 := by unfold keepM; split <;> rfl
theorem keepM_983 {q i : Nat} (hq : q = 983 ∨ q = 35 := by assumption) : (keepM w C F k).1 q i = w.1 q i := by
  unfold keepM
  split
  · rw [row983S]; rfl
  · rw [row983S]; rfl
theorem FrX_keepM (hk : k < 6) (hV : Mk V) (f : FrX S w w') (hS : 1 ∉ S) (hS1 : 11 ∉ S) (hS2 : 21 ∉ S) : FrX S (setS (keepM w C F k) k V) (setS (keepM w' C F k) k V) := by
  obtain ⟨fi, fa, f8, ⟨f3, f13⟩, ⟨fc, fs⟩, fw⟩ := f
  refine ⟨fun q i h0 hn => keepM_Ip (fi q i h0 hn), fun q i h0 hn => ?_, fun q hq h i => ?_, ⟨fun h j hj => ?_, fun h j hj => ?_⟩, ⟨fun h j hj => ?_, fun h j hj => ?_⟩, fun h j hj => ⟨?_, ?_⟩⟩
  · show (keepM w' C F k).2.2.1 q i = (keepM w C F k).2.2.1 q i
    rw [keepM_22, keepM_22]
    exact fa q i h0 hn
  · rw [row983S, row983S, keepM_983, keepM_983]
    exact f8 q hq h i
  · rw [cv_setS (by omega), cv_setS (by omega), keepM_cv (by omega), keepM_cv (by omega)]
    exact f3 h j hj
  · rw [sl_ne (by omega), sl_ne (by omega), keepM_sl (by omega), keepM_sl (by omega)]
    exact f13 h j hj
  · rw [cv_setS (by omega), cv_setS (by omega), keepM_cv (by omega), keepM_cv (by omega)]
    exact fc hS1 j hj
  · by_cases e : j = k
    · rw [e, sl_mk hV, sl_mk hV]
    · rw [sl_ne e, sl_ne e, keepM_sl (by omega), keepM_sl (by omega)]
      exact fs hS2 j hj
  · rw [cv_setS (by omega), cv_setS (by omega), keepM_cv (by omega), keepM_cv (by omega)]
    exact (fw hS j hj).1
  · rw [sl_ne (by omega), sl_ne (by omega)]
    unfold keepM
    by_cases h12 : C < 12
    · rw [if_pos h12, if_pos h12]
      by_cases e : 14 + j = 14 + (F + C) % 12
      · rw [e, sl_mk Mk_sl, sl_mk Mk_sl]
        exact fs hS2 k hk
      · rw [sl_ne e, sl_ne e]
        exact (fw hS j hj).2
    · rw [if_neg h12, if_neg h12]
      by_cases e : 14 + j = 14 + F
      · rw [e, sl_mk Mk_sl, sl_mk Mk_sl]
        exact fs hS2 k hk
      · rw [sl_ne e, sl_ne e]
        exact (fw hS j hj).2
theorem RCK_mod2 (hR : RCK ev w M C F p) (hk : k < M) (hV : Mk V) (hok : OkV V) (h1 : w1 = setC (keepC ev w p C k) (3 + 2 * k) V) (hb : FrX S w1 wb) (hS : 1 ∉ S) (hS1 : 11 ∉ S) (hS2 : 21 ∉ S) (h2 : FrX U (setS (keepM wb C F k) k V) w2) (hU : 1 ∉ U) (hU1 : 11 ∉ U) (hU2 : 21 ∉ U) : (∃ (C' F' : Nat) (p' : Nat → Nat), RCK ev w2 M C' F' p') ∧ FrX (1 :: 11 :: 21 :: (S ++ U)) w w2 := by
  have h6 := hR.1.1
  obtain ⟨⟨C', F', p', -, r⟩, f⟩ := RCK_mod hR hk hV hok h1 (Sq_refl w1) rfl
  have a := FrX_trans (U := S ++ U) (FrX_keepM (C := C) (F := F) (k := k) (V := V) (by omega) hV hb hS hS1 hS2) h2 (fun c h => List.mem_append_left _ h) (fun c h => List.mem_append_right _ h)
  have hn : 1 ∉ S ++ U := fun z => (List.mem_append.mp z).elim hS hU
  have hn1 : 11 ∉ S ++ U := fun z => (List.mem_append.mp z).elim hS1 hU1
  have hn2 : 21 ∉ S ++ U := fun z => (List.mem_append.mp z).elim hS2 hU2
  exact ⟨⟨C', F', p', RCK_x r a hn hn1 hn2⟩, FrX_trans (FrX_Fr f) a (fun c h => List.mem_append_left (S ++ U) h) (fun c h => List.mem_append_right [1, 11, 21] h)⟩
theorem FrK_refl : FrK n' ad' w w := ⟨FrD_refl, fun _ _ => rfl⟩
theorem FrK_trans (h1 : FrK n' ad' w w') (h2 : FrK n' ad' w' w'') : FrK n' ad' w w'' := ⟨FrD_trans h1.1 h2.1, fun j hj => (h2.2 j hj).trans (h1.2 j hj)⟩
theorem FrK_eq (h : w'.2.2.2 = w.2.2.2) : FrK n' ad' w w' := ⟨FrD_eq h, fun j _ => by unfold dyn; rw [h]⟩
theorem Ls_x (h : Ls ev w s n' ad') (f : FrX S w w') (hS : 4 ∉ S) (h2 : w'.2.2.2 = w.2.2.2) : Ls ev w' s n' ad' := by
  obtain ⟨h30, ad, hL, hne⟩ := h
  exact ⟨h30, ad, LL28_x hL f hS (by unfold szW; rw [h2]; exact Nat.le_refl _) (fun j hj => by unfold dyn; rw [h2]), hne⟩
/-- a step is logged, in the class -/
theorem cl_log (hE : EvOk ev) (h : Ls ev w s n' ad') (hs : ∀ j : Nat, j < n' → ad' j < szW w) (hk : k < 6) (ht : t < 10) (h0 : ev.1 + 984 ≤ szW w) (h1 : szW w + 1 ≤ ev.2.1) (h2 : slW w + 3 ≤ ev.2.2.1) :
    ∃ w' : Wd, f_X0_logs fu ev (mem ev w) ev.1 (nI k) (nI t) = some ((), mem ev w') ∧ Ls ev w' (lgA s (10 * k + t)) n' ad' ∧ FrX [4, 10] w w' ∧ FrK n' ad' w w' ∧ w'.1 = w.1 ∧ w'.2.1 0 5 = w.2.1 0 5 + 1 ∧ szW w' = szW w + 1 ∧ slW w' = slW w + 3 := by
  obtain ⟨h30, ad, hL, hne⟩ := h
  obtain ⟨w', ad2, e, L', e1, e2, e3, e4, e5, e6, e7, e8⟩ := X0_logs (fu := fu) hE hL h30 hk ht h0 h1 h2
  refine ⟨w', e, ⟨Nat.min_le_right _ _, ad2, L', fun i j hi hj => ?_⟩, FrX_row e1 (fun q i a b => e2 q i ⟨fun z => b (by subst z; exact List.mem_cons_self), fun z => b (by obtain ⟨rfl, rfl⟩ := z; decide)⟩) (fun q i a b => by rw [e4 q (fun z => b (by subst z; decide))]), ⟨⟨by omega, fun a ha hn => e5 a ha (fun i hi z => hn _ _ _ (z ▸ hL.2.2.2.2.1 i hi))⟩, fun j hj => e5 _ (hs j hj) (fun i hi z => hne i j hi hj z.symm)⟩, e1, e3, e6, e7⟩
  rcases e8 i hi with h | ⟨l, hl, h⟩
  · have := hs j hj
    omega
  · rw [h]
    exact hne l j hl hj
/-- and in the model -/
theorem ml_log (hf : 40 ≤ fu) (h : LM w 4 969 s.1 s.2) (hk : k < 6) (ht : t < 9) : ∃ w' : Wd, f_X2_logs fu ev (mem ev w) (ev.1 + 966) (nI k) (nI t) = some ((), mem ev w') ∧ LM w' 4 969 (lgA s (10 * k + t)).1 (lgA s (10 * k + t)).2 ∧ FrX [14, 20] w w' ∧ w'.1 = w.1 ∧ w'.2.2 = w.2.2 ∧ w'.2.1 966 8 = w.2.1 966 8 + 1 := by
  obtain ⟨h30, h4, hv⟩ := h
  obtain ⟨w', e, r, e1, e2, e3⟩ := X2_logs (ev := ev) (fu := fu) (k := k) (s := t) hf h30 h4 (fun i hi => (hv i hi).1) hk (by omega)
  refine ⟨w', e, ⟨Nat.min_le_right _ _, e1, fun i hi => ⟨e3 i hi, ?_⟩⟩, FrX_Ri r (fun q i z => ?_), r.1, r.2.1, e2⟩
  · show adQ s.1 s.2 (10 * k + t) i < 60
    have hi' : i < min (s.1 + 1) 30 := hi
    unfold adQ
    split
    · split
      · omega
      · exact (hv i (by omega)).2
    · split
      · omega
      · exact (hv (i + 1) (by omega)).2
  · unfold lgI at z
    rcases z with rfl | ⟨rfl, rfl | rfl⟩
    · exact Or.inr (by show (14 : Nat) ∈ [14, 20]; decide)
    · exact Or.inr (by decide)
    · exact Or.inr (by decide)
theorem st_lt9 (v : Nat → Int64) : stV v < 9 := by
  unfold stV
  repeat' split
  all_goals omega
end XO14
