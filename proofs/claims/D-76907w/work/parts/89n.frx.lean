/-! FRAMES BY PARTS: 1 cells and what was, 2 tape, 3 image, 4 log, 5 kept log, 6 line, 7 kept line, 8 rows, 9 paper, 10 steps done (of the model 12, 13 ..); 0 is for thought -/
def kI (q i : Nat) : Nat :=
  if q = 0 then (if i = 5 then 10 else if i = 18 then 2 else if i = 24 then 3 else if i = 14 then 0 else 1)
  else if q = 966 then (if i = 3 ∨ i = 11 then 13 else if i = 4 then 14 else if i = 5 then 15 else if i = 6 then 16 else if i = 7 then 17 else if i = 8 then 20 else if i = 25 then 12 else if i = 26 then 19 else if i = 2 ∨ i = 9 ∨ i = 10 then 1 else 0)
  else if q = 40 then 2 else if q = 977 then 12 else if q = 28 then 4 else if q = 969 then 14 else if q = 43 then 5 else if q = 970 then 15 else if q = 38 then 6 else if q = 971 then 16 else if q = 44 then 7 else if q = 972 then 17 else if q = 982 then 18 else if q = 978 then 19 else if q = 27 ∨ q = 973 then 1 else if q = 34 then 22 else 0
def kJ (q : Nat) : Nat := if q = 983 then 18 else 22
def kA (q : Nat) : Nat := if q = 26 then 1 else if q = 28 then 4 else if q = 43 then 5 else if q = 39 then 6 else if q = 45 then 7 else if q = 41 then 8 else if q = 0 then 9 else 0
def FrX (S : List Nat) (w w' : Wd) : Prop := (∀ q i : Nat, kI q i ≠ 0 → kI q i ∉ S → w'.2.1 q i = w.2.1 q i) ∧ (∀ q i : Nat, kA q ≠ 0 → kA q ∉ S → w'.2.2.1 q i = w.2.2.1 q i) ∧ (∀ q : Nat, (q = 983 ∨ q = 35) → kJ q ∉ S → ∀ i : Nat, w'.1 q i = w.1 q i) ∧
  ((3 ∉ S → ∀ k : Nat, k < 6 → cv w' (4 + 2 * k) = cv w (4 + 2 * k)) ∧ (13 ∉ S → ∀ k : Nat, k < 6 → sl w' (8 + k) = sl w (8 + k))) ∧ ((11 ∉ S → ∀ k : Nat, k < 6 → cv w' (3 + 2 * k) = cv w (3 + 2 * k)) ∧ (21 ∉ S → ∀ k : Nat, k < 6 → sl w' k = sl w k)) ∧ (1 ∉ S → ∀ k : Nat, k < 12 → cv w' (15 + k) = cv w (15 + k) ∧ sl w' (14 + k) = sl w (14 + k))
/-- what is made later and is no node stays -/
def FrD (w w' : Wd) : Prop := szW w ≤ szW w' ∧ ∀ a : Nat, a < szW w → (∀ i x p : Option Nat, dyn w a ≠ nd i x p) → dyn w' a = dyn w a
section XFX
variable {ev : Ev} {w w' w'' : Wd} {S T U : List Nat} {r n k M C F : Nat} {ad qs : Nat → Nat} {p : Nat → Nat}
theorem FrX_refl : FrX S w w := ⟨fun _ _ _ _ => rfl, fun _ _ _ _ => rfl, fun _ _ _ _ => rfl, ⟨fun _ _ _ => rfl, fun _ _ _ => rfl⟩, ⟨fun _ _ _ => rfl, fun _ _ _ => rfl⟩, fun _ _ _ => ⟨rfl, rfl⟩⟩
theorem FrX_trans (h1 : FrX S w w') (h2 : FrX T w' w'') (hS : ∀ c ∈ S, c ∈ U) (hT : ∀ c ∈ T, c ∈ U) : FrX U w w'' := by
  obtain ⟨a1, b1, c1, d1, e1, f1⟩ := h1
  obtain ⟨a2, b2, c2, d2, e2, f2⟩ := h2
  have s : ∀ {c : Nat}, c ∉ U → c ∉ S := fun h z => h (hS _ z)
  have t : ∀ {c : Nat}, c ∉ U → c ∉ T := fun h z => h (hT _ z)
  exact ⟨fun q i h0 h => (a2 q i h0 (t h)).trans (a1 q i h0 (s h)), fun q i h0 h => (b2 q i h0 (t h)).trans (b1 q i h0 (s h)), fun q hq h i => (c2 q hq (t h) i).trans (c1 q hq (s h) i),
    ⟨fun h k hk => (d2.1 (t h) k hk).trans (d1.1 (s h) k hk), fun h k hk => (d2.2 (t h) k hk).trans (d1.2 (s h) k hk)⟩, ⟨fun h k hk => (e2.1 (t h) k hk).trans (e1.1 (s h) k hk), fun h k hk => (e2.2 (t h) k hk).trans (e1.2 (s h) k hk)⟩, fun h k hk => ⟨(f2 (t h) k hk).1.trans (f1 (s h) k hk).1, (f2 (t h) k hk).2.trans (f1 (s h) k hk).2⟩⟩
theorem FrX_mono (h1 : FrX S w w') (hS : ∀ c ∈ S, c ∈ U) : FrX U w w' := FrX_trans h1 (FrX_refl (S := [])) hS (fun _ z => absurd z (List.not_mem_nil))
theorem FrD_refl : FrD w w := ⟨Nat.le_refl _, fun _ _ _ => rfl⟩
theorem FrD_trans (h1 : FrD w w') (h2 : FrD w' w'') : FrD w w'' := ⟨Nat.le_trans h1.1 h2.1, fun a ha hn => (h2.2 a (Nat.lt_of_lt_of_le ha h1.1) (fun i x p z => hn i x p ((h1.2 a ha hn).symm.trans z))).trans (h1.2 a ha hn)⟩
theorem FrD_eq (h : w'.2.2.2 = w.2.2.2) : FrD w w' := ⟨by unfold szW; rw [h]; exact Nat.le_refl _, fun a _ _ => by unfold dyn; rw [h]⟩
theorem kI_s0 {q i : Nat} (z : sI q i) : kI q i = 0 := by
  have key : (2 ≤ q ∧ q < 26) ∨ (46 ≤ q ∧ q < 966) ∨ q = 979 → kI q i = 0 := by
    intro y
    unfold kI
    rw [if_neg (show ¬ q = 0 by omega), if_neg (show ¬ q = 966 by omega), if_neg (show ¬ q = 40 by omega), if_neg (show ¬ q = 977 by omega), if_neg (show ¬ q = 28 by omega), if_neg (show ¬ q = 969 by omega), if_neg (show ¬ q = 43 by omega), if_neg (show ¬ q = 970 by omega), if_neg (show ¬ q = 38 by omega), if_neg (show ¬ q = 971 by omega), if_neg (show ¬ q = 44 by omega), if_neg (show ¬ q = 972 by omega), if_neg (show ¬ q = 982 by omega), if_neg (show ¬ q = 978 by omega), if_neg (show ¬ (q = 27 ∨ q = 973) by omega), if_neg (show ¬ q = 34 by omega)]
  unfold sI at z
  rcases z with z | z | ⟨rfl, rfl⟩ | z | ⟨rfl, rfl | rfl | rfl⟩
  · exact key (Or.inl z)
  · exact key (Or.inr (Or.inl z))
  · rfl
  · exact key (Or.inr (Or.inr z))
  · rfl
  · rfl
  · rfl
theorem kI_f1 {q i : Nat} (z : fI q i) : kI q i = 0 ∨ kI q i = 1 := by
  unfold fI at z
  rcases z with z | ⟨rfl, rfl | rfl⟩ | rfl | ⟨rfl, rfl | rfl | rfl⟩ | rfl
  · exact Or.inl (kI_s0 z)
  · exact Or.inr rfl
  · exact Or.inr rfl
  · exact Or.inr rfl
  · exact Or.inr rfl
  · exact Or.inr rfl
  · exact Or.inr rfl
  · exact Or.inr rfl
theorem kI_fI {q i : Nat} (h0 : kI q i ≠ 0) (h : kI q i ≠ 1) : ¬ fI q i := fun z => (kI_f1 z).elim h0 h
theorem kI_sI {q i : Nat} (h0 : kI q i ≠ 0) : ¬ sI q i := fun z => h0 (kI_s0 z)
theorem FrX_Fr (h : Fr w w') : FrX [1, 11, 21] w w' := ⟨fun q i h0 hn => h.2.2.1 q i (kI_fI h0 (fun z => hn (by rw [z]; exact List.mem_cons_self))), fun q i h0 hn => h.2.2.2.1 q i (fun z => hn (by subst z; decide)), fun q hq _ => h.2.1 q hq, ⟨fun _ k hk => (h.1 k hk).1, fun _ k hk => (h.1 k hk).2⟩, ⟨fun z => absurd (by decide) z, fun z => absurd (by decide) z⟩, fun z => absurd (by decide) z⟩
theorem FrD_Fr (h : Fr w w') : FrD w w' := FrD_eq h.2.2.2.2
theorem FrX_Sq (h : Sq w w') : FrX [] w w' := ⟨fun q i h0 _ => h.2.1 q i (kI_sI h0), fun q i _ _ => by rw [h.2.2], fun q hq _ i => h.1 q i (by unfold sJ; omega), ⟨fun _ k hk => Sq_cv h (by omega), fun _ k hk => Sq_sl h (by omega)⟩, ⟨fun _ k hk => Sq_cv h (by omega), fun _ k hk => Sq_sl h (by omega)⟩, fun _ k hk => ⟨Sq_cv h (by omega), Sq_sl h (by omega)⟩⟩
theorem FrD_Sq (h : Sq w w') : FrD w w' := FrD_eq (by rw [h.2.2])
theorem cv_row (h : w'.1 = w.1) {c : Nat} : cv w' c = cv w c := by unfold cv; rw [h]
theorem sl_row (h : w'.1 = w.1) {K : Nat} : sl w' K = sl w K := by unfold sl; rw [h]
theorem FrX_row (hJ : w'.1 = w.1) (hI : ∀ q i : Nat, kI q i ≠ 0 → kI q i ∉ S → w'.2.1 q i = w.2.1 q i) (hA : ∀ q i : Nat, kA q ≠ 0 → kA q ∉ S → w'.2.2.1 q i = w.2.2.1 q i) : FrX S w w' :=
  ⟨hI, hA, fun _ _ _ _ => by rw [hJ], ⟨fun _ _ _ => cv_row hJ, fun _ _ _ => sl_row hJ⟩, ⟨fun _ _ _ => cv_row hJ, fun _ _ _ => sl_row hJ⟩, fun _ _ _ => ⟨cv_row hJ, sl_row hJ⟩⟩
theorem FrX_wI {i : Nat} {x : Int32} (h : kI r i = 0 ∨ kI r i ∈ S) : FrX S w (wI w r i x) := FrX_row rfl (fun q j h0 hn => wI_ne (fun z => by obtain ⟨rfl, rfl⟩ := z; exact h.elim h0 hn)) (fun _ _ _ _ => rfl)
theorem FrX_L28 {n' : Nat} {ad' : Nat → Nat} (h : FrL 28 w n ad w' n' ad') : FrX [4] w w' := FrX_row h.1 (fun q i _ hn => by rw [(h.2.1 q (fun z => hn (by subst z; exact List.mem_cons_self))).1]) (fun q i _ hn => by rw [(h.2.1 q (fun z => hn (by subst z; decide))).2])
theorem FrX_L43 {n' : Nat} {ad' : Nat → Nat} (h : FrL 43 w n ad w' n' ad') : FrX [5] w w' := FrX_row h.1 (fun q i _ hn => by rw [(h.2.1 q (fun z => hn (by subst z; exact List.mem_cons_self))).1]) (fun q i _ hn => by rw [(h.2.1 q (fun z => hn (by subst z; decide))).2])
theorem FrD_L {n' : Nat} {ad' : Nat → Nat} (hL : LL ev w r n ad qs) (h : FrL r w n ad w' n' ad') : FrD w w' := ⟨h.2.2.2.1, fun a ha hn => h.2.2.1 a ha (fun i hi z => hn _ _ _ (z ▸ hL.2.2.2.2.1 i hi))⟩
theorem FrX_Q38 (h : FrQ 38 w w') : FrX [6] w w' := FrX_row h.1 (fun q i _ hn => by rw [h.2.1 q (fun z => hn (by subst z; exact List.mem_cons_self))]) (fun q i _ hn => by rw [h.2.2.1 q (fun z => hn (by subst z; decide))])
theorem FrX_Q44 (h : FrQ 44 w w') : FrX [7] w w' := FrX_row h.1 (fun q i _ hn => by rw [h.2.1 q (fun z => hn (by subst z; exact List.mem_cons_self))]) (fun q i _ hn => by rw [h.2.2.1 q (fun z => hn (by subst z; decide))])
theorem FrX_Ri {P : Nat → Nat → Prop} (h : Ri P w w') (hP : ∀ q i : Nat, P q i → kI q i = 0 ∨ kI q i ∈ S) : FrX S w w' := FrX_row h.1 (fun q i h0 hn => h.2.2 q i (fun z => (hP q i z).elim h0 hn)) (fun _ _ _ _ => by rw [h.2.1])
theorem FrD_Ri {P : Nat → Nat → Prop} (h : Ri P w w') : FrD w w' := FrD_eq (by rw [h.2.1])
/-! the parts -/
theorem RCK_x (h : RCK ev w M C F p) (f : FrX S w w') (hS : 1 ∉ S) (hS1 : 11 ∉ S) (hS2 : 21 ∉ S) : RCK ev w' M C F p := by
  obtain ⟨⟨h6, h0, h2, hc⟩, h12, hF, hC0, hC9, hF10, hp, hinj, hrel⟩ := h
  obtain ⟨fi, fa, -, -, ⟨fc, fs⟩, fw⟩ := f
  have i : ∀ q j : Nat, kI q j = 1 → w'.2.1 q j = w.2.1 q j := fun q j e => fi q j (by omega) (by rw [e]; exact hS)
  refine ⟨⟨h6, (i 0 1 rfl).trans h0, (i 966 2 rfl).trans h2, fun k hk => ?_⟩, h12, hF, (i 0 8 rfl).trans hC0, (i 966 9 rfl).trans hC9, (i 966 10 rfl).trans hF10, fun k hk => ?_, hinj, fun k hk => ?_⟩
  · rw [fc hS1 k (by omega), fs hS2 k (by omega)]
    exact hc k hk
  · rw [fa 26 k (by decide) hS]
    exact hp k hk
  · have hpk := (hp k (by omega)).2
    have hm : (F + k) % 12 < 12 := Nat.mod_lt _ (by decide)
    rw [(fw hS _ hpk).1, (fw hS _ hm).2, i 27 k rfl, i 973 _ rfl]
    exact hrel k hk
theorem RT_x (h : RT w k) (f : FrX S w w') (hS : 2 ∉ S) (hT : 12 ∉ S) : RT w' k := by
  have i : ∀ q j : Nat, kI q j = 2 ∨ kI q j = 12 → w'.2.1 q j = w.2.1 q j := fun q j e => f.1 q j (by omega) (by rcases e with e | e <;> rw [e] <;> assumption)
  obtain ⟨h1, h2, h3, h4⟩ := h
  refine ⟨h1, (i 0 18 (Or.inl rfl)).trans h2, (i 966 25 (Or.inr rfl)).trans h3, fun j hj => ?_⟩
  rw [i 40 j (Or.inl rfl), i 977 j (Or.inr rfl)]
  exact h4 j hj
/-- the image's cells -/
def RIm (w : Wd) (K : Option Nat) : Prop := match K with
  | none => w.2.1 0 24 = -1 ∧ w.2.1 966 11 = 0
  | some k => k ≤ 6 ∧ w.2.1 0 24 = nI k ∧ w.2.1 966 11 = 1 ∧ w.2.1 966 3 = nI k ∧ ∀ j : Nat, j < k → cv w (4 + 2 * j) = sl w (8 + j) ∧ OkV (sl w (8 + j))
theorem RIm_x {K : Option Nat} (h : RIm w K) (f : FrX S w w') (hS : 3 ∉ S) (hT : 13 ∉ S) : RIm w' K := by
  have i : ∀ q j : Nat, kI q j = 3 ∨ kI q j = 13 → w'.2.1 q j = w.2.1 q j := fun q j e => f.1 q j (by omega) (by rcases e with e | e <;> rw [e] <;> assumption)
  cases K with
  | none => exact ⟨(i 0 24 (Or.inl rfl)).trans h.1, (i 966 11 (Or.inr rfl)).trans h.2⟩
  | some k =>
    obtain ⟨h1, h2, h3, h4, h5⟩ := h
    refine ⟨h1, (i 0 24 (Or.inl rfl)).trans h2, (i 966 11 (Or.inr rfl)).trans h3, (i 966 3 (Or.inr rfl)).trans h4, fun j hj => ?_⟩
    rw [f.2.2.2.1.1 hS j (by omega), f.2.2.2.1.2 hT j (by omega)]
    exact h5 j hj
/-- a log of both -/
def LM (w : Wd) (fm rm n : Nat) (qs : Nat → Nat) : Prop := n ≤ 30 ∧ w.2.1 966 fm = nI n ∧ ∀ i : Nat, i < n → w.2.1 rm i = nI (qs i) ∧ qs i < 60
def LG (ev : Ev) (w : Wd) (r fm rm n : Nat) (ad qs : Nat → Nat) : Prop := LL ev w r n ad qs ∧ LM w fm rm n qs
theorem LM4_x (h : LM w 4 969 n qs) (f : FrX S w w') (hS : 14 ∉ S) : LM w' 4 969 n qs := ⟨h.1, (f.1 966 4 (by decide) hS).trans h.2.1, fun i hi => by rw [f.1 969 i (by show (14 : Nat) ≠ 0; decide) hS]; exact h.2.2 i hi⟩
theorem LM5_x (h : LM w 5 970 n qs) (f : FrX S w w') (hS : 15 ∉ S) : LM w' 5 970 n qs := ⟨h.1, (f.1 966 5 (by decide) hS).trans h.2.1, fun i hi => by rw [f.1 970 i (by show (15 : Nat) ≠ 0; decide) hS]; exact h.2.2 i hi⟩
theorem LL28_x (h : LL ev w 28 n ad qs) (f : FrX S w w') (hS : 4 ∉ S) (hs : szW w ≤ szW w') (hd : ∀ j : Nat, j < n → dyn w' (ad j) = dyn w (ad j)) : LL ev w' 28 n ad qs := LL_sz h (funext fun i => f.1 28 i (by show (4 : Nat) ≠ 0; decide) hS) (funext fun i => f.2.1 28 i (by decide) hS) hd hs
theorem LL43_x (h : LL ev w 43 n ad qs) (f : FrX S w w') (hS : 5 ∉ S) (hs : szW w ≤ szW w') (hd : ∀ j : Nat, j < n → dyn w' (ad j) = dyn w (ad j)) : LL ev w' 43 n ad qs := LL_sz h (funext fun i => f.1 43 i (by show (5 : Nat) ≠ 0; decide) hS) (funext fun i => f.2.1 43 i (by decide) hS) hd hs
def RLg (ev : Ev) (w : Wd) : Prop := ∃ (n : Nat) (ad qs : Nat → Nat) (n' : Nat) (ad' qs' : Nat → Nat), LG ev w 28 4 969 n ad qs ∧ LG ev w 43 5 970 n' ad' qs' ∧ ∀ i j : Nat, i < n → j < n' → ad i ≠ ad' j
/-- no node changes -/
def FrN (w w' : Wd) : Prop := ∀ (a : Nat) (i x p : Option Nat), a < szW w → dyn w a = nd i x p → dyn w' a = dyn w a
theorem FrN_trans (h1 : FrN w w') (h2 : FrN w' w'') (hs : szW w ≤ szW w') : FrN w w'' := fun a i x p ha hd => (h2 a i x p (by omega) ((h1 a i x p ha hd).trans hd)).trans (h1 a i x p ha hd)
theorem FrN_eq (h : w'.2.2.2 = w.2.2.2) : FrN w w' := fun a _ _ _ _ _ => by unfold dyn; rw [h]
theorem RLg_x (h : RLg ev w) (f : FrX S w w') (hS : 4 ∉ S) (hT : 5 ∉ S) (hS' : 14 ∉ S) (hT' : 15 ∉ S) (hs : szW w ≤ szW w') (hn : FrN w w') : RLg ev w' := by
  obtain ⟨n, ad, qs, n', ad', qs', ⟨h1, h2⟩, ⟨h3, h4⟩, h5⟩ := h
  exact ⟨n, ad, qs, n', ad', qs', ⟨LL28_x h1 f hS hs (fun j hj => hn _ _ _ _ (h1.2.2.2.2.2.1 j hj).2 (h1.2.2.2.2.1 j hj)), LM4_x h2 f hS'⟩, ⟨LL43_x h3 f hT hs (fun j hj => hn _ _ _ _ (h3.2.2.2.2.2.1 j hj).2 (h3.2.2.2.2.1 j hj)), LM5_x h4 f hT'⟩, h5⟩
/-- a line of both -/
def QM (w : Wd) (fm rm n : Nat) (qs : Nat → Nat) (B : Nat) : Prop := w.2.1 966 fm = nI n ∧ (∀ i : Nat, i < n → w.2.1 rm i = nI (qs i) ∧ qs i < B) ∧ ∀ i j : Nat, i < n → j < n → qs i = qs j → i = j
def QG (ev : Ev) (w : Wd) (r fm rm h n : Nat) (qs : Nat → Nat) (B : Nat) : Prop := DQ ev w r h n qs ∧ QM w fm rm n qs B
def RQa (ev : Ev) (w : Wd) (B : Nat) : Prop := ∃ (h n : Nat) (qs : Nat → Nat), QG ev w 38 6 971 h n qs B
def RQb (ev : Ev) (w : Wd) (B : Nat) : Prop := ∃ (h n : Nat) (qs : Nat → Nat), QG ev w 44 7 972 h n qs B
theorem QM_le {fm rm B B' : Nat} (h : QM w fm rm n qs B) (hB : B ≤ B') : QM w fm rm n qs B' := ⟨h.1, fun i hi => ⟨(h.2.1 i hi).1, Nat.lt_of_lt_of_le (h.2.1 i hi).2 hB⟩, h.2.2⟩
theorem RQa_le {B B' : Nat} (h : RQa ev w B) (hB : B ≤ B') : RQa ev w B' := let ⟨a, b, c, d⟩ := h; ⟨a, b, c, d.1, QM_le d.2 hB⟩
theorem QM6_x {B : Nat} (h : QM w 6 971 n qs B) (f : FrX S w w') (hS : 16 ∉ S) : QM w' 6 971 n qs B := ⟨(f.1 966 6 (by decide) hS).trans h.1, fun i hi => by rw [f.1 971 i (by show (16 : Nat) ≠ 0; decide) hS]; exact h.2.1 i hi, h.2.2⟩
theorem QM7_x {B : Nat} (h : QM w 7 972 n qs B) (f : FrX S w w') (hS : 17 ∉ S) : QM w' 7 972 n qs B := ⟨(f.1 966 7 (by decide) hS).trans h.1, fun i hi => by rw [f.1 972 i (by show (17 : Nat) ≠ 0; decide) hS]; exact h.2.1 i hi, h.2.2⟩
theorem DQ38_x {h : Nat} (hQ : DQ ev w 38 h n qs) (f : FrX S w w') (hS : 6 ∉ S) : DQ ev w' 38 h n qs := DQ_row hQ (funext fun i => f.1 38 i (by show (6 : Nat) ≠ 0; decide) hS) (funext fun i => f.2.1 39 i (by decide) hS)
theorem DQ44_x {h : Nat} (hQ : DQ ev w 44 h n qs) (f : FrX S w w') (hS : 7 ∉ S) : DQ ev w' 44 h n qs := DQ_row hQ (funext fun i => f.1 44 i (by show (7 : Nat) ≠ 0; decide) hS) (funext fun i => f.2.1 45 i (by decide) hS)
theorem RQa_x {B : Nat} (h : RQa ev w B) (f : FrX S w w') (hS : 6 ∉ S) (hT : 16 ∉ S) : RQa ev w' B := let ⟨a, b, c, d⟩ := h; ⟨a, b, c, DQ38_x d.1 f hS, QM6_x d.2 f hT⟩
theorem RQb_x {B : Nat} (h : RQb ev w B) (f : FrX S w w') (hS : 7 ∉ S) (hT : 17 ∉ S) : RQb ev w' B := let ⟨a, b, c, d⟩ := h; ⟨a, b, c, DQ44_x d.1 f hS, QM7_x d.2 f hT⟩
/-- the rows of both -/
def Rw1 (ev : Ev) (w : Wd) (l : Nat) : Prop := (w.2.2.1 41 l = none ∧ w.2.1 982 l = -1) ∨ ∃ (a n : Nat) (f : Nat → Int64), w.2.2.1 41 l = some a ∧ dyn w a = some (.inl (1, n, .inr (.inl f))) ∧ n ≤ 16 ∧ w.2.1 982 l = nI n ∧ (∀ i : Nat, i < n → f i = w.1 983 (16 * l + i)) ∧ ev.1 + 984 ≤ a ∧ a < szW w
def RRw (ev : Ev) (w : Wd) : Prop := (∀ l : Nat, l < 4 → Rw1 ev w l) ∧ ∀ l l' a : Nat, l < 4 → l' < 4 → w.2.2.1 41 l = some a → w.2.2.1 41 l' = some a → l = l'
theorem RRw_x (h : RRw ev w) (f : FrX S w w') (hS : 8 ∉ S) (hT : 18 ∉ S) (hD : FrD w w') : RRw ev w' := by
  have eA : ∀ l : Nat, w'.2.2.1 41 l = w.2.2.1 41 l := fun l => f.2.1 41 l (by decide) hS
  have eI : ∀ l : Nat, w'.2.1 982 l = w.2.1 982 l := fun l => f.1 982 l (by show (18 : Nat) ≠ 0; decide) hT
  refine ⟨fun l hl => ?_, fun l l' a hl hl' => by rw [eA, eA]; exact h.2 l l' a hl hl'⟩
  rcases h.1 l hl with ⟨h1, h2⟩ | ⟨a, n, g, h1, h2, h3, h4, h5, h6, h7⟩
  · exact Or.inl ⟨(eA l).trans h1, (eI l).trans h2⟩
  · exact Or.inr ⟨a, n, g, (eA l).trans h1, (hD.2 a h7 (fun i x p z => by rw [h2] at z; unfold nd at z; cases z)).trans h2, h3, (eI l).trans h4, fun i hi => (h5 i hi).trans (f.2.2.1 983 (Or.inl rfl) hT _).symm, h6, Nat.lt_of_lt_of_le h7 hD.1⟩
/-- the paper of both -/
def inW (ev : Ev) (w : Wd) (a : Nat) : Prop := a < ev.1 ∨ (ev.1 + 984 ≤ a ∧ a < szW w)
/-- the set of bits -/
def BS (w : Wd) : Prop := w.2.1 34 1 = nI 1 ∨ (w.2.1 34 1 = nI 0 ∧ w.1 35 0 = 0)
theorem BS_x (h : BS w) (f : FrX S w w') (hB : 22 ∉ S) : BS w' := by
  unfold BS
  rw [f.1 34 1 (by decide) hB, f.2.2.1 35 (Or.inr rfl) hB 0]
  exact h
def RPq (ev : Ev) (w : Wd) : Prop := ∃ (a b L : Nat) (f : Nat → Int32) (tl : List Value), w.2.2.1 0 19 = some a ∧ (mem ev w).1 a = some (.inr (14, .ref b :: .int 0 :: tl)) ∧ (mem ev w).1 b = some (.inl (3, L, .inl f)) ∧ inW ev w a ∧ inW ev w b ∧ L ≤ 80 ∧ w.2.1 966 26 = nI L ∧ ∀ i : Nat, i < L → f i = w.2.1 978 i ∧ 0 ≤ (f i).toInt ∧ (f i).toInt ≤ 127
theorem mem_D {a : Nat} (hD : FrD w w') (ha : inW ev w a) (hn : ∀ i x p : Option Nat, (mem ev w).1 a ≠ nd i x p) : (mem ev w').1 a = (mem ev w).1 a := by
  rcases ha with h | ⟨h1, h2⟩
  · rw [mem_old h, mem_old h]
  · rw [mem_dyn h1, mem_dyn h1]
    rw [mem_dyn h1] at hn
    exact hD.2 a h2 hn
def RPp (ev : Ev) (w : Wd) : Prop := RPq ev w ∧ BS w
theorem RPp_x (h : RPp ev w) (f : FrX S w w') (hS : 9 ∉ S) (hT : 19 ∉ S) (hD : FrD w w') (hB : 22 ∉ S := by decide) : RPp ev w' := by
  refine ⟨?_, BS_x h.2 f hB⟩
  replace h := h.1
  obtain ⟨a, b, L, g, tl, h1, h2, h3, h4, h5, h6, h7, h8⟩ := h
  have up : ∀ {a : Nat}, inW ev w a → inW ev w' a := fun z => z.elim Or.inl (fun y => Or.inr ⟨y.1, Nat.lt_of_lt_of_le y.2 hD.1⟩)
  refine ⟨a, b, L, g, tl, (f.2.1 0 19 (by decide) hS).trans h1, (mem_D hD h4 (fun i x p z => ?_)).trans h2, (mem_D hD h5 (fun i x p z => ?_)).trans h3, up h4, up h5, h6, (f.1 966 26 (by decide) hT).trans h7, fun i hi => ?_⟩
  · rw [h2] at z
    unfold nd at z
    injection z with z
    injection z with z
    injection z with z1 z2
    exact absurd z1 (by decide)
  · rw [h3] at z
    unfold nd at z
    cases z
  · rw [f.1 978 i (by show (19 : Nat) ≠ 0; decide) hT]
    exact h8 i hi
/-- all of it -/
def Rel (ev : Ev) (w : Wd) (M : Nat) (K : Option Nat) (T : Nat) : Prop := (∃ (C F : Nat) (p : Nat → Nat), RCK ev w M C F p) ∧ RT w T ∧ RIm w K ∧ RLg ev w ∧ RQa ev w M ∧ RQb ev w (K.getD 0) ∧ RRw ev w ∧ RPp ev w ∧ w.2.1 0 5 = w.2.1 966 8 ∧ ev.1 + 984 ≤ szW w
theorem St_x (h : w.2.1 0 5 = w.2.1 966 8) (f : FrX S w w') (hS : 10 ∉ S) (hT : 20 ∉ S) : w'.2.1 0 5 = w'.2.1 966 8 := (f.1 0 5 (by decide) hS).trans (h.trans (f.1 966 8 (by decide) hT).symm)
theorem Rel_Po {K : Option Nat} {T M' : Nat} (h : Rel ev w M K T) (hP : Po ev w w' M') (hM : M ≤ M') : Rel ev w' M' K T := by
  obtain ⟨-, h2, h3, h4, h5, h6, h7, h8, h9, h10⟩ := h
  have f := FrX_Fr hP.2.1
  have d := FrD_Fr hP.2.1
  exact ⟨hP.1, RT_x h2 f (by decide) (by decide), RIm_x h3 f (by decide) (by decide), RLg_x h4 f (by decide) (by decide) (by decide) (by decide) d.1 (FrN_eq hP.2.1.2.2.2.2), RQa_le (RQa_x h5 f (by decide) (by decide)) hM, RQb_x h6 f (by decide) (by decide), RRw_x h7 f (by decide) (by decide) d, RPp_x h8 f (by decide) (by decide) d, St_x h9 f (by decide) (by decide), Nat.le_trans h10 d.1⟩
end XFX
