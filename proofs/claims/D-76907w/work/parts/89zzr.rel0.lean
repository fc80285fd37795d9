/-! AT THE BEGINNING: the relation holds -/
section XR0
variable {ev : Ev} {s fu B s0 : Nat}
theorem Rel_0 (hE : EvOk ev) : Rel ev (w0 ev s) 0 none 0 := by
  obtain ⟨-, -, -, -, -, -, -, -, c100, c100v, -, -, hlt⟩ := hE
  have zi : ∀ q i : Nat, q ≠ 0 → q ≠ 982 → (w0 ev s).2.1 q i = 0 := fun q i h0 h8 => by
    show (if (q = 0 ∧ i = 24) ∨ q = 982 then (-1 : Int32) else 0) = 0
    rw [if_neg (fun z => z.elim (fun y => h0 y.1) h8)]
  have zi0 : ∀ i : Nat, i ≠ 24 → (w0 ev s).2.1 0 i = 0 := fun i h => by
    show (if (0 = 0 ∧ i = 24) ∨ 0 = 982 then (-1 : Int32) else 0) = 0
    rw [if_neg (fun z => z.elim (fun y => h y.2) (by decide))]
  have za : ∀ q i : Nat, q ≠ 0 → q ≠ 26 → (w0 ev s).2.2.1 q i = none := fun q i h0 h6 => by
    show (if q = 0 ∧ i = 19 then some (xst ev 100) else if q = 26 ∧ i < 12 then some (ev.1 + cr (15 + i)) else none) = none
    rw [if_neg (fun z => h0 z.1), if_neg (fun z => h6 z.1)]
  have a26 : ∀ i : Nat, i < 12 → (w0 ev s).2.2.1 26 i = some (ev.1 + cr (15 + i)) := fun i hi => by
    show (if 26 = 0 ∧ i = 19 then some (xst ev 100) else if 26 = 26 ∧ i < 12 then some (ev.1 + cr (15 + i)) else none) = _
    rw [if_neg (by omega), if_pos ⟨rfl, hi⟩]
  have n0 : (0 : Int32) = nI 0 := rfl
  have ll : ∀ r : Nat, r = 28 ∨ r = 43 → LL ev (w0 ev s) r 0 (fun _ => 0) (fun _ => 0) := fun r hr => ⟨by decide, zi r 1 (by omega) (by omega), za r 2 (by omega) (by omega), za r 3 (by omega) (by omega), fun i hi => absurd hi (by omega), fun i hi => absurd hi (by omega), fun i j hi => absurd hi (by omega)⟩
  have dq : ∀ r : Nat, r = 38 ∨ r = 44 → DQ ev (w0 ev s) r 0 0 (fun _ => 0) := fun r hr => ⟨by decide, by decide, zi r 1 (by omega) (by omega), zi r 2 (by omega) (by omega), fun i hi => absurd hi (by omega), fun j _ => Or.inl (za (r + 1) j (by omega) (by omega))⟩
  refine ⟨⟨0, 0, fun i => i, ⟨by decide, zi0 1 (by decide), zi 966 2 (by decide) (by decide), fun k hk => absurd hk (by omega)⟩, ⟨by decide, by decide, zi0 8 (by decide), zi 966 9 (by decide) (by decide), zi 966 10 (by decide) (by decide), fun k hk => ⟨a26 k hk, hk⟩, fun _ _ _ _ h => h, fun i hi => absurd hi (by omega)⟩⟩, ?_, ?_, ?_, ?_, ?_, ?_, ⟨?_, Or.inr ⟨zi 34 1 (by decide) (by decide), rfl⟩⟩, (zi0 5 (by decide)).trans (zi 966 8 (by decide) (by decide)).symm, Nat.le_refl _⟩
  · exact ⟨by decide, zi0 18 (by decide), zi 966 25 (by decide) (by decide), fun i hi => absurd hi (by omega)⟩
  · exact ⟨rfl, zi 966 11 (by decide) (by decide)⟩
  · exact ⟨0, fun _ => 0, fun _ => 0, 0, fun _ => 0, fun _ => 0, ⟨ll 28 (Or.inl rfl), ⟨by decide, zi 966 4 (by decide) (by decide), fun i hi => absurd hi (by omega)⟩⟩, ⟨ll 43 (Or.inr rfl), ⟨by decide, zi 966 5 (by decide) (by decide), fun i hi => absurd hi (by omega)⟩⟩, fun i j hi => absurd hi (by omega)⟩
  · exact ⟨0, 0, fun _ => 0, dq 38 (Or.inl rfl), ⟨zi 966 6 (by decide) (by decide), fun i hi => absurd hi (by omega), fun i j hi => absurd hi (by omega)⟩⟩
  · exact ⟨0, 0, fun _ => 0, dq 44 (Or.inr rfl), ⟨zi 966 7 (by decide) (by decide), fun i hi => absurd hi (by omega), fun i j hi => absurd hi (by omega)⟩⟩
  · refine ⟨fun l hl => ?_, fun l l' a _ _ h _ => absurd ((za 41 l (by decide) (by decide)).symm.trans h) (by simp)⟩
    have e8 : (w0 ev s).2.1 982 l = -1 := by
      show (if (982 = 0 ∧ l = 24) ∨ 982 = 982 then (-1 : Int32) else 0) = -1
      rw [if_pos (Or.inr rfl)]
    exact Or.inl ⟨za 41 l (by decide) (by decide), e8⟩
  · refine ⟨xst ev 100, xvl ev (xst ev 100), 0, fun _ => 0, [], rfl, ?_, ?_, Or.inl (hlt _ _ c100), Or.inl (hlt _ _ c100v), by decide, zi 966 26 (by decide) (by decide), fun i hi => absurd hi (by omega)⟩
    · rw [mem_old (hlt _ _ c100)]; exact c100
    · rw [mem_old (hlt _ _ c100v)]; exact c100v
theorem JJ_begin (hE : EvOk ev) : JJ ev B s 0 (mem ev (w0 ev s)) := by
  refine ⟨w0 ev s, 0, 0, none, rfl, Rel_0 hE, 0, 0, 0, 0, 0, by decide, Nat.le_refl 0, by decide, by decide, by decide, fun k hk => absurd hk (by simp), fun h => absurd h (by decide), ?_, ?_⟩
  · show ev.1 + 984 + 300 * 0 ≤ ev.1 + 984 + 0 * B + 300 * 0
    omega
  · show s ≤ s + 0 * (3 * B + 300)
    omega
/-- both constructors -/
theorem con_all (hE : EvOk ev) (hf : 100 ≤ fu) (h1 : ev.1 + 1000 ≤ ev.2.1) (h2 : s + 8000 ≤ ev.2.2.1) : ∃ s1 s2 s3 : Mm, nwO ev (fun a => if a < ev.1 then ev.2.2.2.2 a else none, ev.1, s) 0 25 l0A = some (ev.1, s1) ∧ f_X0_init fu ev s1 ev.1 = some ((), s2) ∧ nwO ev s2 2 32 l9A = some (ev.1 + 966, s3) ∧ f_X2_init fu ev s3 (ev.1 + 966) = some ((), mem ev (w0 ev (s + 25 + 3675 + 32 + 1446))) := by
  obtain ⟨T, hT⟩ : ∃ T, T = TT ev l0A (fun _ => none) (fun _ => none) (fun _ => none) (fun _ => none) l9A (e8F 0) := ⟨_, rfl⟩
  have e0 : ((fun a => if a < ev.1 then ev.2.2.2.2 a else none, ev.1, s) : Mm) = rm ev (Rn T 0) 0 s := by
    refine Prod.ext (funext fun a => ?_) rfl
    show (if a < ev.1 then ev.2.2.2.2 a else none) = if a < ev.1 then ev.2.2.2.2 a else Rn T 0 (a - ev.1)
    have : Rn T 0 (a - ev.1) = none := if_neg (by omega)
    rw [this]
  have a1 : nwO ev (rm ev (Rn T 0) 0 s) 0 25 l0A = some (ev.1, rm ev (Rn T 1) 1 (s + 25)) := by
    rw [rm_nwO (by omega) (by omega), Rn_al (n := 0) (by rw [hT]; rfl)]
    rfl
  have a2 := X0_con (ev := ev) (fu := fu) (s := s + 25) (l9 := l9A) (e8 := e8F 0) hE hf h1 (by omega)
  rw [← hT] at a2
  have a3 : nwO ev (rm ev (Rn (TT ev (l0F ev) (fE ev 3 2 6) (fE ev 15 1 12) (fE ev 27 1 91) (fE ev 4 2 6) l9A (e8F 0)) 966) 966 (s + 25 + 3675)) 2 32 l9A = some (ev.1 + 966, rm ev (Rn (TT ev (l0F ev) (fE ev 3 2 6) (fE ev 15 1 12) (fE ev 27 1 91) (fE ev 4 2 6) l9A (e8F 0)) 967) 967 (s + 25 + 3675 + 32)) := by
    rw [rm_nwO (by omega) (by omega), Rn_al (n := 966) (t := TT ev (l0F ev) (fE ev 3 2 6) (fE ev 15 1 12) (fE ev 27 1 91) (fE ev 4 2 6) l9A (e8F 0)) (X := some (.inr (2, l9A))) rfl]
  have a4 := X2_con (ev := ev) (fu := fu) (s := s + 25 + 3675 + 32) (l0 := l0F ev) (e1 := fE ev 3 2 6) (e26 := fE ev 15 1 12) (e36 := fE ev 27 1 91) (e42 := fE ev 4 2 6) (by omega) h1 (by omega)
  rw [con_mem] at a4
  rw [e0]
  exact ⟨_, _, _, a1, a2, a3, a4⟩
end XR0
