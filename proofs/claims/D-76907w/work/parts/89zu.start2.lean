/-! THE START, TELLING Ev2 TOO -/
theorem st_ref2 {args : Array Value} {s : State} {C n d : String} {A : Nat → Prop} (hl : (Cond.laysStatic C n d).before args s = true) (hini : (Cond.initialized C).before args s = true) (h : (Cond.isRef (.static C n d)).before args s = true) (hA : ∀ a : Nat, a < s.heap.size → ¬ A a) : ∃ o : Option Nat, va_Z C n d (va_rf o) A s s.heap := by
  rcases va_Zqof hl hini h hA with h | ⟨t, h⟩
  · exact ⟨none, h⟩
  · exact ⟨some t, h⟩
set_option maxHeartbeats 4000000 in
theorem start_all2 {p : Program} {s : State} {m : MethodId} {meth : Method} {c : Code} {b L : Nat} {xs : Nat → Int32} (hL : L ≤ 448) (C0 : lw_At p s m meth c b L xs) : ∃ (D : Dx) (ev : Ev), (ev.1 = s.heap.size ∧ ev.2.1 = s.heap.size + 603072 ∧ ev.2.2.1 = xtot s.heap + 7194730) ∧ (EvOk ev ∧ Ev2 ev) ∧ b < ev.1 ∧ ev.2.2.2.2 b = some (.inl (0, L, .inl fun j => if j < L then xs j else 0)) ∧ Kx D s.heap ev s := by
  obtain ⟨hx, hb, hr, hml, hown, hts, hX, hbl, hlocks, hgv⟩ := C0
  have hs := flat_of_before _ hgv
  have hta : ∀ w ∈ lw_all, w.before #[Value.ref b] s = true := fun w h => hts w (lw_all_tbl h)
  obtain ⟨d, hd⟩ := start_K hts
  obtain ⟨A, hAdef⟩ : ∃ A : Nat → Prop, A = fun a => s.heap.size ≤ a := ⟨_, rfl⟩
  have hA : ∀ a : Nat, a < s.heap.size → ¬ A a := fun a h q => by rw [hAdef] at q; exact absurd h (Nat.not_lt.mpr q)
  obtain ⟨a0, K0, p0, f0, g0, h0⟩ := Cond.arrayClass_spec (hta _ q233)
  obtain ⟨a1, K1, p1, f1, g1, h1⟩ := Cond.arrayClass_spec (hta _ q194)
  obtain ⟨a2, K2, p2, f2, g2, h2⟩ := Cond.arrayClass_spec (hta _ q195)
  obtain ⟨a3, K3, p3, f3, g3, h3⟩ := Cond.arrayClass_spec (hta _ q359)
  obtain ⟨p4, a4, K4, e4, -, g4, h4, f4⟩ := Cond.arrayOver_spec (hts _ q265)
  obtain ⟨p5, a5, K5, e5, -, g5, h5, f5⟩ := Cond.arrayOver_spec (hts _ q170)
  obtain ⟨a6, K6, p6, f6, g6, h6⟩ := over_arr (hts _ q177)
  have lenI : (Term.length (.static "java/lang/Integer$IntegerCache" "cache" "[Ljava/lang/Integer;")).eval #[Value.ref b] s none [] s = some (.int (Int32.ofNat 256)) := va_eqt (hs (.eq (.length (.static "java/lang/Integer$IntegerCache" "cache" "[Ljava/lang/Integer;")) (.int 256)) (by decide +kernel))
  obtain ⟨ad, hC, hadE⟩ := vb_Cof (A := A) (st := (.static "java/lang/Integer$IntegerCache" "cache" "[Ljava/lang/Integer;")) rfl lenI (hs _ (by decide +kernel)) hA
  obtain ⟨ic, hic, hTI⟩ := va_Tof (ty := .object "java/lang/Integer") (N := 256) (f := fun j => .ref (ad j)) (A := A) (by decide) (hs (.arrayOf (.static "java/lang/Integer$IntegerCache" "cache" "[Ljava/lang/Integer;") (.object "java/lang/Integer")) (by decide +kernel)) lenI hadE hA
  have lenL : (Term.length (.static "java/lang/Long$LongCache" "cache" "[Ljava/lang/Long;")).eval #[Value.ref b] s none [] s = some (.int (Int32.ofNat 256)) := va_eqt (hs (.eq (.length (.static "java/lang/Long$LongCache" "cache" "[Ljava/lang/Long;")) (.int 256)) (by decide +kernel))
  obtain ⟨al, hal⟩ := xl_Cof (A := A) (st := (.static "java/lang/Long$LongCache" "cache" "[Ljava/lang/Long;")) rfl lenL (hs _ (by decide +kernel)) hA
  obtain ⟨lc, hlc, hTL⟩ := va_Tof (ty := .object "java/lang/Long") (N := 256) (f := fun j => .ref (al j)) (A := A) (by decide) (hs (.arrayOf (.static "java/lang/Long$LongCache" "cache" "[Ljava/lang/Long;") (.object "java/lang/Long")) (by decide +kernel)) lenL (fun j hj => (hal j hj).1) hA
  obtain ⟨d1, hd1, hT1⟩ := va_Tof (ty := .byte) (tm := (.static "java/lang/Integer" "DigitOnes" "[B")) (N := 100) (f := fun j => .int (nI (48 + j % 10))) (A := A) (by decide) (hs (.arrayOf (.static "java/lang/Integer" "DigitOnes" "[B") .byte) (by decide +kernel)) (va_eqt (hs (.eq (.length (.static "java/lang/Integer" "DigitOnes" "[B")) (.int 100)) (by decide +kernel))) (fun j hj => va_eqt (hs _ (dOnes j hj))) hA
  obtain ⟨d2, hd2, hT2⟩ := va_Tof (ty := .byte) (tm := (.static "java/lang/Integer" "DigitTens" "[B")) (N := 100) (f := fun j => .int (nI (48 + j / 10))) (A := A) (by decide) (hs (.arrayOf (.static "java/lang/Integer" "DigitTens" "[B") .byte) (by decide +kernel)) (va_eqt (hs (.eq (.length (.static "java/lang/Integer" "DigitTens" "[B")) (.int 100)) (by decide +kernel))) (fun j hj => va_eqt (hs _ (dTens j hj))) hA
  obtain ⟨em, hem, hTE⟩ := va_Tof (ty := .object "java/lang/Object") (tm := (.static "java/util/ArrayList" "DEFAULTCAPACITY_EMPTY_ELEMENTDATA" "[Ljava/lang/Object;")) (N := 0) (f := fun _ => .null) (A := A) (by decide) (hs (.arrayOf (.static "java/util/ArrayList" "DEFAULTCAPACITY_EMPTY_ELEMENTDATA" "[Ljava/lang/Object;") (.object "java/lang/Object")) (by decide +kernel)) (va_eqt (hs (.eq (.length (.static "java/util/ArrayList" "DEFAULTCAPACITY_EMPTY_ELEMENTDATA" "[Ljava/lang/Object;")) (.int 0)) (by decide +kernel))) (fun j hj => absurd hj (Nat.not_lt_zero j)) hA
  obtain ⟨sk, sv, hSS, hSe⟩ := vk_Sof (args := #[Value.ref b]) (s := s) (N := 2) (tm := fun i => if i = 0 then .string "CellReducer" 75 else .string "CellReducer" 408) (len := [0, 1]) (byt := [[], [103]]) (A := A)
    (fun i hi => by match i, hi with | 0, _ => decide | 1, _ => decide)
    (fun i hi => by match i, hi with | 0, _ => exact hs _ (by decide +kernel) | 1, _ => exact hs _ (by decide +kernel))
    (fun i hi => by match i, hi with | 0, _ => exact hs _ (by decide +kernel) | 1, _ => exact hs _ (by decide +kernel))
    (fun i hi => by match i, hi with | 0, _ => exact hs _ (by decide +kernel) | 1, _ => exact hs _ (by decide +kernel))
    (fun i hi => by match i, hi with | 0, _ => exact hs _ (by decide +kernel) | 1, _ => exact hs _ (by decide +kernel))
    (fun i hi j hj => by match i, hi, j, hj with | 0, _, j, hj => exact absurd hj (Nat.not_lt_zero j) | 1, _, 0, _ => exact hs _ (by decide +kernel) | 1, _, j + 1, hj => exact absurd hj (by simp))
    (fun i j hi hj hne => by match i, j, hi, hj with | 0, 0, _, _ => exact absurd rfl hne | 0, 1, _, _ => exact Or.inl (hs _ (by decide +kernel)) | 1, 0, _, _ => exact Or.inr (hs _ (by decide +kernel)) | 1, 1, _, _ => exact absurd rfl hne) hA
  obtain ⟨el, _, _, _, hel, -⟩ := Cond.exactly_spec (hs (.exactly (.static "java/util/ImmutableCollections" "EMPTY_LIST" "Ljava/util/ImmutableCollections$ListN;") "java/util/ImmutableCollections$ListN") (by decide +kernel))
  have zs : ∀ q ∈ xSt, (Cond.laysStatic q.1 q.2.1 q.2.2).before #[Value.ref b] s = true ∧ (Cond.initialized q.1).before #[Value.ref b] s = true := fun q hq => ⟨hts _ (st_Ls q hq).1, hts _ (st_Ls q hq).2⟩
  obtain ⟨o12, z12⟩ := st_ref2 (A := A) (C := "java/lang/Throwable") (n := "SUPPRESSED_SENTINEL") (d := "Ljava/util/List;") (zs ("java/lang/Throwable", "SUPPRESSED_SENTINEL", "Ljava/util/List;") (by decide)).1 (zs ("java/lang/Throwable", "SUPPRESSED_SENTINEL", "Ljava/util/List;") (by decide)).2 (hs _ (by decide +kernel)) hA
  obtain ⟨o13, z13⟩ := st_ref2 (A := A) (C := "java/lang/Throwable") (n := "UNASSIGNED_STACK") (d := "[Ljava/lang/StackTraceElement;") (zs ("java/lang/Throwable", "UNASSIGNED_STACK", "[Ljava/lang/StackTraceElement;") (by decide)).1 (zs ("java/lang/Throwable", "UNASSIGNED_STACK", "[Ljava/lang/StackTraceElement;") (by decide)).2 (hs _ (by decide +kernel)) hA
  obtain ⟨o14, z14⟩ := st_ref2 (A := A) (C := "jdk/internal/util/Preconditions") (n := "SIOOBE_FORMATTER") (d := "Ljava/util/function/BiFunction;") (zs ("jdk/internal/util/Preconditions", "SIOOBE_FORMATTER", "Ljava/util/function/BiFunction;") (by decide)).1 (zs ("jdk/internal/util/Preconditions", "SIOOBE_FORMATTER", "Ljava/util/function/BiFunction;") (by decide)).2 (hs _ (by decide +kernel)) hA
  obtain ⟨ci, hci⟩ : ∃ cI : ClassId, ArrOfT s cI (xTy 7) := by
    obtain ⟨cell, q1, ⟨-, k, qk, comp, qkind⟩, -⟩ := hTI
    exact ⟨cell.cls, fun n z => ⟨(fun k h => by cases h), k, qk, comp, qkind⟩⟩
  obtain ⟨cl, hcl⟩ : ∃ cI : ClassId, ArrOfT s cI (xTy 8) := by
    obtain ⟨cell, q1, ⟨-, k, qk, comp, qkind⟩, -⟩ := hTL
    exact ⟨cell.cls, fun n z => ⟨(fun k h => by cases h), k, qk, comp, qkind⟩⟩
  obtain ⟨D, hD1, hD2⟩ : ∃ D : Dx, D.1 = d ∧ D.2 = fun k => [a0, a1, a2, a3, a4, a5, a6, ci, cl].getD k a0 := ⟨(d, _), rfl, rfl⟩
  have hKc : xKc D s := by rw [xKc, hD1]; exact hd
  obtain ⟨old, ho1, ho2⟩ := old_of hKc
  obtain ⟨st, hst⟩ : ∃ st : Nat → Value, st = fun k => if k = 100 then .ref (sk 0) else if k = 101 then .ref (sk 1) else ([.int 127, .ref ic, .ref lc, .int 1, .ref d1, .ref d2, .ref em, .int 0, .int 1, .int 1, .int 1, .ref el, va_rf o12, va_rf o13, va_rf o14] : List Value).getD k .null := ⟨_, rfl⟩
  refine ⟨D, (s.heap.size, s.heap.size + 603072, xtot s.heap + 7194730, st, old), ⟨rfl, rfl, rfl⟩, ⟨?_, o12, o13, o14, by show st 12 = _; rw [hst]; rfl, by show st 13 = _; rw [hst]; rfl, by show st 14 = _; rw [hst]; rfl⟩, hbl, ?_, ?_⟩
  · have e1 : old ic = some (.inl (7, 256, .inr (.inr (.inr (.inr fun j => if j < 256 then some (ad j) else none))))) := ho2 _ _ (xro_T (κ := 7) hTI rfl (fun j hj => by simp [xval, hj, va_rf])) ⟨by show (256 : Nat) < 2 ^ 31; decide, Or.inr ⟨_, rfl, Or.inr (Or.inl rfl), fun j hj => if_neg (Nat.not_lt.mpr hj)⟩⟩
    have e2 : ∀ j : Nat, j < 256 → old (ad j) = some (.inr (15, [.int (vb_c j)])) := fun j hj => ho2 _ _ (xro_ob hKc (r := (RJ32, TJ32, 1)) rfl (hC.1 j hj) (by decide) (fun k v hk hv => by match k, hk with | 0, _ => cases hv; exact hC.2 j hj)) (Or.inr (Or.inl ⟨rfl, rfl⟩))
    have e3 : old lc = some (.inl (8, 256, .inr (.inr (.inr (.inr fun j => if j < 256 then some (al j) else none))))) := ho2 _ _ (xro_T (κ := 8) hTL rfl (fun j hj => by simp [xval, hj, va_rf])) ⟨by show (256 : Nat) < 2 ^ 31; decide, Or.inr ⟨_, rfl, Or.inr (Or.inr rfl), fun j hj => if_neg (Nat.not_lt.mpr hj)⟩⟩
    have e4 : ∀ j : Nat, j < 256 → old (al j) = some (.inr (16, [.long (vb_c j).toInt64])) := fun j hj => ho2 _ _ (xro_ob hKc (r := (RJ31, TJ31, 1)) rfl (hal j hj).2.1 (by decide) (fun k v hk hv => by match k, hk with | 0, _ => cases hv; exact (hal j hj).2.2)) (Or.inr (Or.inr ⟨rfl, rfl⟩))
    have e5 : old d1 = some (.inl (3, 100, .inl fun j => if j < 100 then nI (48 + j % 10) else 0)) := ho2 _ _ (xro_T (κ := 3) hT1 rfl (fun j hj => by simp [xval, hj])) ⟨by show (100 : Nat) < 2 ^ 31; decide, Or.inl ⟨_, rfl, Or.inr rfl, fun j hj => if_neg (Nat.not_lt.mpr hj)⟩⟩
    have e6 : old d2 = some (.inl (3, 100, .inl fun j => if j < 100 then nI (48 + j / 10) else 0)) := ho2 _ _ (xro_T (κ := 3) hT2 rfl (fun j hj => by simp [xval, hj])) ⟨by show (100 : Nat) < 2 ^ 31; decide, Or.inl ⟨_, rfl, Or.inr rfl, fun j hj => if_neg (Nat.not_lt.mpr hj)⟩⟩
    have e7 : old em = some (.inl (4, 0, .inr (.inr (.inr (.inr fun _ => none))))) := ho2 _ _ (xro_T (κ := 4) hTE rfl (fun j hj => absurd hj (Nat.not_lt_zero j))) ⟨by show (0 : Nat) < 2 ^ 31; decide, Or.inr ⟨_, rfl, Or.inl rfl, fun j hj => rfl⟩⟩
    have e8 : ∀ i : Nat, i < 2 → old (sk i) = some (.inr (14, [.ref (sv i), .int 0])) := fun i hi => ho2 _ _ (xro_ob hKc (r := (RJ15, TJ15, 4)) rfl (hSS.1 i hi).1 (by decide) (fun k v hk hv => by
      match k, hk with
      | 0, _ => cases hv; exact (hSS.1 i hi).2.2.1
      | 1, _ => cases hv; exact (hSS.1 i hi).2.1
      | 2, _ => cases hv
      | 3, _ => cases hv)) (Or.inl ⟨rfl, rfl⟩)
    have e9 : old (sv 0) = some (.inl (3, 0, .inl fun _ => 0)) := ho2 _ _ (xro_T (κ := 3) (N := 0) (hSS.1 0 (by decide)).2.2.2 rfl (fun j hj => absurd hj (Nat.not_lt_zero j))) ⟨by show (0 : Nat) < 2 ^ 31; decide, Or.inl ⟨_, rfl, Or.inr rfl, fun j hj => rfl⟩⟩
    have e10 : old (sv 1) = some (.inl (3, 1, .inl fun j => if j < 1 then 103 else 0)) := ho2 _ _ (xro_T (κ := 3) (N := 1) (hSS.1 1 (by decide)).2.2.2 rfl (fun j hj => by have hj : j < 1 := hj; obtain rfl : j = 0 := Nat.lt_one_iff.mp hj; rfl)) ⟨by show (1 : Nat) < 2 ^ 31; decide, Or.inl ⟨_, rfl, Or.inr rfl, fun j hj => if_neg (Nat.not_lt.mpr hj)⟩⟩
    subst hst
    have x1 : ∀ j : Nat, j < 256 → xel (s.heap.size, s.heap.size + 603072, xtot s.heap + 7194730, (fun k => if k = 100 then .ref (sk 0) else if k = 101 then .ref (sk 1) else ([.int 127, .ref ic, .ref lc, .int 1, .ref d1, .ref d2, .ref em, .int 0, .int 1, .int 1, .int 1, .ref el, va_rf o12, va_rf o13, va_rf o14] : List Value).getD k .null), old) ic j = ad j := fun j hj => by simp [xel, e1, hj]
    have x2 : ∀ j : Nat, j < 256 → xel (s.heap.size, s.heap.size + 603072, xtot s.heap + 7194730, (fun k => if k = 100 then .ref (sk 0) else if k = 101 then .ref (sk 1) else ([.int 127, .ref ic, .ref lc, .int 1, .ref d1, .ref d2, .ref em, .int 0, .int 1, .int 1, .int 1, .ref el, va_rf o12, va_rf o13, va_rf o14] : List Value).getD k .null), old) lc j = al j := fun j hj => by simp [xel, e3, hj]
    refine ⟨⟨rfl, rfl, rfl, rfl, rfl, rfl, rfl, rfl, rfl, rfl, rfl, rfl, rfl, rfl⟩, ?_, fun j hj => ?_, ?_, fun j hj => ?_, e5, e6, e7, ?_, ?_, ?_, ?_, fun a e h => xro_lt (ho1 a e h)⟩
    · show old ic = _
      rw [e1]
      refine congrArg (fun f : Nat → Option Nat => some (Sum.inl (7, 256, Sum.inr (Sum.inr (Sum.inr (Sum.inr f)))))) (funext fun j => ?_)
      by_cases hj : j < 256
      · simp only [hj, if_true]; exact congrArg some (x1 j hj).symm
      · simp only [hj, if_false]
    · show old (xel _ ic j) = _
      rw [x1 j hj]
      exact e2 j hj
    · show old lc = _
      rw [e3]
      refine congrArg (fun f : Nat → Option Nat => some (Sum.inl (8, 256, Sum.inr (Sum.inr (Sum.inr (Sum.inr f)))))) (funext fun j => ?_)
      by_cases hj : j < 256
      · simp only [hj, if_true]; exact congrArg some (x2 j hj).symm
      · simp only [hj, if_false]
    · show old (xel _ lc j) = _
      rw [x2 j hj]
      exact e4 j hj
    · show old (sk 0) = some (.inr (14, [.ref (xvl _ (sk 0)), .int 0]))
      simp [xvl, e8 0 (by decide), xrf]
    · show old (xvl _ (sk 0)) = _
      simp [xvl, e8 0 (by decide), xrf, e9]
    · show old (sk 1) = some (.inr (14, [.ref (xvl _ (sk 1)), .int 0]))
      simp [xvl, e8 1 (by decide), xrf]
    · show old (xvl _ (sk 1)) = _
      simp [xvl, e8 1 (by decide), xrf, e10]
  · refine ho2 b _ ?_ ⟨by show L < 2 ^ 31; omega, Or.inl ⟨_, rfl, Or.inl rfl, fun j hj => if_neg (Nat.not_lt.mpr hj)⟩⟩
    obtain ⟨scr, q1, q2, q3, q4, q5⟩ := hX
    exact ⟨scr, q1, q2, q3, ⟨Nat.le_of_eq q4.symm, by rw [q4]⟩, fun j hj => by rw [q5 j hj]; simp [xval, show j < L from hj]⟩
  · have hAe : A = fun a => s.heap.size ≤ a := hAdef
    subst hAe
    refine ⟨⟨hKc, fun k q hq => ?_⟩, fun q hq => va_Nw.of rfl (hts _ (st_NF q hq)), fun q hq => va_Nw.of rfl (hts _ (st_NM q hq)), va_AO.of (hts _ q170), ⟨va_AO.of (hts _ q265), st_over (hts _ q177), fun k q hq => ?_, fun y hy => st_priv (hts _ (st_Pv y hy)), fun y hy => va_Nw.of rfl (hts _ (st_De y hy)), fun w hw hc => va_Nw.of (xcd_ot hc) (hts w hw), vx_Zqof (hts _ st_Zs.1) (hts _ st_Zs.2.2.1) (hs _ st_Zs.2.2.2.1) hA, vx_Zqof (hts _ st_Zs.2.1) (hts _ st_Zs.2.2.1) (hs _ st_Zs.2.2.2.2) hA, va_Nc.of (hs _ (by decide +kernel))⟩, fun q hq => va_Nw.of rfl (hts _ (st_Ca q hq)), fun q hq => va_Fw.of (hts _ (st_Fw q hq).1) (hts _ (st_Fw q hq).2.1) (hts _ (st_Fw q hq).2.2.1) (hts _ (st_Fw q hq).2.2.2.1) (hts _ (st_Fw q hq).2.2.2.2), fun k q hq => ?_, ⟨by rw [hD2]; exact hci, by rw [hD2]; exact hcl⟩, ho1⟩
    · rw [xTys, hD2] at hq
      match k, hq with
      | 0, hq => cases hq; exact ⟨fun n z => ⟨(fun k h => by cases h), K0, g0, p0, h0⟩, f0⟩
      | 1, hq => cases hq; exact ⟨fun n z => ⟨(fun k h => by cases h), K1, g1, p1, h1⟩, f1⟩
      | 2, hq => cases hq; exact ⟨fun n z => ⟨(fun k h => by cases h), K2, g2, p2, h2⟩, f2⟩
      | 3, hq => cases hq; exact ⟨fun n z => ⟨(fun k h => by cases h), K3, g3, p3, h3⟩, f3⟩
      | 4, hq => cases hq; exact ⟨fun n z => ⟨(fun k h => by cases h), K4, g4, p4, h4⟩, K4, p4, g4, h4, e4, f4⟩
      | 5, hq => cases hq; exact ⟨fun n z => ⟨(fun k h => by cases h), K5, g5, p5, h5⟩, K5, p5, g5, h5, e5, f5⟩
      | 6, hq => cases hq; exact ⟨fun n z => ⟨(fun k h => by cases h), K6, g6, p6, h6⟩, f6⟩
      | k + 7, hq => simp at hq
    · match k, hq with
      | 0, hq => cases hq; exact ⟨sk 0, by rw [hst]; rfl, vk_R.of (hts _ q278) (hSe 0 (by decide))⟩
      | 1, hq => cases hq; exact ⟨sk 1, by rw [hst]; rfl, vk_R.of (hts _ q2492) (hSe 1 (by decide))⟩
      | k + 2, hq => simp [xLd] at hq
    · have zz := zs q (List.mem_of_getElem? hq)
      rw [hst]
      match k, hq with
      | 0, hq => cases hq; exact va_Zof zz.1 zz.2 (va_eqi (hs _ (by decide +kernel))) hA
      | 1, hq => cases hq; exact va_Zof zz.1 zz.2 hic hA
      | 2, hq => cases hq; exact va_Zof zz.1 zz.2 hlc hA
      | 3, hq => cases hq; exact va_Zof zz.1 zz.2 (va_eqi (hs _ (by decide +kernel))) hA
      | 4, hq => cases hq; exact va_Zof zz.1 zz.2 hd1 hA
      | 5, hq => cases hq; exact va_Zof zz.1 zz.2 hd2 hA
      | 6, hq => cases hq; exact va_Zof zz.1 zz.2 hem hA
      | 7, hq => cases hq; exact va_Zof zz.1 zz.2 (va_eqi (hs _ (by decide +kernel))) hA
      | 8, hq => cases hq; exact va_Zof zz.1 zz.2 (va_eqi (hs _ (by decide +kernel))) hA
      | 9, hq => cases hq; exact va_Zof zz.1 zz.2 (va_eqi (hs _ (by decide +kernel))) hA
      | 10, hq => cases hq; exact va_Zof zz.1 zz.2 (va_eqi (hs _ (by decide +kernel))) hA
      | 11, hq => cases hq; exact va_Zof zz.1 zz.2 hel hA
      | 12, hq => cases hq; exact z12
      | 13, hq => cases hq; exact z13
      | 14, hq => cases hq; exact z14
      | k + 15, hq => simp [xSt] at hq
