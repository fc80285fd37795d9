/-! THE START: tables, statics, the cells that were there before -/
theorem fc_name {vm : Vm} {n : String} {c : ClassId} {k : Class} (h : vm.findClass n = some c) (hk : vm.classes[c]? = some k) : k.name = n := by
  obtain ⟨hlt, hp, _⟩ := Array.findIdx?_eq_some_iff_getElem.mp h
  have e : vm.classes[c] = k := by have := hk; simp [hlt] at this; exact this
  rw [e] at hp
  simp only [Bool.and_eq_true, beq_iff_eq, Option.isNone_iff_eq_none] at hp
  exact hp.1.1.1
/-- one way to say what an old cell holds -/
def cano (e : Ob) : Prop := match e with
  | .inl x => x.2.1 < 2 ^ 31 ∧ ((∃ f : Nat → Int32, x.2.2 = .inl f ∧ (x.1 = 0 ∨ x.1 = 3) ∧ ∀ j : Nat, x.2.1 ≤ j → f j = 0) ∨ ∃ f : Nat → Option Nat, x.2.2 = .inr (.inr (.inr (.inr f))) ∧ (x.1 = 4 ∨ x.1 = 7 ∨ x.1 = 8) ∧ ∀ j : Nat, x.2.1 ≤ j → f j = none)
  | .inr o => (o.1 = 14 ∧ o.2.length = 2) ∨ (o.1 = 15 ∧ o.2.length = 1) ∨ (o.1 = 16 ∧ o.2.length = 1)
theorem xTy_inj {a b : Nat} (ha : a = 0 ∨ a = 3 ∨ a = 4 ∨ a = 7 ∨ a = 8) (hb : b = 0 ∨ b = 3 ∨ b = 4 ∨ b = 7 ∨ b = 8) (h : xTy a = xTy b) : a = b := by
  rcases ha with rfl | rfl | rfl | rfl | rfl <;> rcases hb with rfl | rfl | rfl | rfl | rfl <;> first | rfl | exact absurd h (by decide)
def xKc (D : Dx) (s : State) : Prop := ∀ (c : Nat) (q : vw_C), xCl[c]? = some q → u_Kn s q.1 q.2.1 q.2.2 (D.1.1 c) (D.1.2 c)
theorem cano_arr {x : Nat × vp_A} (h : cano (.inl x)) : x.1 = 0 ∨ x.1 = 3 ∨ x.1 = 4 ∨ x.1 = 7 ∨ x.1 = 8 := by
  obtain ⟨-, ⟨f, -, h, -⟩ | ⟨f, -, h, -⟩⟩ := h <;> omega
theorem xro_one {D : Dx} {s : State} (hK : xKc D s) {a : Nat} {e e' : Ob} (h : xro D a e s s.heap) (h' : xro D a e' s s.heap) (c : cano e) (c' : cano e') : e = e' := by
  have ordin : ∀ {o : Nat × List Value} {r : vw_C} {cell : Cell}, xCl[o.1]? = some r → s.vm.findClass r.1 = some cell.cls → ∃ kC : Class, s.vm.classes[cell.cls]? = some kC ∧ kC.kind = .ordinary ∧ kC.name = r.1 := by
    intro o r cell hr hf
    obtain ⟨-, hc, kC, hkC, hkd⟩ := hK _ _ hr
    have e1 : D.1.1 o.1 = cell.cls := Option.some.inj (hc.symm.trans hf)
    rw [e1] at hkC
    exact ⟨kC, hkC, hkd, fc_name hf hkC⟩
  cases e with
  | inl x =>
    obtain ⟨cell, g1, ⟨-, k, gk, comp, gkind⟩, g3, g4, g5⟩ := h
    cases e' with
    | inl x' =>
      obtain ⟨cell', q1, ⟨-, k', qk, comp', qkind⟩, q3, q4, q5⟩ := h'
      obtain rfl : cell = cell' := Option.some.inj (g1.symm.trans q1)
      obtain rfl : k = k' := Option.some.inj (gk.symm.trans qk)
      have hty : xTy x.1 = xTy x'.1 := by
        have := gkind.symm.trans qkind
        injection this
      have hκ := xTy_inj (cano_arr c) (cano_arr c') hty
      have hn : x.2.1 = x'.2.1 := (nI_eq c.1 c'.1).mp (g4.2.symm.trans q4.2)
      obtain ⟨κ, n, y⟩ := x
      obtain ⟨κ', n', y'⟩ := x'
      simp only at hκ hn
      subst hκ hn
      obtain ⟨cn, hc⟩ := c
      obtain ⟨-, hc'⟩ := c'
      simp only at hc hc' g5 q5
      rcases hc with ⟨f, rfl, h1, h2⟩ | ⟨f, rfl, h1, h2⟩ <;> rcases hc' with ⟨f', rfl, h1', h2'⟩ | ⟨f', rfl, h1', h2'⟩
      · have hff : f = f' := by
          funext j
          rcases Nat.lt_or_ge j n with hj | hj
          · have := (g5 j hj).symm.trans (q5 j hj)
            simpa [xval] using this
          · rw [h2 j hj, h2' j hj]
        rw [hff]
      · omega
      · omega
      · have hff : f = f' := by
          funext j
          rcases Nat.lt_or_ge j n with hj | hj
          · have hh := Option.some.inj ((g5 j hj).symm.trans (q5 j hj))
            simp only [xval] at hh
            cases hf : f j <;> cases hf' : f' j <;> rw [hf, hf'] at hh <;> simp [va_rf] at hh <;> first | rfl | rw [hh]
          · rw [h2 j hj, h2' j hj]
        rw [hff]
    | inr o' =>
      obtain ⟨r, hr, cell', q1, -, -, q4, -⟩ := h'
      obtain rfl : cell = cell' := Option.some.inj (g1.symm.trans q1)
      obtain ⟨kC, hkC, hkd, -⟩ := ordin hr q4
      rw [gk] at hkC
      cases hkC
      rw [gkind] at hkd
      cases hkd
  | inr o =>
    obtain ⟨r, hr, cell, g1, -, -, g4, g5⟩ := h
    obtain ⟨kC, hkC, hkd, hnm⟩ := ordin hr g4
    cases e' with
    | inl x' =>
      obtain ⟨cell', q1, ⟨-, k', qk, comp', qkind⟩, q3, q4, q5⟩ := h'
      obtain rfl : cell = cell' := Option.some.inj (g1.symm.trans q1)
      rw [qk] at hkC
      cases hkC
      rw [qkind] at hkd
      cases hkd
    | inr o' =>
      obtain ⟨r', hr', cell', q1, -, -, q4, q5⟩ := h'
      obtain rfl : cell = cell' := Option.some.inj (g1.symm.trans q1)
      obtain ⟨kC', hkC', hkd', hnm'⟩ := ordin hr' q4
      obtain rfl : kC = kC' := Option.some.inj (hkC.symm.trans hkC')
      have hrr : r.1 = r'.1 := hnm.symm.trans hnm'
      obtain ⟨ci, fs⟩ := o
      obtain ⟨ci', fs'⟩ := o'
      simp only [cano] at c c'
      simp only at hr hr' g5 q5
      have hci : ci = ci' ∧ fs.length = fs'.length ∧ fs.length ≤ r.2.2 ∧ r.2.2 = r'.2.2 := by
        rcases c with ⟨rfl, l1⟩ | ⟨rfl, l1⟩ | ⟨rfl, l1⟩ <;> rcases c' with ⟨rfl, l2⟩ | ⟨rfl, l2⟩ | ⟨rfl, l2⟩ <;> cases hr <;> cases hr' <;> first | (exact ⟨rfl, l1.trans l2.symm, by rw [l1]; decide, rfl⟩) | (exact absurd hrr (by decide))
      obtain ⟨rfl, hl, hle, hrr2⟩ := hci
      have : fs = fs' := by
        refine List.ext_getElem? fun k => ?_
        rcases Nat.lt_or_ge k fs.length with hk | hk
        · have e1 : fs[k]? = some fs[k] := List.getElem?_eq_getElem hk
          have e2 : fs'[k]? = some (fs'[k]'(hl ▸ hk)) := List.getElem?_eq_getElem (hl ▸ hk)
          have e3 := g5 k _ (by omega) e1
          have e4 := q5 k _ (by omega) e2
          rw [e1, e2, ← e3, ← e4]
        · rw [List.getElem?_eq_none hk, List.getElem?_eq_none (by omega)]
      rw [this]
/-- the cells that were there before, as the map holds them -/
theorem old_of {D : Dx} {s : State} (hK : xKc D s) : ∃ old : Nat → Option Ob, (∀ (a : Nat) (e : Ob), old a = some e → xro D a e s s.heap) ∧ ∀ (a : Nat) (e : Ob), xro D a e s s.heap → cano e → old a = some e := by
  have h : ∀ a : Nat, ∃ q : Option Ob, (∀ e : Ob, q = some e → xro D a e s s.heap) ∧ ∀ e : Ob, xro D a e s s.heap → cano e → q = some e := by
    intro a
    by_cases hx : ∃ e : Ob, xro D a e s s.heap ∧ cano e
    · obtain ⟨e, h1, h2⟩ := hx
      exact ⟨some e, fun e' q => by cases q; exact h1, fun e' q1 q2 => by rw [xro_one hK h1 q1 h2 q2]⟩
    · exact ⟨none, fun e q => by (cases q), fun e q1 q2 => absurd ⟨e, q1, q2⟩ hx⟩
  obtain ⟨old, ho⟩ := Classical.axiomOfChoice h
  exact ⟨old, fun a e q => (ho a).1 e q, fun a e q1 q2 => (ho a).2 e q1 q2⟩
theorem xro_lt {D : Dx} {a : Nat} {e : Ob} {s : State} (h : xro D a e s s.heap) : a < s.heap.size := by
  cases e with
  | inl x => obtain ⟨cell, h1, -⟩ := h; exact (Array.getElem?_eq_some_iff.mp h1).1
  | inr o => obtain ⟨r, -, cell, h1, -⟩ := h; exact (Array.getElem?_eq_some_iff.mp h1).1
theorem xro_T {D : Dx} {s : State} {A : Nat → Prop} {t N κ : Nat} {f : Nat → Value} {x : (Nat → Int32) ⊕ (Nat → Int64) ⊕ (Nat → UInt32) ⊕ (Nat → UInt64) ⊕ (Nat → Option Nat)} {ty : FieldType} (h : va_T ty t N f A s s.heap) (hty : xTy κ = ty) (hx : ∀ j : Nat, j < N → f j = xval x j) : xro D t (.inl (κ, N, x)) s s.heap := by
  obtain ⟨cell, h1, h2, h3, h4, h5, h6, -⟩ := h
  exact ⟨cell, h1, by rw [hty]; exact h2, h3, ⟨h4, h5⟩, fun j hj => by rw [← hx j hj]; exact h6 j hj⟩
theorem xro_ob {D : Dx} {s : State} {A : Nat → Prop} (hK : xKc D s) {ci a : Nat} {v0 : Value} {fs : List Value} {r : vw_C} (hr : xCl[ci]? = some r) (hO : va_O r.1 a A s s.heap) (h0 : 0 < r.2.2) (hf : ∀ (k : Nat) (v : Value), k < r.2.2 → (v0 :: fs)[k]? = some v → va_OF (r.2.1 k).1 (r.2.1 k).2.1 (r.2.1 k).2.2.1 v a A s s.heap) : xro D a (.inr (ci, v0 :: fs)) s s.heap := by
  obtain ⟨cell, h1, h2, h3, -⟩ := hO
  obtain ⟨_, _, _, _, cell0, -, -, g1, g2, -⟩ := hf 0 v0 h0 rfl
  obtain rfl : cell = cell0 := Option.some.inj (h1.symm.trans g1)
  refine ⟨r, hr, cell, h1, h2, g2, h3, fun k v hk hv => ?_⟩
  obtain ⟨cf, kf, fi, f, cell2, q1, -, q3, -, q5, -⟩ := hf k v hk hv
  obtain rfl : cell = cell2 := Option.some.inj (h1.symm.trans q3)
  obtain ⟨hS, -⟩ := hK _ _ hr
  obtain ⟨cf', kf', fi', fd, p1, p2⟩ := hS k hk
  rw [q1] at p1
  cases p1
  show cell.slots[D.1.2 ci k]? = some v
  rw [← p2]
  exact q5
/-- the cache of Longs -/
theorem xl_Cof {args : Array Value} {s : State} {A : Nat → Prop} {st : Term} (hc : st.closed = true) (hlen : (Term.length st).eval args s none [] s = some (.int (Int32.ofNat 256)))
    (hall : (Cond.all st (.and (.exactly (.elem st (.index 0)) "java/lang/Long") (.eq (.field (.elem st (.index 0)) "java/lang/Long" "value" "J") (.op1 Jvm.Unary.i2l (.sub (.index 0) (.int 128)))))).before args s = true) (hA : ∀ a : Nat, a < s.heap.size → ¬ A a) :
    ∃ ad : Nat → Nat, ∀ k : Nat, k < 256 → (Term.elem st (.int (Int32.ofNat k))).eval args s none [] s = some (.ref (ad k)) ∧ va_O "java/lang/Long" (ad k) A s s.heap ∧ va_OF "java/lang/Long" "value" "J" (.long (vb_c k).toInt64) (ad k) A s s.heap := by
  obtain ⟨b, cell, ht, hat, hv⟩ := Term.length_spec hlen
  have hsz : ∀ k : Nat, k < 256 → k < cell.slots.size := by
    intro k hk
    apply Nat.not_le.mp
    intro hle
    have e : Int32.ofNat cell.slots.size = Int32.ofNat 256 := (Value.int.inj hv).symm
    have h1 : (Int32.ofNat cell.slots.size).toNatClampNeg = cell.slots.size := Int32.toNatClampNeg_ofNat_of_lt (by omega)
    have h2 : (Int32.ofNat 256).toNatClampNeg = 256 := Int32.toNatClampNeg_ofNat_of_lt (by omega)
    rw [e, h2] at h1
    omega
  have hall' := Cond.all_elim ht hat (by simpa [Cond.before, Cond.holds] using hall)
  have h0 : ∀ k : Nat, ∃ a : Nat, k < 256 → (Term.elem st (.int (Int32.ofNat k))).eval args s none [] s = some (.ref a) ∧ va_O "java/lang/Long" a A s s.heap ∧ va_OF "java/lang/Long" "value" "J" (.long (vb_c k).toInt64) a A s s.heap := by
    intro k
    by_cases hk : k < 256
    · obtain ⟨hE, hF⟩ := va_andE (hall' k (hsz k hk))
      obtain ⟨a, c, cA, kA, q1, q2, q3, q4, q5, q6, -⟩ := Cond.exactly_spec (args := args) (first := s) (o := none) (s := s) (idx := [k]) (t := .elem st (.index 0)) (cls := "java/lang/Long") (by simp [Cond.holds, hE])
      have hfv := va_eqI hF (v := .long (vb_c k).toInt64) (by simp [Term.eval, vb_c] <;> rfl)
      refine ⟨a, fun _ => ⟨?_, ⟨cA, q3, q5, by rw [q6]; exact q2, hA a (Array.getElem?_eq_some_iff.mp q3).1⟩, ?_⟩⟩
      · rw [← q1]
        simp only [Term.eval, Term.eval_closed none [k] st s hc]
        rfl
      · cases hfo : s.fieldFound? "java/lang/Long" "value" "J" with
        | none =>
          rw [va_fe q1] at hfv
          simp [State.fieldOf?, State.fieldNamed?, hfo] at hfv
        | some x =>
          obtain ⟨cf, kf, fi, f⟩ := x
          obtain ⟨g1, cell2, g2, g3, -, -, g6⟩ := Term.field_spec hfo q1 hfv
          exact ⟨cf, kf, fi, f, cell2, hfo, g1, g2, g3, g6, hA _ (Array.getElem?_eq_some_iff.mp g2).1⟩
    · exact ⟨0, fun h => absurd h hk⟩
  obtain ⟨ad, had⟩ := Classical.axiomOfChoice h0
  exact ⟨ad, fun k hk => had k hk⟩
/-- what a run reads of the cells that were there before -/
def xrf (v : Value) : Nat := match v with
  | .ref a => a
  | _ => 0
def xst (ev : Ev) (k : Nat) : Nat := xrf (ev.2.2.2.1 k)
def xel (ev : Ev) (a j : Nat) : Nat := match ev.2.2.2.2 a with
  | some (.inl (_, _, .inr (.inr (.inr (.inr f))))) => (f j).getD 0
  | _ => 0
def xvl (ev : Ev) (a : Nat) : Nat := match ev.2.2.2.2 a with
  | some (.inr (_, v :: _)) => xrf v
  | _ => 0
def EvOk (ev : Ev) : Prop :=
  (ev.2.2.2.1 0 = .int 127 ∧ ev.2.2.2.1 1 = .ref (xst ev 1) ∧ ev.2.2.2.1 2 = .ref (xst ev 2) ∧ ev.2.2.2.1 3 = .int 1 ∧ ev.2.2.2.1 4 = .ref (xst ev 4) ∧ ev.2.2.2.1 5 = .ref (xst ev 5) ∧ ev.2.2.2.1 6 = .ref (xst ev 6) ∧ ev.2.2.2.1 7 = .int 0 ∧ ev.2.2.2.1 8 = .int 1 ∧ ev.2.2.2.1 9 = .int 1 ∧ ev.2.2.2.1 10 = .int 1 ∧ ev.2.2.2.1 11 = .ref (xst ev 11) ∧ ev.2.2.2.1 100 = .ref (xst ev 100) ∧ ev.2.2.2.1 101 = .ref (xst ev 101)) ∧
  ev.2.2.2.2 (xst ev 1) = some (.inl (7, 256, .inr (.inr (.inr (.inr fun j => if j < 256 then some (xel ev (xst ev 1) j) else none))))) ∧
  (∀ j : Nat, j < 256 → ev.2.2.2.2 (xel ev (xst ev 1) j) = some (.inr (15, [.int (vb_c j)]))) ∧
  ev.2.2.2.2 (xst ev 2) = some (.inl (8, 256, .inr (.inr (.inr (.inr fun j => if j < 256 then some (xel ev (xst ev 2) j) else none))))) ∧
  (∀ j : Nat, j < 256 → ev.2.2.2.2 (xel ev (xst ev 2) j) = some (.inr (16, [.long (vb_c j).toInt64]))) ∧
  ev.2.2.2.2 (xst ev 4) = some (.inl (3, 100, .inl fun j => if j < 100 then nI (48 + j % 10) else 0)) ∧
  ev.2.2.2.2 (xst ev 5) = some (.inl (3, 100, .inl fun j => if j < 100 then nI (48 + j / 10) else 0)) ∧
  ev.2.2.2.2 (xst ev 6) = some (.inl (4, 0, .inr (.inr (.inr (.inr fun _ => none))))) ∧
  ev.2.2.2.2 (xst ev 100) = some (.inr (14, [.ref (xvl ev (xst ev 100)), .int 0])) ∧
  ev.2.2.2.2 (xvl ev (xst ev 100)) = some (.inl (3, 0, .inl fun _ => 0)) ∧
  ev.2.2.2.2 (xst ev 101) = some (.inr (14, [.ref (xvl ev (xst ev 101)), .int 0])) ∧
  ev.2.2.2.2 (xvl ev (xst ev 101)) = some (.inl (3, 1, .inl fun j => if j < 1 then 103 else 0)) ∧
  ∀ (a : Nat) (e : Ob), ev.2.2.2.2 a = some e → a < ev.1
theorem over_arr {s : State} {args : Array Value} (h : (Cond.arrayOver (.array .long)).before args s = true) : ∃ (c : ClassId) (k : Class) (comp : ClassId), s.vm.findClass ("[" ++ (FieldType.array .long).toString) = some c ∧ s.vm.classes[c]? = some k ∧ k.kind = .array comp (.array .long) := by
  simp only [Cond.before, Cond.holds, Cond.value, beq_iff_eq] at h
  cases hc : s.vm.findClass (FieldType.array .long).toString with
  | none => simp [hc] at h
  | some comp =>
    simp only [hc, Option.bind_some, Option.bind_eq_some_iff, Option.map_eq_some_iff] at h
    obtain ⟨c, hi, k, hk, hb⟩ := h
    cases hkind : k.kind with
    | array c2 t2 =>
      rw [hkind] at hb
      simp at hb
      exact ⟨c, k, c2, by simp [hb], hk, by rw [hkind]; simp [hb]⟩
    | _ => rw [hkind] at hb; simp at hb
theorem start_K {s : State} {args : Array Value} (hts : ∀ w ∈ lw_tbl, w.before args s = true) : ∃ d : va_G, ∀ (c : Nat) (q : vw_C), xCl[c]? = some q → u_Kn s q.1 q.2.1 q.2.2 (d.1 c) (d.2 c) := by
  have hta : ∀ w ∈ lw_all, w.before args s = true := fun w h => hts w (lw_all_tbl h)
  obtain ⟨c0, i0, k0⟩ := u_known (C := RX0) (T := TX0) (N := 25) (n := 25) hta in_X0 (hta _ q162)
  obtain ⟨c1, i1, k1⟩ := u_known (C := RX1) (T := TX1) (N := 4) (n := 4) hta in_X1 (hta _ q171)
  obtain ⟨c2, i2, k2⟩ := u_known (C := RX2) (T := TX2) (N := 32) (n := 32) hta in_X2 (hta _ q2612)
  obtain ⟨c3, i3, k3⟩ := u_known (C := RX3) (T := TX3) (N := 6) (n := 6) hta in_X3 (hta _ q2367)
  obtain ⟨c4, i4, k4⟩ := u_known (C := RX4) (T := TX4) (N := 7) (n := 7) hta in_X4 (hta _ q2415)
  obtain ⟨c5, i5, k5⟩ := u_known (C := RJ3) (T := TJ3) (N := 4) (n := 4) hta in_J3 (hta _ q197)
  obtain ⟨c6, i6, k6⟩ := u_known (C := RJ33) (T := TJ33) (N := 3) (n := 3) hta in_J33 (hta _ q562)
  obtain ⟨c7, i7, k7⟩ := u_known (C := RJ29) (T := TJ29) (N := 5) (n := 5) hta in_J29 (hta _ q695)
  obtain ⟨c8, i8, k8⟩ := u_known (C := RJ5) (T := TJ5) (N := 3) (n := 3) hta in_J5 (hta _ q259)
  obtain ⟨c9, i9, k9⟩ := u_known (C := RJ6) (T := TJ6) (N := 4) (n := 4) hta in_J6 (hta _ q2304)
  obtain ⟨c10, i10, k10⟩ := u_known (C := RJ4) (T := TJ4) (N := 3) (n := 3) hta in_J4 (hta _ q236)
  obtain ⟨c11, i11, k11⟩ := u_known (C := RJ40) (T := TJ40) (N := 3) (n := 3) hta in_J40 (hta _ q652)
  obtain ⟨c12, i12, k12⟩ := u_known (C := RJ39) (T := TJ39) (N := 2) (n := 2) hta in_J39 (hta _ q1445)
  obtain ⟨c13, i13, k13⟩ := u_known (C := RJ14) (T := TJ14) (N := 4) (n := 4) hta in_J14 (hta _ q932)
  obtain ⟨c14, i14, k14⟩ := u_known (C := RJ15) (T := TJ15) (N := 4) (n := 4) hta in_J15 (hta _ q1118)
  obtain ⟨c15, i15, k15⟩ := u_known (C := RJ32) (T := TJ32) (N := 1) (n := 1) hta in_J32 (hta _ q541)
  obtain ⟨c16, i16, k16⟩ := u_known (C := RJ31) (T := TJ31) (N := 1) (n := 1) hta in_J31 (hta _ q1656)
  refine ⟨(fun k => [c0, c1, c2, c3, c4, c5, c6, c7, c8, c9, c10, c11, c12, c13, c14, c15, c16].getD k c0, fun k => [i0, i1, i2, i3, i4, i5, i6, i7, i8, i9, i10, i11, i12, i13, i14, i15, i16].getD k i0), ?_⟩
  intro k q hq
  match k, hq with
  | 0, hq => cases hq; exact k0
  | 1, hq => cases hq; exact k1
  | 2, hq => cases hq; exact k2
  | 3, hq => cases hq; exact k3
  | 4, hq => cases hq; exact k4
  | 5, hq => cases hq; exact k5
  | 6, hq => cases hq; exact k6
  | 7, hq => cases hq; exact k7
  | 8, hq => cases hq; exact k8
  | 9, hq => cases hq; exact k9
  | 10, hq => cases hq; exact k10
  | 11, hq => cases hq; exact k11
  | 12, hq => cases hq; exact k12
  | 13, hq => cases hq; exact k13
  | 14, hq => cases hq; exact k14
  | 15, hq => cases hq; exact k15
  | 16, hq => cases hq; exact k16
  | k + 17, hq => simp [xCl] at hq
theorem dl_at {l : List Cond} {k n : Nat} {f : Nat → Cond} (h : (l.drop k).take n = (List.range n).map f) {j : Nat} (hj : j < n) : f j ∈ l := by
  have e : ((l.drop k).take n)[j]? = some (f j) := by
    rw [h, List.getElem?_map, List.getElem?_range hj]
    rfl
  exact List.mem_of_mem_drop (List.mem_of_mem_take (List.mem_of_getElem? e))
theorem dOnesL : (((flatC (Jvm.Cond.and given_1 narrow_1))).drop 34).take 100 = (List.range 100).map (fun j => Cond.eq (.elem (.static "java/lang/Integer" "DigitOnes" "[B") (.int (Int32.ofNat j))) (.int (nI (48 + j % 10)))) := by decide +kernel
theorem dTensL : (((flatC (Jvm.Cond.and given_1 narrow_1))).drop 137).take 100 = (List.range 100).map (fun j => Cond.eq (.elem (.static "java/lang/Integer" "DigitTens" "[B") (.int (Int32.ofNat j))) (.int (nI (48 + j / 10)))) := by decide +kernel
theorem dOnes (j : Nat) (hj : j < 100) : Cond.eq (.elem (.static "java/lang/Integer" "DigitOnes" "[B") (.int (Int32.ofNat j))) (.int (nI (48 + j % 10))) ∈ (flatC (Jvm.Cond.and given_1 narrow_1)) := dl_at dOnesL hj
theorem dTens (j : Nat) (hj : j < 100) : Cond.eq (.elem (.static "java/lang/Integer" "DigitTens" "[B") (.int (Int32.ofNat j))) (.int (nI (48 + j / 10))) ∈ (flatC (Jvm.Cond.and given_1 narrow_1)) := dl_at dTensL hj
theorem st_NF : ∀ q ∈ xNF, Cond.fieldLinkNest q.1 q.2.1 q.2.2.1 q.2.2.2.1 q.2.2.2.2.1 q.2.2.2.2.2 ∈ lw_tbl := by decide +kernel
theorem st_NM : ∀ q ∈ xNM, Cond.methodLinkNest q.1 q.2.1 q.2.2.1 q.2.2.2 ∈ lw_tbl := by decide +kernel
theorem st_Ca : ∀ q ∈ xCa, Cond.castable q.1 q.2 ∈ lw_tbl := by decide +kernel
theorem st_Pv : ∀ y ∈ xPv, Cond.privateMethod y ∈ lw_tbl := by decide +kernel
theorem st_De : ∀ y ∈ xDe, Cond.declares y ∈ lw_tbl := by decide +kernel
theorem st_Fw : ∀ q ∈ xFw, Cond.declares q.2.1 ∈ lw_tbl ∧ Cond.interfaceMethod q.2.1.cls q.2.1.cls q.2.1.name q.2.1.desc ∈ lw_tbl ∧ Cond.publicMethod q.2.2 ∈ lw_tbl ∧ Cond.unhidden q.1 q.2.1.name q.2.1.desc ∈ lw_tbl ∧ Cond.castable q.1 q.2.1.cls ∈ lw_tbl := by decide +kernel
theorem st_Ls : ∀ q ∈ xSt, Cond.laysStatic q.1 q.2.1 q.2.2 ∈ lw_tbl ∧ Cond.initialized q.1 ∈ lw_tbl := by decide +kernel
theorem st_Zs : Cond.laysStatic Bundle.tN "UNASSIGNED_STACK" Bundle.steD ∈ lw_tbl ∧ Cond.laysStatic Bundle.tN "SUPPRESSED_SENTINEL" Bundle.listD ∈ lw_tbl ∧ Cond.initialized Bundle.tN ∈ lw_tbl ∧ Cond.isRef (.static Bundle.tN "UNASSIGNED_STACK" Bundle.steD) ∈ (flatC (Jvm.Cond.and given_1 narrow_1)) ∧ Cond.isRef (.static Bundle.tN "SUPPRESSED_SENTINEL" Bundle.listD) ∈ (flatC (Jvm.Cond.and given_1 narrow_1)) := by decide +kernel
theorem st_over {args : Array Value} {s : State} (h : (Cond.arrayOver (.array .long)).before args s = true) : (Cond.arrayOver (.array .long)).before #[] s = true := over_moved (Vm.Alike.refl s.vm) h
theorem st_priv {args : Array Value} {s : State} {y : MethodName} (h : (Cond.privateMethod y).before args s = true) : (Cond.privateMethod y).before #[] s = true := va_Nw.of rfl h
/-- the value of a static of which only 'a reference or null' is said -/
theorem st_ref {args : Array Value} {s : State} {C n d : String} {A : Nat → Prop} (hl : (Cond.laysStatic C n d).before args s = true) (hini : (Cond.initialized C).before args s = true) (h : (Cond.isRef (.static C n d)).before args s = true) (hA : ∀ a : Nat, a < s.heap.size → ¬ A a) : ∃ v : Value, va_Z C n d v A s s.heap := by
  rcases va_Zqof hl hini h hA with h | ⟨t, h⟩
  · exact ⟨_, h⟩
  · exact ⟨_, h⟩
set_option maxHeartbeats 4000000 in
theorem start_all {p : Program} {s : State} {m : MethodId} {meth : Method} {c : Code} {b L : Nat} {xs : Nat → Int32} (hL : L ≤ 448) (C0 : lw_At p s m meth c b L xs) : ∃ (D : Dx) (ev : Ev), (ev.1 = s.heap.size ∧ ev.2.1 = s.heap.size + 603072 ∧ ev.2.2.1 = xtot s.heap + 7194730) ∧ EvOk ev ∧ b < ev.1 ∧ ev.2.2.2.2 b = some (.inl (0, L, .inl fun j => if j < L then xs j else 0)) ∧ Kx D s.heap ev s := by
  obtain ⟨hx, hb, hr, hml, hown, hts, hX, hbl, hlocks, hgv⟩ := C0
  have hs := flat_of_before _ hgv
  have hta : ∀ w ∈ lw_all, w.before #[Value.ref b] s = true := fun w h => hts w (lw_all_tbl h)
  obtain ⟨d, hd⟩ := start_K hts
  obtain ⟨A, hAdef⟩ : ∃ A : Nat → Prop, A = fun a => s.heap.size ≤ a := ⟨_, rfl⟩
  have hA : ∀ a : Nat, a < s.heap.size → ¬ A a := fun a h q => by rw [hAdef] at q; exact absurd h (Nat.not_lt.mpr q)
  obtain ⟨a0, K0, p0, f0, g0, h0⟩ := Cond.arrayClass_spec (hta _ q233)
  obtain ⟨a1, K1, p1, f1, g1, h1⟩ := Cond.arrayClass_spec (hta _ q194)
  obtain ⟨a2, K2, p2, f2, g2, h2⟩ := Cond.arrayClass_spec (hta _ q195)
  obtain ⟨a3, K3, p3, f3, g3, h3⟩ := Cond.arrayClass_spec (hta _ q359)
  obtain ⟨p4, a4, K4, e4, -, g4, h4, f4⟩ := Cond.arrayOver_spec (hts _ q265)
  obtain ⟨p5, a5, K5, e5, -, g5, h5, f5⟩ := Cond.arrayOver_spec (hts _ q170)
  obtain ⟨a6, K6, p6, f6, g6, h6⟩ := over_arr (hts _ q177)
  have lenI : (Term.length (.static "java/lang/Integer$IntegerCache" "cache" "[Ljava/lang/Integer;")).eval #[Value.ref b] s none [] s = some (.int (Int32.ofNat 256)) := va_eqt (hs (.eq (.length (.static "java/lang/Integer$IntegerCache" "cache" "[Ljava/lang/Integer;")) (.int 256)) (by decide +kernel))
  obtain ⟨ad, hC, hadE⟩ := vb_Cof (A := A) (st := (.static "java/lang/Integer$IntegerCache" "cache" "[Ljava/lang/Integer;")) rfl lenI (hs _ (by decide +kernel)) hA
  obtain ⟨ic, hic, hTI⟩ := va_Tof (ty := .object "java/lang/Integer") (N := 256) (f := fun j => .ref (ad j)) (A := A) (by decide) (hs (.arrayOf (.static "java/lang/Integer$IntegerCache" "cache" "[Ljava/lang/Integer;") (.object "java/lang/Integer")) (by decide +kernel)) lenI hadE hA
  have lenL : (Term.length (.static "java/lang/Long$LongCache" "cache" "[Ljava/lang/Long;")).eval #[Value.ref b] s none [] s = some (.int (Int32.ofNat 256)) := va_eqt (hs (.eq (.length (.static "java/lang/Long$LongCache" "cache" "[Ljava/lang/Long;")) (.int 256)) (by decide +kernel))
  obtain ⟨al, hal⟩ := xl_Cof (A := A) (st := (.static "java/lang/Long$LongCache" "cache" "[Ljava/lang/Long;")) rfl lenL (hs _ (by decide +kernel)) hA
  obtain ⟨lc, hlc, hTL⟩ := va_Tof (ty := .object "java/lang/Long") (N := 256) (f := fun j => .ref (al j)) (A := A) (by decide) (hs (.arrayOf (.static "java/lang/Long$LongCache" "cache" "[Ljava/lang/Long;") (.object "java/lang/Long")) (by decide +kernel)) lenL (fun j hj => (hal j hj).1) hA
  obtain ⟨d1, hd1, hT1⟩ := va_Tof (ty := .byte) (tm := (.static "java/lang/Integer" "DigitOnes" "[B")) (N := 100) (f := fun j => .int (nI (48 + j % 10))) (A := A) (by decide) (hs (.arrayOf (.static "java/lang/Integer" "DigitOnes" "[B") .byte) (by decide +kernel)) (va_eqt (hs (.eq (.length (.static "java/lang/Integer" "DigitOnes" "[B")) (.int 100)) (by decide +kernel))) (fun j hj => va_eqt (hs _ (dOnes j hj))) hA
  obtain ⟨d2, hd2, hT2⟩ := va_Tof (ty := .byte) (tm := (.static "java/lang/Integer" "DigitTens" "[B")) (N := 100) (f := fun j => .int (nI (48 + j / 10))) (A := A) (by decide) (hs (.arrayOf (.static "java/lang/Integer" "DigitTens" "[B") .byte) (by decide +kernel)) (va_eqt (hs (.eq (.length (.static "java/lang/Integer" "DigitTens" "[B")) (.int 100)) (by decide +kernel))) (fun j hj => va_eqt (hs _ (dTens j hj))) hA
  obtain ⟨em, hem, hTE⟩ := va_Tof (ty := .object "java/lang/Object") (tm := (.static "java/util/ArrayList" "DEFAULTCAPACITY_EMPTY_ELEMENTDATA" "[Ljava/lang/Object;")) (N := 0) (f := fun _ => .null) (A := A) (by decide) (hs (.arrayOf (.static "java/util/ArrayList" "DEFAULTCAPACITY_EMPTY_ELEMENTDATA" "[Ljava/lang/Object;") (.object "java/lang/Object")) (by decide +kernel)) (va_eqt (hs (.eq (.length (.static "java/util/ArrayList" "DEFAULTCAPACITY_EMPTY_ELEMENTDATA" "[Ljava/lang/Object;")) (.int 0)) (by decide +kernel))) (fun j hj => absurd hj (Nat.not_lt_zero j)) hA
  obtain ⟨sk, sv, hSS, hSe⟩ := vk_Sof (args := #[Value.ref b]) (s := s) (N := 2) (tm := fun i => if i = 0 then .string "CellReducer" 75 else .string "CellReducer" 408) (len := [0, 1]) (byt := [[], [103]]) (A := A)
    (fun i hi => by match i, hi with | 0, _ => decide | 1, _ => decide)
    (fun i hi => by match i, hi with | 0, _ => exact hs _ (by decide +kernel) | 1, _ => exact hs _ (by decide +kernel))
    (fun i hi => by match i, hi with | 0, _ => exact hs _ (by decide +kernel) | 1, _ => exact hs _ (by decide +kernel))
    (fun i hi => by match i, hi with | 0, _ => exact hs _ (by decide +kernel) | 1, _ => exact hs _ (by decide +kernel))
    (fun i hi => by match i, hi with | 0, _ => exact hs _ (by decide +kernel) | 1, _ => exact hs _ (by decide +kernel))
    (fun i hi j hj => by match i, hi, j, hj with | 0, _, j, hj => exact absurd hj (Nat.not_lt_zero j) | 1, _, 0, _ => exact hs _ (by decide +kernel) | 1, _, j + 1, hj => exact absurd hj (by simp))
    (fun i j hi hj hne => by match i, j, hi, hj with | 0, 0, _, _ => exact absurd rfl hne | 0, 1, _, _ => exact Or.inl (hs _ (by decide +kernel)) | 1, 0, _, _ => exact Or.inr (hs _ (by decide +kernel)) | 1, 1, _, _ => exact absurd rfl hne) hA
  obtain ⟨el, _, _, _, hel, -⟩ := Cond.exactly_spec (hs (.exactly (.static "java/util/ImmutableCollections" "EMPTY_LIST" "Ljava/util/ImmutableCollections$ListN;") "java/util/ImmutableCollections$ListN") (by decide +kernel))
  have zs : ∀ q ∈ xSt, (Cond.laysStatic q.1 q.2.1 q.2.2).before #[Value.ref b] s = true ∧ (Cond.initialized q.1).before #[Value.ref b] s = true := fun q hq => ⟨hts _ (st_Ls q hq).1, hts _ (st_Ls q hq).2⟩
  obtain ⟨v12, z12⟩ := st_ref (A := A) (C := "java/lang/Throwable") (n := "SUPPRESSED_SENTINEL") (d := "Ljava/util/List;") (zs ("java/lang/Throwable", "SUPPRESSED_SENTINEL", "Ljava/util/List;") (by decide)).1 (zs ("java/lang/Throwable", "SUPPRESSED_SENTINEL", "Ljava/util/List;") (by decide)).2 (hs _ (by decide +kernel)) hA
  obtain ⟨v13, z13⟩ := st_ref (A := A) (C := "java/lang/Throwable") (n := "UNASSIGNED_STACK") (d := "[Ljava/lang/StackTraceElement;") (zs ("java/lang/Throwable", "UNASSIGNED_STACK", "[Ljava/lang/StackTraceElement;") (by decide)).1 (zs ("java/lang/Throwable", "UNASSIGNED_STACK", "[Ljava/lang/StackTraceElement;") (by decide)).2 (hs _ (by decide +kernel)) hA
  obtain ⟨v14, z14⟩ := st_ref (A := A) (C := "jdk/internal/util/Preconditions") (n := "SIOOBE_FORMATTER") (d := "Ljava/util/function/BiFunction;") (zs ("jdk/internal/util/Preconditions", "SIOOBE_FORMATTER", "Ljava/util/function/BiFunction;") (by decide)).1 (zs ("jdk/internal/util/Preconditions", "SIOOBE_FORMATTER", "Ljava/util/function/BiFunction;") (by decide)).2 (hs _ (by decide +kernel)) hA
  obtain ⟨ci, hci⟩ : ∃ cI : ClassId, ArrOfT s cI (xTy 7) := by
    obtain ⟨cell, q1, ⟨-, k, qk, comp, qkind⟩, -⟩ := hTI
    exact ⟨cell.cls, fun n z => ⟨(fun k h => by cases h), k, qk, comp, qkind⟩⟩
  obtain ⟨cl, hcl⟩ : ∃ cI : ClassId, ArrOfT s cI (xTy 8) := by
    obtain ⟨cell, q1, ⟨-, k, qk, comp, qkind⟩, -⟩ := hTL
    exact ⟨cell.cls, fun n z => ⟨(fun k h => by cases h), k, qk, comp, qkind⟩⟩
  obtain ⟨D, hD1, hD2⟩ : ∃ D : Dx, D.1 = d ∧ D.2 = fun k => [a0, a1, a2, a3, a4, a5, a6, ci, cl].getD k a0 := ⟨(d, _), rfl, rfl⟩
  have hKc : xKc D s := by rw [xKc, hD1]; exact hd
  obtain ⟨old, ho1, ho2⟩ := old_of hKc
  obtain ⟨st, hst⟩ : ∃ st : Nat → Value, st = fun k => if k = 100 then .ref (sk 0) else if k = 101 then .ref (sk 1) else ([.int 127, .ref ic, .ref lc, .int 1, .ref d1, .ref d2, .ref em, .int 0, .int 1, .int 1, .int 1, .ref el, v12, v13, v14] : List Value).getD k .null := ⟨_, rfl⟩
  refine ⟨D, (s.heap.size, s.heap.size + 603072, xtot s.heap + 7194730, st, old), ⟨rfl, rfl, rfl⟩, ?_, hbl, ?_, ?_⟩
  · have e1 : old ic = some (.inl (7, 256, .inr (.inr (.inr (.inr fun j => if j < 256 then some (ad j) else none))))) := ho2 _ _ (xro_T (κ := 7) hTI rfl (fun j hj => by simp [xval, hj, va_rf])) ⟨by show (256 : Nat) < 2 ^ 31; decide, Or.inr ⟨_, rfl, Or.inr (Or.inl rfl), fun j hj => if_neg (Nat.not_lt.mpr hj)⟩⟩
    have e2 : ∀ j : Nat, j < 256 → old (ad j) = some (.inr (15, [.int (vb_c j)])) := fun j hj => ho2 _ _ (xro_ob hKc (r := (RJ32, TJ32, 1)) rfl (hC.1 j hj) (by decide) (fun k v hk hv => by match k, hk with | 0, _ => cases hv; exact hC.2 j hj)) (Or.inr (Or.inl ⟨rfl, rfl⟩))
    have e3 : old lc = some (.inl (8, 256, .inr (.inr (.inr (.inr fun j => if j < 256 then some (al j) else none))))) := ho2 _ _ (xro_T (κ := 8) hTL rfl (fun j hj => by simp [xval, hj, va_rf])) ⟨by show (256 : Nat) < 2 ^ 31; decide, Or.inr ⟨_, rfl, Or.inr (Or.inr rfl), fun j hj => if_neg (Nat.not_lt.mpr hj)⟩⟩
    have e4 : ∀ j : Nat, j < 256 → old (al j) = some (.inr (16, [.long (vb_c j).toInt64])) := fun j hj => ho2 _ _ (xro_ob hKc (r := (RJ31, TJ31, 1)) rfl (hal j hj).2.1 (by decide) (fun k v hk hv => by match k, hk with | 0, _ => cases hv; exact (hal j hj).2.2)) (Or.inr (Or.inr ⟨rfl, rfl⟩))
    have e5 : old d1 = some (.inl (3, 100, .inl fun j => if j < 100 then nI (48 + j % 10) else 0)) := ho2 _ _ (xro_T (κ := 3) hT1 rfl (fun j hj => by simp [xval, hj])) ⟨by show (100 : Nat) < 2 ^ 31; decide, Or.inl ⟨_, rfl, Or.inr rfl, fun j hj => if_neg (Nat.not_lt.mpr hj)⟩⟩
    have e6 : old d2 = some (.inl (3, 100, .inl fun j => if j < 100 then nI (48 + j / 10) else 0)) := ho2 _ _ (xro_T (κ := 3) hT2 rfl (fun j hj => by simp [xval, hj])) ⟨by show (100 : Nat) < 2 ^ 31; decide, Or.inl ⟨_, rfl, Or.inr rfl, fun j hj => if_neg (Nat.not_lt.mpr hj)⟩⟩
    have e7 : old em = some (.inl (4, 0, .inr (.inr (.inr (.inr fun _ => none))))) := ho2 _ _ (xro_T (κ := 4) hTE rfl (fun j hj => absurd hj (Nat.not_lt_zero j))) ⟨by show (0 : Nat) < 2 ^ 31; decide, Or.inr ⟨_, rfl, Or.inl rfl, fun j hj => rfl⟩⟩
    have e8 : ∀ i : Nat, i < 2 → old (sk i) = some (.inr (14, [.ref (sv i), .int 0])) := fun i hi => ho2 _ _ (xro_ob hKc (r := (RJ15, TJ15, 4)) rfl (hSS.1 i hi).1 (by decide) (fun k v hk hv => by
      match k, hk with
      | 0, _ => cases hv; exact (hSS.1 i hi).2.2.1
      | 1, _ => cases hv; exact (hSS.1 i hi).2.1
      | 2, _ => cases hv
      | 3, _ => cases hv)) (Or.inl ⟨rfl, rfl⟩)
    have e9 : old (sv 0) = some (.inl (3, 0, .inl fun _ => 0)) := ho2 _ _ (xro_T (κ := 3) (N := 0) (hSS.1 0 (by decide)).2.2.2 rfl (fun j hj => absurd hj (Nat.not_lt_zero j))) ⟨by show (0 : Nat) < 2 ^ 31; decide, Or.inl ⟨_, rfl, Or.inr rfl, fun j hj => rfl⟩⟩
    have e10 : old (sv 1) = some (.inl (3, 1, .inl fun j => if j < 1 then 103 else 0)) := ho2 _ _ (xro_T (κ := 3) (N := 1) (hSS.1 1 (by decide)).2.2.2 rfl (fun j hj => by have hj : j < 1 := hj; obtain rfl : j = 0 := Nat.lt_one_iff.mp hj; rfl)) ⟨by show (1 : Nat) < 2 ^ 31; decide, Or.inl ⟨_, rfl, Or.inr rfl, fun j hj => if_neg (Nat.not_lt.mpr hj)⟩⟩
    subst hst
    have x1 : ∀ j : Nat, j < 256 → xel (s.heap.size, s.heap.size + 603072, xtot s.heap + 7194730, (fun k => if k = 100 then .ref (sk 0) else if k = 101 then .ref (sk 1) else ([.int 127, .ref ic, .ref lc, .int 1, .ref d1, .ref d2, .ref em, .int 0, .int 1, .int 1, .int 1, .ref el, v12, v13, v14] : List Value).getD k .null), old) ic j = ad j := fun j hj => by simp [xel, e1, hj]
    have x2 : ∀ j : Nat, j < 256 → xel (s.heap.size, s.heap.size + 603072, xtot s.heap + 7194730, (fun k => if k = 100 then .ref (sk 0) else if k = 101 then .ref (sk 1) else ([.int 127, .ref ic, .ref lc, .int 1, .ref d1, .ref d2, .ref em, .int 0, .int 1, .int 1, .int 1, .ref el, v12, v13, v14] : List Value).getD k .null), old) lc j = al j := fun j hj => by simp [xel, e3, hj]
    refine ⟨⟨rfl, rfl, rfl, rfl, rfl, rfl, rfl, rfl, rfl, rfl, rfl, rfl, rfl, rfl⟩, ?_, fun j hj => ?_, ?_, fun j hj => ?_, e5, e6, e7, ?_, ?_, ?_, ?_, fun a e h => xro_lt (ho1 a e h)⟩
    · show old ic = _
      rw [e1]
      refine congrArg (fun f : Nat → Option Nat => some (Sum.inl (7, 256, Sum.inr (Sum.inr (Sum.inr (Sum.inr f)))))) (funext fun j => ?_)
      by_cases hj : j < 256
      · simp only [hj, if_true]; exact congrArg some (x1 j hj).symm
      · simp only [hj, if_false]
    · show old (xel _ ic j) = _
      rw [x1 j hj]
      exact e2 j hj
    · show old lc = _
      rw [e3]
      refine congrArg (fun f : Nat → Option Nat => some (Sum.inl (8, 256, Sum.inr (Sum.inr (Sum.inr (Sum.inr f)))))) (funext fun j => ?_)
      by_cases hj : j < 256
      · simp only [hj, if_true]; exact congrArg some (x2 j hj).symm
      · simp only [hj, if_false]
    · show old (xel _ lc j) = _
      rw [x2 j hj]
      exact e4 j hj
    · show old (sk 0) = some (.inr (14, [.ref (xvl _ (sk 0)), .int 0]))
      simp [xvl, e8 0 (by decide), xrf]
    · show old (xvl _ (sk 0)) = _
      simp [xvl, e8 0 (by decide), xrf, e9]
    · show old (sk 1) = some (.inr (14, [.ref (xvl _ (sk 1)), .int 0]))
      simp [xvl, e8 1 (by decide), xrf]
    · show old (xvl _ (sk 1)) = _
      simp [xvl, e8 1 (by decide), xrf, e10]
  · refine ho2 b _ ?_ ⟨by show L < 2 ^ 31; omega, Or.inl ⟨_, rfl, Or.inl rfl, fun j hj => if_neg (Nat.not_lt.mpr hj)⟩⟩
    obtain ⟨scr, q1, q2, q3, q4, q5⟩ := hX
    exact ⟨scr, q1, q2, q3, ⟨Nat.le_of_eq q4.symm, by rw [q4]⟩, fun j hj => by rw [q5 j hj]; simp [xval, show j < L from hj]⟩
  · have hAe : A = fun a => s.heap.size ≤ a := hAdef
    subst hAe
    refine ⟨⟨hKc, fun k q hq => ?_⟩, fun q hq => va_Nw.of rfl (hts _ (st_NF q hq)), fun q hq => va_Nw.of rfl (hts _ (st_NM q hq)), va_AO.of (hts _ q170), ⟨va_AO.of (hts _ q265), st_over (hts _ q177), fun k q hq => ?_, fun y hy => st_priv (hts _ (st_Pv y hy)), fun y hy => va_Nw.of rfl (hts _ (st_De y hy)), fun w hw hc => va_Nw.of (xcd_ot hc) (hts w hw), vx_Zqof (hts _ st_Zs.1) (hts _ st_Zs.2.2.1) (hs _ st_Zs.2.2.2.1) hA, vx_Zqof (hts _ st_Zs.2.1) (hts _ st_Zs.2.2.1) (hs _ st_Zs.2.2.2.2) hA, va_Nc.of (hs _ (by decide +kernel))⟩, fun q hq => va_Nw.of rfl (hts _ (st_Ca q hq)), fun q hq => va_Fw.of (hts _ (st_Fw q hq).1) (hts _ (st_Fw q hq).2.1) (hts _ (st_Fw q hq).2.2.1) (hts _ (st_Fw q hq).2.2.2.1) (hts _ (st_Fw q hq).2.2.2.2), fun k q hq => ?_, ⟨by rw [hD2]; exact hci, by rw [hD2]; exact hcl⟩, ho1⟩
    · rw [xTys, hD2] at hq
      match k, hq with
      | 0, hq => cases hq; exact ⟨fun n z => ⟨(fun k h => by cases h), K0, g0, p0, h0⟩, f0⟩
      | 1, hq => cases hq; exact ⟨fun n z => ⟨(fun k h => by cases h), K1, g1, p1, h1⟩, f1⟩
      | 2, hq => cases hq; exact ⟨fun n z => ⟨(fun k h => by cases h), K2, g2, p2, h2⟩, f2⟩
      | 3, hq => cases hq; exact ⟨fun n z => ⟨(fun k h => by cases h), K3, g3, p3, h3⟩, f3⟩
      | 4, hq => cases hq; exact ⟨fun n z => ⟨(fun k h => by cases h), K4, g4, p4, h4⟩, K4, p4, g4, h4, e4, f4⟩
      | 5, hq => cases hq; exact ⟨fun n z => ⟨(fun k h => by cases h), K5, g5, p5, h5⟩, K5, p5, g5, h5, e5, f5⟩
      | 6, hq => cases hq; exact ⟨fun n z => ⟨(fun k h => by cases h), K6, g6, p6, h6⟩, f6⟩
      | k + 7, hq => simp at hq
    · match k, hq with
      | 0, hq => cases hq; exact ⟨sk 0, by rw [hst]; rfl, vk_R.of (hts _ q278) (hSe 0 (by decide))⟩
      | 1, hq => cases hq; exact ⟨sk 1, by rw [hst]; rfl, vk_R.of (hts _ q2492) (hSe 1 (by decide))⟩
      | k + 2, hq => simp [xLd] at hq
    · have zz := zs q (List.mem_of_getElem? hq)
      rw [hst]
      match k, hq with
      | 0, hq => cases hq; exact va_Zof zz.1 zz.2 (va_eqi (hs _ (by decide +kernel))) hA
      | 1, hq => cases hq; exact va_Zof zz.1 zz.2 hic hA
      | 2, hq => cases hq; exact va_Zof zz.1 zz.2 hlc hA
      | 3, hq => cases hq; exact va_Zof zz.1 zz.2 (va_eqi (hs _ (by decide +kernel))) hA
      | 4, hq => cases hq; exact va_Zof zz.1 zz.2 hd1 hA
      | 5, hq => cases hq; exact va_Zof zz.1 zz.2 hd2 hA
      | 6, hq => cases hq; exact va_Zof zz.1 zz.2 hem hA
      | 7, hq => cases hq; exact va_Zof zz.1 zz.2 (va_eqi (hs _ (by decide +kernel))) hA
      | 8, hq => cases hq; exact va_Zof zz.1 zz.2 (va_eqi (hs _ (by decide +kernel))) hA
      | 9, hq => cases hq; exact va_Zof zz.1 zz.2 (va_eqi (hs _ (by decide +kernel))) hA
      | 10, hq => cases hq; exact va_Zof zz.1 zz.2 (va_eqi (hs _ (by decide +kernel))) hA
      | 11, hq => cases hq; exact va_Zof zz.1 zz.2 hel hA
      | 12, hq => cases hq; exact z12
      | 13, hq => cases hq; exact z13
      | 14, hq => cases hq; exact z14
      | k + 15, hq => simp [xSt] at hq
