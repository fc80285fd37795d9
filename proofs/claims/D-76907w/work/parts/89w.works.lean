/-! OPERATION works -/
/-- cells, line, log -/
abbrev Wk : Type := (Nat → Nat → Int64) × (Nat × (Nat → Nat)) × (Nat × (Nat → Nat))
def wk1 (z : Wk) : Wk := let c := z.2.1.2 0; if stV (z.1 c) = 0 then (z.1, (z.2.1.1 - 1, fun i => z.2.1.2 (i + 1)), z.2.2) else (fun k => if k = c then goV (z.1 c) else z.1 k, (z.2.1.1, fun i => if i = z.2.1.1 - 1 then c else z.2.1.2 (i + 1)), lgA z.2.2 (10 * c + stV (z.1 c)))
def wkd (z : Wk) : Nat := if stV (z.1 (z.2.1.2 0)) = 0 then 0 else 1
def wkN : Nat → Wk → Wk × Nat
  | 0, z => (z, 0)
  | d + 1, z => if z.2.1.1 = 0 then (z, 0) else ((wkN d (wk1 z)).1, wkd z + (wkN d (wk1 z)).2)
def WC (ev : Ev) (w : Wd) (z : Wk) (M n' : Nat) (ad' : Nat → Nat) : Prop := (∀ c : Nat, c < M → cv w (3 + 2 * c) = z.1 c) ∧ (∃ h : Nat, DQ ev w 38 h z.2.1.1 z.2.1.2) ∧ (∀ i : Nat, i < z.2.1.1 → z.2.1.2 i < M) ∧ Ls ev w z.2.2 n' ad'
def WM (w : Wd) (z : Wk) (M : Nat) : Prop := (∀ c : Nat, c < M → sl w c = z.1 c) ∧ QM w 6 971 z.2.1.1 z.2.1.2 M ∧ LM w 4 969 z.2.2.1 z.2.2.2
section XWK
variable {ev : Ev} {w w' w'' : Wd} {fu k n t h c j M T n' N C F : Nat} {x : Int32} {qs ad' p : Nat → Nat} {K : Option Nat} {V : Nat → Int64} {z : Wk}
theorem FrX_setCk (hk : k < 6) : FrX [11] w (setC w (3 + 2 * k) V) := ⟨fun _ _ _ _ => rfl, fun _ _ _ _ => rfl, fun q hq _ i => by rw [row983C (by omega)], ⟨fun _ j hj => by rw [cv_ne (by omega)], fun _ j hj => by rw [sl_setC (by omega)]⟩, ⟨fun y => absurd (by decide) y, fun _ j hj => by rw [sl_setC (by omega)]⟩, fun _ j hj => ⟨by rw [cv_ne (by omega)], by rw [sl_setC (by omega)]⟩⟩
theorem FrX_setSk (hk : k < 6) : FrX [21] w (setS w k V) := ⟨fun _ _ _ _ => rfl, fun _ _ _ _ => rfl, fun q hq _ i => by rw [row983S], ⟨fun _ j hj => by rw [cv_setS (by omega)], fun _ j hj => by rw [sl_ne (by omega)]⟩, ⟨fun _ j hj => by rw [cv_setS (by omega)], fun y => absurd (by decide) y⟩, fun _ j hj => ⟨by rw [cv_setS (by omega)], by rw [sl_ne (by omega)]⟩⟩
theorem wkd_le : wkd z ≤ 1 := by unfold wkd; split <;> omega
theorem wkN_le : ∀ (d : Nat) (z : Wk), (wkN d z).2 ≤ d := by
  intro d
  induction d with
  | zero => intro z; exact Nat.le_refl _
  | succ d ih =>
    intro z
    unfold wkN
    split
    · omega
    · have := ih (wk1 z)
      have := wkd_le (z := z)
      show wkd z + (wkN d (wk1 z)).2 ≤ d + 1
      omega
theorem Lx_wk (hE : EvOk ev) (hf : 20 ≤ fu) (hM6 : M ≤ 6) (hN : N < 2 ^ 31) : ∀ (d f k : Nat) (w : Wd) (z : Wk) (x : Int32), k + d = N → WC ev w z M n' ad' → (∀ c : Nat, c < M → Mk (z.1 c)) → (∀ j : Nat, j < n' → ad' j < szW w) → d < f → ev.1 + 984 ≤ szW w → szW w + d ≤ ev.2.1 → slW w + 3 * d ≤ ev.2.2.1 →
    ∃ w' : Wd, L_X0_works_18 fu ev f (mem ev w) ev.1 (nI N) x (nI k) = some (x + nI (wkN d z).2, mem ev w') ∧ WC ev w' (wkN d z).1 M n' ad' ∧ FrX [4, 10, 6, 11] w w' ∧ FrK n' ad' w w' ∧ w'.2.1 0 5 = w.2.1 0 5 + nI (wkN d z).2 ∧ szW w' ≤ szW w + d ∧ slW w' ≤ slW w + 3 * d := by
  have hr : Hq 38 := Or.inl rfl
  intro d
  induction d with
  | zero =>
    intro f k w z x hk hW hmk hs hf h0 h1 h2
    obtain ⟨g, rfl⟩ : ∃ g, f = g + 1 := ⟨f - 1, by omega⟩
    refine ⟨w, ?_, hW, FrX_refl, FrK_refl, by show _ = _ + nI 0; rw [nI_0, Int32.add_zero], by omega, by omega⟩
    show b_X0_works_18 _ fu ev _ _ _ _ _ = some (x + nI 0, _)
    unfold b_X0_works_18
    rw [if_pos (nI_le (by omega) (by omega)), nI_0, Int32.add_zero]
    rfl
  | succ d ih =>
    intro f k w z x hk hW hmk hs hf h0 h1 h2
    obtain ⟨g, rfl⟩ : ∃ g, f = g + 1 := ⟨f - 1, by omega⟩
    obtain ⟨hc, ⟨h, hQ⟩, hB, hL⟩ := hW
    have ie := dq_isEmpty (fu := fu) hr hQ
    have hd0 : L_X0_works_18 fu ev (g + 1) (mem ev w) ev.1 (nI N) x (nI k) = if (if z.2.1.1 = 0 then (1 : Int32) else 0) = 0 then b_X0_works_33 (L_X0_works_18 fu ev g) fu ev (mem ev w) ev.1 (nI N) x (nI k) else some (x, mem ev w) := by
      show b_X0_works_18 _ fu ev _ _ _ _ _ = _
      unfold b_X0_works_18
      rw [if_neg (nI_ge (by omega) (by omega))]
      unfold b_X0_works_23
      rw [xf16, Option.bind_some, Option.bind_some, qIs hr, Option.bind_some, ie]
      rfl
    by_cases hz : z.2.1.1 = 0
    · have e5 : wkN (d + 1) z = (z, 0) := by
        show (if z.2.1.1 = 0 then (z, 0) else _) = _
        rw [if_pos hz]
      rw [e5]
      refine ⟨w, ?_, ⟨hc, ⟨h, hQ⟩, hB, hL⟩, FrX_refl, FrK_refl, by show _ = _ + nI 0; rw [nI_0, Int32.add_zero], by omega, by omega⟩
      rw [hd0, if_pos hz, if_neg (by decide)]
      show some (x, _) = some (x + nI 0, _)
      rw [nI_0, Int32.add_zero]
    · have e5 : wkN (d + 1) z = ((wkN d (wk1 z)).1, wkd z + (wkN d (wk1 z)).2) := by
        show (if z.2.1.1 = 0 then (z, 0) else _) = _
        rw [if_neg hz]
      rw [hd0, if_neg hz, if_pos rfl, e5]
      obtain ⟨m, hm⟩ : ∃ m, z.2.1.1 = m + 1 := ⟨z.2.1.1 - 1, by omega⟩
      obtain ⟨c, hcc⟩ : ∃ c, z.2.1.2 0 = c := ⟨_, rfl⟩
      have hcM : c < M := by rw [← hcc]; exact hB 0 (by omega)
      obtain ⟨v, hv⟩ : ∃ v, z.1 c = v := ⟨_, rfl⟩
      have mv : Mk v := by rw [← hv]; exact hmk c hcM
      have h9 := st_lt9 v
      rw [hm] at hQ
      obtain ⟨wa, a1, a2, a3⟩ := dq_removeFirst (fu := fu) hr hE hQ
      rw [hcc] at a1
      have fa := FrX_Q38 a3
      obtain ⟨t, e⟩ := X1_steps (ev := ev) (w := wa) (c := 3 + 2 * c) (by omega) (show 10 ≤ fu by omega)
      rw [cv_row a3.1, hc c hcM, hv] at e
      obtain ⟨wb, hwb⟩ : ∃ wb, wb = setC (setT wa (3 + 2 * c) t) (3 + 2 * c) (goV v) := ⟨_, rfl⟩
      rw [← hwb] at e
      have fb : FrX [11] wa wb := by
        rw [hwb]
        exact FrX_trans (FrX_Sq (Sq_setT (by omega))) (FrX_setCk (by omega)) (by decide) (by decide)
      have db : wb.2.2.2 = w.2.2.2 := by
        rw [hwb]
        show wa.2.2.2 = _
        rw [a3.2.2.2]
      have zb : szW wb = szW w := by unfold szW; rw [db]
      have yb : slW wb = slW w := by unfold slW; rw [db]
      have fab : FrX [6, 11] w wb := FrX_trans fa fb (by decide) (by decide)
      have cb : ∀ l : Nat, l < M → cv wb (3 + 2 * l) = if l = c then goV v else z.1 l := by
        intro l hl
        rw [hwb]
        by_cases el : l = c
        · rw [el, if_pos rfl, cv_mk (Mk_go mv)]
        · rw [if_neg el, cv_ne (by omega), cv_setT, cv_row a3.1, hc l hl]
      have hd1 : b_X0_works_33 (L_X0_works_18 fu ev g) fu ev (mem ev w) ev.1 (nI N) x (nI k) = if nI (stV v) ≤ 0 then b_X0_works_88 (L_X0_works_18 fu ev g) fu ev (mem ev wb) ev.1 (nI N) x (nI k) else b_X0_works_65 (L_X0_works_18 fu ev g) fu ev (mem ev wb) ev.1 (nI N) x (nI k) (nI c) (nI (stV v)) := by
        unfold b_X0_works_33
        rw [xf16, Option.bind_some, Option.bind_some, qIs hr, Option.bind_some, a1]
        show (ckC (mem ev wa) (some (ia ev c)) "java/lang/Integer").bind _ = _
        rw [ia_ck hE (by omega), Option.bind_some]
        show (isC (mem ev wa) (ia ev c) 15).bind _ = _
        rw [ia_is hE (by omega), Option.bind_some, ia_val hE (by omega)]
        show (gfA (mem ev wa) ev.1 0 0).bind _ = _
        rw [xf0, Option.bind_some, Option.bind_some, xcells (by omega), Option.bind_some, Option.bind_some, cis (by omega), Option.bind_some, e]
        rfl
      have Qb : DQ ev wb 38 ((h + 1) % 17) m (fun i => z.2.1.2 (i + 1)) := DQ38_x a2 fb (by decide)
      have Lb : Ls ev wb z.2.2 n' ad' := Ls_x hL fab (by decide) db
      by_cases h00 : stV v = 0
      · have ek : wk1 z = (z.1, (z.2.1.1 - 1, fun i => z.2.1.2 (i + 1)), z.2.2) := by
          show (if stV (z.1 (z.2.1.2 0)) = 0 then _ else _) = _
          rw [hcc, hv, if_pos h00]
        have ed : wkd z = 0 := by unfold wkd; rw [hcc, hv, if_pos h00]
        have gv : goV v = v := goV_0 h00
        obtain ⟨w', r1, r2, r3, r4, r5, r6, r7⟩ := ih g (k + 1) wb (wk1 z) x (by omega) (by
            rw [ek]
            refine ⟨fun l hl => ?_, ⟨(h + 1) % 17, ?_⟩, fun i hi => ?_, Lb⟩
            · rw [cb l hl, gv]
              split
              · rename_i el; rw [el, hv]
              · rfl
            · show DQ ev wb 38 _ (z.2.1.1 - 1) _
              rw [hm]
              exact Qb
            · have hi' : i < z.2.1.1 - 1 := hi
              exact hB (i + 1) (by omega)) (by rw [ek]; exact hmk) (fun j hj => by rw [zb]; exact hs j hj) (by omega) (by omega) (by omega) (by omega)
        refine ⟨w', ?_, r2, FrX_trans fab r3 (by decide) (by decide), FrK_trans (FrK_eq db) r4, ?_, by omega, by omega⟩
        · rw [hd1, h00, if_pos (by decide), ed, Nat.zero_add]
          unfold b_X0_works_88
          rw [nI_1]
          exact r1
        · rw [r5, fab.1 0 5 (by decide) (by decide), ed, Nat.zero_add]
      · have ek : wk1 z = (fun k => if k = c then goV v else z.1 k, (z.2.1.1, fun i => if i = z.2.1.1 - 1 then c else z.2.1.2 (i + 1)), lgA z.2.2 (10 * c + stV v)) := by
          show (if stV (z.1 (z.2.1.2 0)) = 0 then _ else _) = _
          rw [hcc, hv, if_neg h00]
        have ed : wkd z = 1 := by unfold wkd; rw [hcc, hv, if_neg h00]
        obtain ⟨wl, g1, ls1, g3, g4, g5, g6, g7, g8⟩ := cl_log (fu := fu) (k := c) (t := stV v) hE Lb (fun j hj => by rw [zb]; exact hs j hj) (by omega) (by omega) (by omega) (by omega) (by omega)
        have vo := ia_of (w := wl) (fu := fu) (k := c) hE (by omega)
        obtain ⟨wq, q1, q2, q3⟩ := dq_addLast (fu := fu) (q := c) hr hE (DQ38_x Qb g3 (by decide)) (by have := Qb.2.1; have := hQ.2.1; omega) (by omega)
        have fq := FrX_Q38 q3
        have zq : szW wq = szW wl := by unfold szW; rw [q3.2.2.2]
        have yq : slW wq = slW wl := by unfold slW; rw [q3.2.2.2]
        obtain ⟨w', r1, r2, r3, r4, r5, r6, r7⟩ := ih g (k + 1) wq (wk1 z) (x + 1) (by omega) (by
            rw [ek]
            refine ⟨fun l hl => ?_, ⟨(h + 1) % 17, ?_⟩, fun i hi => ?_, Ls_x ls1 fq (by decide) q3.2.2.2⟩
            · rw [cv_row q3.1, cv_row g5, cb l hl]
            · show DQ ev wq 38 _ z.2.1.1 (fun i => if i = z.2.1.1 - 1 then c else z.2.1.2 (i + 1))
              rw [hm]
              exact q2
            · show (if i = z.2.1.1 - 1 then c else z.2.1.2 (i + 1)) < M
              have hi' : i < z.2.1.1 := hi
              split
              · exact hcM
              · exact hB (i + 1) (by omega)) (by
            rw [ek]
            intro l hl
            show Mk (if l = c then goV v else z.1 l)
            split
            · exact Mk_go mv
            · exact hmk l hl) (fun j hj => by have := hs j hj; omega) (by omega) (by omega) (by omega) (by omega)
        refine ⟨w', ?_, r2, FrX_trans (FrX_trans (U := [4, 10, 6, 11]) fab (FrX_trans (U := [4, 10, 6]) g3 fq (by decide) (by decide)) (by decide) (by decide)) r3 (by decide) (by decide), FrK_trans (FrK_trans (FrK_eq db) (FrK_trans g4 (FrK_eq q3.2.2.2))) r4, ?_, by omega, by omega⟩
        · rw [hd1, if_neg (nI_nle (by omega) (by omega))]
          unfold b_X0_works_65
          rw [xis, Option.bind_some, g1]
          show (gfA (mem ev wl) ev.1 0 16).bind _ = _
          rw [xf16, Option.bind_some, vo]
          show (isC (mem ev wl) (ev.1 + 38) 8).bind _ = _
          rw [qIs hr, Option.bind_some, q1]
          show b_X0_works_88 (L_X0_works_18 fu ev g) fu ev (mem ev wq) ev.1 (nI N) (x + 1) (nI k) = _
          unfold b_X0_works_88
          rw [nI_1, r1, ed, Int32.add_assoc, show (1 : Int32) = nI 1 from rfl, nI_add]
        · rw [r5, fq.1 0 5 (by decide) (by decide), g6, fab.1 0 5 (by decide) (by decide), ed, Int32.add_assoc, show (1 : Int32) = nI 1 from rfl, nI_add]
end XWK
