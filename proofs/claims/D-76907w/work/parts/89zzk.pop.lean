/-! OPERATION prints -/
section XPO
variable {ev : Ev} {w wq w1 w2 w3 w' : Wd} {fu n k i m j c M T a b L : Nat} {K : Option Nat} {g G tx : Nat → Int32} {x u z : Int32} {v : Nat → Int64} {qs : Nat → Nat}
theorem X2_n_k {K : Nat} (h : K < 26) (hk : k < 6) : f_X2_n fu ev (mem ev w) (ev.1 + 966) (nI K) (nI k) = some (sl w K k, mem ev w) := by
  match k, hk with
  | 0, _ => exact X2_n_0 h
  | 1, _ => exact X2_n_1 h
  | 2, _ => exact X2_n_2 h
  | 3, _ => exact X2_n_3 h
  | 4, _ => exact X2_n_4 h
  | 5, _ => exact X2_n_5 h
theorem OkV_mg (h : OkV v) : ∀ i : Nat, i < 6 → mgN (v i) < 1000000 := by
  obtain ⟨g, a0, a1, a2⟩ := h
  obtain ⟨b0, b1, b2, b3, b4, b5⟩ := GdV_b g
  have q := PD_abs g.1
  simp only [I6] at q
  intro i hi
  unfold mgN
  match i, hi with
  | 0, _ => omega
  | 1, _ => omega
  | 2, _ => omega
  | 3, _ => omega
  | 4, _ => omega
  | 5, _ => omega
theorem mp_l {K : Nat} {x1 x2 : Int32} (hf : 10 ≤ fu) (hK : K < 26) (hx : (x2 = 1 ∧ K = 6) ∨ (¬ x2 = 1 ∧ x1 = nI K)) (hv : ∀ i : Nat, i < 6 → mgN (v i) < 1000000) : ∀ (d k g : Nat) (w : Wd), k + d = 6 → d < g → MT w (txN v k).1 (txN v k).2 → (∀ i : Nat, i < 6 → sl w K i = v i) → ∃ w' : Wd, L_X2_prints_111 fu ev g (mem ev w) (ev.1 + 966) x1 x2 (nI k) = some (nI (txN v 6).1, mem ev w') ∧ MT w' (txN v 6).1 (txN v 6).2 ∧ Ri PP w w' := by
  intro d
  induction d with
  | zero =>
    intro k g w hk hg hT hs
    obtain ⟨g, rfl⟩ : ∃ g', g = g' + 1 := ⟨g - 1, by omega⟩
    obtain rfl : k = 6 := by omega
    refine ⟨w, ?_, hT, Ri_refl⟩
    show b_X2_prints_111 _ fu ev _ _ _ _ _ = _
    unfold b_X2_prints_111 b_X2_prints_149
    rw [if_pos (by decide), mi26, hT.1]
    rfl
  | succ d ih =>
    intro k g w hk hg hT hs
    obtain ⟨g, rfl⟩ : ∃ g', g = g' + 1 := ⟨g - 1, by omega⟩
    have k6 : k < 6 := by omega
    have n6 : ¬ (6 : Int32) ≤ nI k := fun z => absurd ((s_le (i := 6) (by decide) (by omega)).mp z) (by omega)
    have tl := tx_le (v := v) k
    have s1 := sgN_1 (x := v k)
    have kd := kdN_6 (m := mgN (v k))
    obtain ⟨w1, a1, a2, a3⟩ := p_put (fu := fu) (ev := ev) (x := 32) hT (by omega)
    obtain ⟨w2, b1, b2, b3⟩ := p_num (fu := fu) (ev := ev) (v := v k) hf (hv k k6) a2 (by omega)
    have e6 : (txN v (k + 1)).1 = (txN v k).1 + 1 + (sgN (v k) + kdN (mgN (v k))) := rfl
    have T2 : MT w2 (txN v (k + 1)).1 (txN v (k + 1)).2 := by
      refine MT_ext (show MT w2 (txN v (k + 1)).1 _ from b2) (fun i hi => ?_)
      show _ = if i < (txN v k).1 then (txN v k).2 i else if i < (txN v k).1 + 1 then nI 32 else if i < (txN v k).1 + 1 + sgN (v k) then nI 45 else nI (48 + mgN (v k) / 10 ^ ((txN v k).1 + 1 + (sgN (v k) + kdN (mgN (v k))) - 1 - i) % 10)
      by_cases x1 : i < (txN v k).1
      · rw [if_pos (by omega), if_neg (by omega), if_pos x1]
      · by_cases x2 : i < (txN v k).1 + 1
        · rw [if_pos x2, if_pos (by omega), if_neg x1, if_pos x2]
          rfl
        · rw [if_neg x2, if_neg x1, if_neg x2]
    have hs1 : sl w1 K k = v k := by rw [sl_row a3.1]; exact hs k k6
    obtain ⟨w3, c1, c2, c3⟩ := ih (k + 1) g w2 (by omega) (by omega) T2 (fun i hi => by rw [sl_row b3.1, sl_row a3.1]; exact hs i hi)
    refine ⟨w3, ?_, c2, PP_t a3 (PP_t b3 c3)⟩
    rw [← c1]
    show b_X2_prints_111 _ fu ev _ _ _ _ _ = _
    unfold b_X2_prints_111
    rw [if_neg n6]
    unfold b_X2_prints_117
    rw [mis, Option.bind_some, a1, b2s]
    rcases hx with ⟨h1, h2⟩ | ⟨h1, h2⟩
    · rw [if_pos h1]
      unfold b_X2_prints_130 b_X2_prints_136
      rw [mis, Option.bind_some, show (6 : Int32) = nI K by rw [h2]; rfl, X2_n_k hK k6, b2s, mis, Option.bind_some, hs1, b1, b2s, nI_1]
    · rw [if_neg h1]
      unfold b_X2_prints_135 b_X2_prints_136
      rw [mis, Option.bind_some, h2, X2_n_k hK k6, b2s, mis, Option.bind_some, hs1, b1, b2s, nI_1]
theorem ml_l (hn : n ≤ 30) : ∀ (d i g : Nat) (w : Wd), i + d = n → d < g → MT w (2 * i) (txL qs) → LM w 4 969 n qs → ∃ w' : Wd, L_X2_prints_39 fu ev g (mem ev w) (ev.1 + 966) (nI i) = some (nI (2 * n), mem ev w') ∧ MT w' (2 * n) (txL qs) ∧ Ri PP w w' := by
  intro d
  induction d with
  | zero =>
    intro i g w hi hg hT hL
    obtain ⟨g, rfl⟩ : ∃ g', g = g' + 1 := ⟨g - 1, by omega⟩
    obtain rfl : i = n := by omega
    refine ⟨w, ?_, hT, Ri_refl⟩
    show b_X2_prints_39 _ fu ev _ _ _ = _
    unfold b_X2_prints_39 b_X2_prints_85
    rw [mi4, Option.bind_some, hL.2.1, if_pos (Int32.le_refl _), mi26, hT.1]
    rfl
  | succ d ih =>
    intro i g w hi hg hT hL
    obtain ⟨g, rfl⟩ : ∃ g', g = g' + 1 := ⟨g - 1, by omega⟩
    obtain ⟨q1, q2⟩ := hL.2.2 i (by omega)
    obtain ⟨-, -, r3, r4⟩ := ltr (q := qs i) (by omega)
    have ni : ¬ nI n ≤ nI i := fun z => absurd ((s_le (by omega) (by omega)).mp z) (by omega)
    have ld : ∀ u : Wd, u.2.1 969 i = nI (qs i) → aldI 0 (mem ev u) (ev.1 + 969) (nI i) = some (nI (qs i)) := fun u hu => by
      rw [ldI (r := 969) (n := 30) (κ := 0) rfl (by decide) (vp_in_nI (show i < 30 by omega) (by decide)), nI_clamp (by omega), hu]
    obtain ⟨w1, a1, a2, a3⟩ := p_put (fu := fu) (ev := ev) (x := nI (97 + qs i / 10)) hT (by omega)
    obtain ⟨w2, b1, b2, b3⟩ := p_put (fu := fu) (ev := ev) (x := nI (48 + qs i % 10)) a2 (by omega)
    have hw1 : w1.2.1 969 i = nI (qs i) := by rw [a3.2.2 969 i (by unfold PP; omega)]; exact q1
    have T2 : MT w2 (2 * (i + 1)) (txL qs) := by
      refine MT_ext (show MT w2 (2 * (i + 1)) _ from b2) (fun j hj => ?_)
      by_cases y1 : j = 2 * i + 1
      · rw [if_pos y1, y1]
        unfold txL
        rw [if_neg (by omega), show (2 * i + 1) / 2 = i by omega]
      · rw [if_neg y1]
        by_cases y2 : j = 2 * i
        · rw [if_pos y2, y2]
          unfold txL
          rw [if_pos (by omega), show 2 * i / 2 = i by omega]
        · rw [if_neg y2]
    have r2 : Ri PP w w2 := PP_t a3 b3
    have L2 : LM w2 4 969 n qs := ⟨hL.1, by rw [r2.2.2 966 4 (by unfold PP; omega)]; exact hL.2.1, fun j hj => by rw [r2.2.2 969 j (by unfold PP; omega)]; exact hL.2.2 j hj⟩
    obtain ⟨w3, c1, c2, c3⟩ := ih (i + 1) g w2 (by omega) (by omega) T2 L2
    refine ⟨w3, ?_, c2, PP_t r2 c3⟩
    rw [← c1]
    show b_X2_prints_39 _ fu ev _ _ _ = _
    unfold b_X2_prints_39
    rw [mi4, Option.bind_some, hL.2.1, if_neg ni]
    unfold b_X2_prints_47
    rw [mf12, Option.bind_some, Option.bind_some, ld w q1, Option.bind_some, mis, Option.bind_some, r3, a1, b2s, mf12, Option.bind_some, Option.bind_some, ld w1 hw1, Option.bind_some, mis, Option.bind_some, r4, b1, b2s, nI_1]
/-- the paper is written anew -/
theorem Rel_pap (h : Rel ev w M K T) (f : FrX [9, 19] w w') (hs : szW w ≤ szW w') (hd : ∀ c : Nat, c < szW w → dyn w' c = dyn w c) (hp : RPq ev w') : Rel ev w' M K T := by
  obtain ⟨⟨C, F, p, r⟩, h2, h3, h4, h5, h6, h7, h8, h9, h10⟩ := h
  have d : FrD w w' := ⟨hs, fun a ha _ => hd a ha⟩
  exact ⟨⟨C, F, p, RCK_x r f (by decide) (by decide) (by decide)⟩, RT_x h2 f (by decide) (by decide), RIm_x h3 f (by decide) (by decide), RLg_x h4 f (by decide) (by decide) (by decide) (by decide) hs (fun a _ _ _ ha _ => hd a ha), RQa_x h5 f (by decide) (by decide), RQb_x h6 f (by decide) (by decide), RRw_x h7 f (by decide) (by decide) d, ⟨hp, BS_x h8.2 f (by decide)⟩, St_x h9 f (by decide) (by decide), Nat.le_trans h10 hs⟩
theorem xp19 {r : Option Nat} : pfA ev (mem ev w) ev.1 0 19 r = some (mem ev (wA w 0 19 r)) := pA (r := 0) (n := 25) rfl (by decide) (by decide) rfl rfl r
theorem pap_fin (hR : Rel ev w M K T) (q1 : Sq w wq) (q2 : Fr0 (szW wq) wq w1) (d1 : dyn w1 a = some (.inr (14, [.ref b, .int 0, .int 0, .int 0]))) (d2 : dyn w1 b = oBy L g) (hg : ∀ i : Nat, i < L → g i = tx i) (ha : ev.1 + 984 ≤ a) (hb : ev.1 + 984 ≤ b) (has : a < szW w1) (hbs : b < szW w1) (hL : L ≤ 80) (ht : ∀ i : Nat, i < L → 0 ≤ (tx i).toInt ∧ (tx i).toInt ≤ 127) (hw2 : w2 = wA w1 0 19 (some a)) (hz1 : szW w1 ≤ szW w + 70) (hz2 : slW w1 ≤ slW w + 300)
    {wr ws : Wd} (r1 : Ri PP w2 wr) (r2 : Sq wr ws) (r3 : Ri PP ws w3) (hT : MT w3 L tx) : Rel ev w3 M K T ∧ (∀ l : Nat, l < 6 → sl w3 l = sl w l) ∧ szW w3 ≤ szW w + 300 ∧ slW w3 ≤ slW w + 300 := by
  have e22 : w3.2.2 = w2.2.2 := r3.2.1.trans (r2.2.2.trans r1.2.1)
  have er : w2.2.2.2 = w1.2.2.2 := by rw [hw2]; rfl
  have e3r : w3.2.2.2 = w1.2.2.2 := by rw [e22]; exact er
  have dq : wq.2.2 = w.2.2 := q1.2.2
  have zq : szW wq = szW w := by unfold szW; rw [dq]
  have z3 : szW w3 = szW w1 := by unfold szW; rw [e3r]
  have l3 : slW w3 = slW w1 := by unfold slW; rw [e3r]
  have dy3 : dyn w3 = dyn w1 := by unfold dyn; rw [e3r]
  have fP : ∀ {u u' : Wd}, Ri PP u u' → FrX [19] u u' := fun h => FrX_Ri h (fun q i z => by
    rcases z with rfl | ⟨rfl, rfl⟩
    · exact Or.inr (show (19 : Nat) ∈ [19] by decide)
    · exact Or.inr (by decide))
  have f1 : FrX [9, 19] w wq := FrX_mono (FrX_Sq q1) (by decide)
  have f2 : FrX [9, 19] wq w1 := FrX_mono (S := []) (FrX_row q2.1 (fun _ _ _ _ => by rw [q2.2.1]) (fun _ _ _ _ => by rw [q2.2.2.1])) (by decide)
  have f3 : FrX [9, 19] w1 w2 := FrX_row (by rw [hw2]; rfl) (fun _ _ _ _ => by rw [hw2]; rfl) (fun q i h0 hn => by
    rw [hw2]
    show (if q = 0 ∧ i = 19 then some a else w1.2.2.1 q i) = _
    rw [if_neg]
    rintro ⟨rfl, -⟩
    exact hn (by decide))
  have f4 : FrX [9, 19] w2 wr := FrX_mono (fP r1) (by decide)
  have f5 : FrX [9, 19] wr ws := FrX_mono (FrX_Sq r2) (by decide)
  have f6 : FrX [9, 19] ws w3 := FrX_mono (fP r3) (by decide)
  have id : ∀ c : Nat, c ∈ [9, 19] → c ∈ [9, 19] := fun _ z => z
  have f := FrX_trans f1 (FrX_trans f2 (FrX_trans f3 (FrX_trans f4 (FrX_trans f5 f6 id id) id id) id id) id id) id id
  have hsz : szW w ≤ szW w3 := by have := q2.2.2.2.1; omega
  refine ⟨Rel_pap hR f hsz (fun c hc => ?_) ⟨a, b, L, g, [.int 0, .int 0], ?_, ?_, ?_, Or.inr ⟨ha, by omega⟩, Or.inr ⟨hb, by omega⟩, hL, hT.1, fun i hi => ?_⟩, fun l hl => ?_, by omega, by omega⟩
  · rw [dy3, q2.2.2.2.2 c (by omega)]
    unfold dyn
    rw [dq]
  · rw [e22, hw2]
    show (if 0 = 0 ∧ 19 = 19 then some a else w1.2.2.1 0 19) = some a
    rw [if_pos ⟨rfl, rfl⟩]
  · rw [mem_dyn ha]
    have : dyn w3 a = _ := (congrFun dy3 a).trans d1
    exact this
  · rw [mem_dyn hb]
    have : dyn w3 b = _ := (congrFun dy3 b).trans d2
    exact this
  · rw [hT.2 i hi, hg i hi]
    exact ⟨rfl, ht i hi⟩
  · exact f.2.2.2.2.1.2 (by decide) l hl
end XPO
