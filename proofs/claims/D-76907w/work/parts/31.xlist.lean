/-! CellReducer.list, set, get: the ways through a handler -/
section XLIST
variable {p : Program} {l : Launch} {e : Env} {R : Room} {s : State} {m : MethodId} {args : Array Value} {below : List Frame} {meth : Method} {c : Code} {D : Dx} {H0 : Heap} {ev : Ev} {fu : Nat} {P : Option Value → Mm → Prop}
theorem x_list_15 (hlt : l.stackTraces = false) (C : Cx p m meth c cX0_list 4 s args RX0 R ev D H0 12 10300) (hr : meth.sig.returnType = (some .int)) (htb : c.exceptionTable.toList = tableOf [(15, 24, 27, 448)]) {σ σ0 : Mm} (hH0 : Hs D H0 ev σ0 s.heap) {x0 : Nat} {x1 x2 : Int32} {v1 : Option Nat} (hv1 : gfA σ x0 0 20 = some v1) (hn : x2 < 0) (hroom : σ.2.1 + 3 ≤ ev.2.1 ∧ σ.2.2 + (44 + 10) ≤ ev.2.2.1) (hP : ∀ k j : Nat, k ≤ 3 → j ≤ 54 → P (some (.int (-14))) (bump σ k j)) :
    GG p l e R s m args below meth c D H0 ev 4 (MQy D H0 ev below args s P) σ 15 [(0, .ref x0), (1, .int x1), (2, .int x2)] [] := by
  intro H locs ls hH hL hl
  refine lv_aload_n C.x C.b dX0_list_15 rfl (lv_at hl 0 rfl) ?_
  refine m_getA C hH fl_X0_82 hv1 dX0_list_16 ?_
  refine lv_iload_n C.x C.b dX0_list_19 rfl (lv_at hl 1 rfl) ?_
  refine lv_iload_n C.x C.b dX0_list_20 rfl (lv_at hl 2 rfl) ?_
  refine vx_newarrayZ C.x C.b hn dX0_list_21 fun tx htx => ?_
  subst htx
  refine m_vmX (nb := 44) hlt C hH0 hH hL XW_nas hl.1 (negative_text_modelled hn) (negative_text_bytes x2) (by decide) (by decide) (by simp [cat_I, cat_J, cat_R, r_catv, rf_some]) (by decide) hroom [] ⟨15, 24, 27, 448⟩ [] htb (fun z hz => by cases hz) (by decide) (by decide) q2555 (fun H1 k j q h1 h2 hH1 => ?_)
  refine lv_astore_n (i := 3) (lv' := [(3, .ref q), (0, .ref x0), (1, .int x1), (2, .int x2)]) C.x C.b dX0_list_27 rfl hl (by decide) rfl (fun ls1 hl1 => ?_)
  refine lv_bipush (v := -14) C.x C.b dX0_list_28 (by decide) ?_
  exact MQx_y (hP k j h1 h2) (m_iret C hH1 hL hr dX0_list_30)
theorem cx_list (l : Launch) (hlt : l.stackTraces = false) (D : Dx) (H0 : Heap) {σ s2 : Mm} {x0 : Nat} {x1 x2 v : Int32} (h1 : f_X0_isList fu ev σ x1 = some (v, s2)) (hv : v ≠ 0) {v1 : Option Nat} (hv1 : gfA s2 x0 0 20 = some v1) (hn : x2 < 0) (hroom : s2.2.1 + 3 ≤ ev.2.1 ∧ s2.2.2 + (44 + 10) ≤ ev.2.2.1) : CtP l D H0 ev yX0_list (wsW_ yX0_list cX0_list 4 (some .int) [(15, 24, 27, 448)]) 12 10300 [.ref x0, .int x1, .int x2] σ (fun r σ' => r = some (.int (-14)) ∧ ∃ k j : Nat, k ≤ 3 ∧ j ≤ 54 ∧ σ' = bump s2 k j) := by
  refine CtP_of (by decide) ?_
  intro p e R s m below meth c C hr htb hH
  have hl0 := lv_entry [.ref x0, .int x1, .int x2] (n := 4) (Nat.le_of_ble_eq_true rfl)
  rw [lg_entry_eq]
  have hl := lv_sub (l' := [(0, .ref x0), (1, .int x1), (2, .int x2)]) hl0 [0, 1, 2] rfl
  refine lv_iload_n C.x C.b dX0_list_0 rfl (lv_at hl 1 rfl) ?_
  refine m_callSI (As := [.int x1]) (rest := []) (v := v) C hH (by simp) cs_X0_445 (ct_X0_isList l D H0 h1) ⟨Nat.le_of_ble_eq_true rfl, Nat.le_of_ble_eq_true rfl⟩ rfl hl.1 rfl (Nat.le_of_ble_eq_true rfl) dX0_list_1 (fun H_2 locs_2 hH_2 hL_2 => ?_)
  refine lv_if_eq (tgt := 13) C.x C.b dX0_list_4 (by decide) (fun q => absurd q hv) (fun q => ?_)
  refine lv_iload_n C.x C.b dX0_list_7 rfl (lv_at hl 2 rfl) ?_
  refine lv_bipush (v := 16) C.x C.b dX0_list_8 kb_16 ?_
  refine lv_icmp_le (tgt := 15) C.x C.b dX0_list_10 (by decide) (fun q => ?_) (fun q => ?_)
  · exact x_list_15 hlt C hr htb hH hv1 hn hroom (fun k j a b => ⟨rfl, k, j, a, b, rfl⟩) H_2 locs_2 _ hH_2 hL_2 hl
  · exfalso
    apply q
    have h3 : x2 < (16 : Int32) := Int32.lt_trans hn (by decide)
    exact Int32.le_of_lt h3
theorem x_set_N (hlt : l.stackTraces = false) (C : Cx p m meth c cX0_set 6 s args RX0 R ev D H0 12 10300) (hr : meth.sig.returnType = (some .int)) (htb : c.exceptionTable.toList = tableOf [(9, 18, 21, 450), (9, 18, 26, 452)]) {σ σ0 : Mm} (hH0 : Hs D H0 ev σ0 s.heap) {x0 a2 : Nat} {x1 x2 : Int32} {x3 : Int64} (hv1 : gfA σ x0 0 20 = some (some a2)) (hv3 : aldA 6 σ a2 x1 = some none) (hroom : σ.2.1 + 1 ≤ ev.2.1 ∧ σ.2.2 + 8 ≤ ev.2.2.1) (hP : ∀ k j : Nat, k ≤ 1 → j ≤ 8 → P (some (.int (-11))) (bump σ k j)) :
    GG p l e R s m args below meth c D H0 ev 6 (MQy D H0 ev below args s P) σ 9 [(0, .ref x0), (1, .int x1), (2, .int x2), (3, .long x3)] [] := by
  intro H locs ls hH hL hl
  refine lv_aload_n C.x C.b dX0_set_9 rfl (lv_at hl 0 rfl) ?_
  refine m_getA C hH fl_X0_82 hv1 dX0_set_10 ?_
  refine lv_iload_n C.x C.b dX0_set_13 rfl (lv_at hl 1 rfl) ?_
  refine m_aald (κ := 6) rfl (by decide) C hH hv3 dX0_set_14 ?_
  refine lv_iload_n C.x C.b dX0_set_15 rfl (lv_at hl 2 rfl) ?_
  refine lv_lload_n C.x C.b dX0_set_16 rfl (lv_at hl 3 rfl) ?_
  refine vx_lastoreN C.x C.b dX0_set_17 ?_
  refine m_npeX hlt C hH0 hH hL XW_npe.1 XW_npe.2 q1401 hl.1 (by decide) (by simp) hroom [] ⟨9, 18, 21, 450⟩ [⟨9, 18, 26, 452⟩] htb (fun z hz => by cases hz) (by decide) (by decide) q2567 (fun H1 k j q h1 h2 hH1 => ?_)
  refine lv_astore (i := 5) (lv' := [(5, .ref q), (0, .ref x0), (1, .int x1), (2, .int x2), (3, .long x3)]) C.x C.b dX0_set_21 hl (by decide) rfl (fun ls1 hl1 => ?_)
  refine lv_bipush (v := -11) C.x C.b dX0_set_23 (by decide) ?_
  exact MQx_y (hP k j h1 h2) (m_iret C hH1 hL hr dX0_set_25)
theorem x_set_O (hlt : l.stackTraces = false) (C : Cx p m meth c cX0_set 6 s args RX0 R ev D H0 12 10300) (hr : meth.sig.returnType = (some .int)) (htb : c.exceptionTable.toList = tableOf [(9, 18, 21, 450), (9, 18, 26, 452)]) {σ σ0 : Mm} (hH0 : Hs D H0 ev σ0 s.heap) {x0 a2 a4 n : Nat} {x1 x2 : Int32} {x3 : Int64} {f : Nat → Int64} (hv1 : gfA σ x0 0 20 = some (some a2)) (hv3 : aldA 6 σ a2 x1 = some (some a4)) (hna : ev.1 ≤ a4) (ha : σ.1 a4 = some (.inl (1, n, .inr (.inl f)))) (hn : n < 2 ^ 31) (hout : ¬ vp_in x2 n) (hroom : σ.2.1 + 3 ≤ ev.2.1 ∧ σ.2.2 + (212 + 10) ≤ ev.2.2.1) (hP : ∀ k j : Nat, k ≤ 3 → j ≤ 222 → P (some (.int (-13))) (bump σ k j)) :
    GG p l e R s m args below meth c D H0 ev 6 (MQy D H0 ev below args s P) σ 9 [(0, .ref x0), (1, .int x1), (2, .int x2), (3, .long x3)] [] := by
  intro H locs ls hH hL hl
  refine lv_aload_n C.x C.b dX0_set_9 rfl (lv_at hl 0 rfl) ?_
  refine m_getA C hH fl_X0_82 hv1 dX0_set_10 ?_
  refine lv_iload_n C.x C.b dX0_set_13 rfl (lv_at hl 1 rfl) ?_
  refine m_aald (κ := 6) rfl (by decide) C hH hv3 dX0_set_14 ?_
  refine lv_iload_n C.x C.b dX0_set_15 rfl (lv_at hl 2 rfl) ?_
  refine lv_lload_n C.x C.b dX0_set_16 rfl (lv_at hl 3 rfl) ?_
  refine m_lastX C hH hna ha hout dX0_set_17 fun tx htx => ?_
  subst htx
  refine m_vmX (nb := 212) hlt C hH0 hH hL XW_aio hl.1 (index_text_modelled x2 n) (index_text_bytes x2 hn) (by decide) (by decide) (by simp) (by decide) hroom [⟨9, 18, 21, 450⟩] ⟨9, 18, 26, 452⟩ [] htb (fun z hz => ?_) (by decide) (by decide) q2569 (fun H1 k j q h1 h2 hH1 => ?_)
  · rw [List.mem_singleton.mp hz]
    exact Or.inr ⟨by decide, _, C.w q2567, C.2.1.2.2.2.2.1.2.2.2.2.2.2.2.2⟩
  refine lv_astore (i := 5) (lv' := [(5, .ref q), (0, .ref x0), (1, .int x1), (2, .int x2), (3, .long x3)]) C.x C.b dX0_set_26 hl (by decide) rfl (fun ls1 hl1 => ?_)
  refine lv_bipush (v := -13) C.x C.b dX0_set_28 (by decide) ?_
  exact MQx_y (hP k j h1 h2) (m_iret C hH1 hL hr dX0_set_30)
theorem x_get_N (hlt : l.stackTraces = false) (C : Cx p m meth c cX0_get 4 s args RX0 R ev D H0 12 10300) (hr : meth.sig.returnType = (some .long)) (htb : c.exceptionTable.toList = tableOf [(11, 19, 20, 450), (11, 19, 20, 452)]) {σ σ0 : Mm} (hH0 : Hs D H0 ev σ0 s.heap) {x0 a2 : Nat} {x1 x2 : Int32} (hv1 : gfA σ x0 0 20 = some (some a2)) (hv3 : aldA 6 σ a2 x1 = some none) (hroom : σ.2.1 + 1 ≤ ev.2.1 ∧ σ.2.2 + 8 ≤ ev.2.2.1) (hP : ∀ k j : Nat, k ≤ 1 → j ≤ 8 → P (some (.long (-9223372036854775808))) (bump σ k j)) :
    GG p l e R s m args below meth c D H0 ev 4 (MQy D H0 ev below args s P) σ 11 [(0, .ref x0), (1, .int x1), (2, .int x2)] [] := by
  intro H locs ls hH hL hl
  refine lv_aload_n C.x C.b dX0_get_11 rfl (lv_at hl 0 rfl) ?_
  refine m_getA C hH fl_X0_82 hv1 dX0_get_12 ?_
  refine lv_iload_n C.x C.b dX0_get_15 rfl (lv_at hl 1 rfl) ?_
  refine m_aald (κ := 6) rfl (by decide) C hH hv3 dX0_get_16 ?_
  refine lv_iload_n C.x C.b dX0_get_17 rfl (lv_at hl 2 rfl) ?_
  refine vx_laloadN C.x C.b dX0_get_18 ?_
  refine m_npeX hlt C hH0 hH hL XW_npe.1 XW_npe.2 q1401 hl.1 (by decide) (by simp) hroom [] ⟨11, 19, 20, 450⟩ [⟨11, 19, 20, 452⟩] htb (fun z hz => by cases hz) (by decide) (by decide) q2567 (fun H1 k j q h1 h2 hH1 => ?_)
  refine lv_astore_n (i := 3) (lv' := [(3, .ref q), (0, .ref x0), (1, .int x1), (2, .int x2)]) C.x C.b dX0_get_20 rfl hl (by decide) rfl (fun ls1 hl1 => ?_)
  refine lv_ldc2 C.x C.b C.1.2.2.2.1 (C.w q408) dX0_get_21 ?_
  exact MQx_y (hP k j h1 h2) (m_lret C hH1 hL hr dX0_get_24)
theorem x_get_O (hlt : l.stackTraces = false) (C : Cx p m meth c cX0_get 4 s args RX0 R ev D H0 12 10300) (hr : meth.sig.returnType = (some .long)) (htb : c.exceptionTable.toList = tableOf [(11, 19, 20, 450), (11, 19, 20, 452)]) {σ σ0 : Mm} (hH0 : Hs D H0 ev σ0 s.heap) {x0 a2 a4 n : Nat} {x1 x2 : Int32} {f : Nat → Int64} (hv1 : gfA σ x0 0 20 = some (some a2)) (hv3 : aldA 6 σ a2 x1 = some (some a4)) (hna : ev.1 ≤ a4) (ha : σ.1 a4 = some (.inl (1, n, .inr (.inl f)))) (hn : n < 2 ^ 31) (hout : ¬ vp_in x2 n) (hroom : σ.2.1 + 3 ≤ ev.2.1 ∧ σ.2.2 + (212 + 10) ≤ ev.2.2.1) (hP : ∀ k j : Nat, k ≤ 3 → j ≤ 222 → P (some (.long (-9223372036854775808))) (bump σ k j)) :
    GG p l e R s m args below meth c D H0 ev 4 (MQy D H0 ev below args s P) σ 11 [(0, .ref x0), (1, .int x1), (2, .int x2)] [] := by
  intro H locs ls hH hL hl
  refine lv_aload_n C.x C.b dX0_get_11 rfl (lv_at hl 0 rfl) ?_
  refine m_getA C hH fl_X0_82 hv1 dX0_get_12 ?_
  refine lv_iload_n C.x C.b dX0_get_15 rfl (lv_at hl 1 rfl) ?_
  refine m_aald (κ := 6) rfl (by decide) C hH hv3 dX0_get_16 ?_
  refine lv_iload_n C.x C.b dX0_get_17 rfl (lv_at hl 2 rfl) ?_
  refine m_laldX C hH hna ha hout dX0_get_18 fun tx htx => ?_
  subst htx
  refine m_vmX (nb := 212) hlt C hH0 hH hL XW_aio hl.1 (index_text_modelled x2 n) (index_text_bytes x2 hn) (by decide) (by decide) (by simp) (by decide) hroom [⟨11, 19, 20, 450⟩] ⟨11, 19, 20, 452⟩ [] htb (fun z hz => ?_) (by decide) (by decide) q2569 (fun H1 k j q h1 h2 hH1 => ?_)
  · rw [List.mem_singleton.mp hz]
    exact Or.inr ⟨by decide, _, C.w q2567, C.2.1.2.2.2.2.1.2.2.2.2.2.2.2.2⟩
  refine lv_astore_n (i := 3) (lv' := [(3, .ref q), (0, .ref x0), (1, .int x1), (2, .int x2)]) C.x C.b dX0_get_20 rfl hl (by decide) rfl (fun ls1 hl1 => ?_)
  refine lv_ldc2 C.x C.b C.1.2.2.2.1 (C.w q408) dX0_get_21 ?_
  exact MQx_y (hP k j h1 h2) (m_lret C hH1 hL hr dX0_get_24)
theorem cx_set (l : Launch) (D : Dx) (H0 : Heap) {σ s2 : Mm} {x0 : Nat} {x1 x2 v : Int32} {x3 : Int64} (h1 : f_X0_isList fu ev σ x1 = some (v, s2)) (hv : v ≠ 0) (hx : ∀ p e R s m below meth c, Cx p m meth c cX0_set 6 s #[.ref x0, .int x1, .int x2, .long x3] RX0 R ev D H0 12 10300 → meth.sig.returnType = (some .int) → c.exceptionTable.toList = tableOf [(9, 18, 21, 450), (9, 18, 26, 452)] → Hs D H0 ev σ s.heap → GG p l e R s m #[.ref x0, .int x1, .int x2, .long x3] below meth c D H0 ev 6 (MQy D H0 ev below #[.ref x0, .int x1, .int x2, .long x3] s P) s2 9 [(0, .ref x0), (1, .int x1), (2, .int x2), (3, .long x3)] []) : CtP l D H0 ev yX0_set (wsW_ yX0_set cX0_set 6 (some .int) [(9, 18, 21, 450), (9, 18, 26, 452)]) 12 10300 [.ref x0, .int x1, .int x2, .long x3] σ P := by
  refine CtP_of (by decide) ?_
  intro p e R s m below meth c C hr htb hH
  have hl0 := lv_entry [.ref x0, .int x1, .int x2, .long x3] (n := 6) (Nat.le_of_ble_eq_true rfl)
  rw [lg_entry_eq]
  have hl := lv_sub (l' := [(0, .ref x0), (1, .int x1), (2, .int x2), (3, .long x3)]) hl0 [0, 1, 2, 3] rfl
  refine lv_iload_n C.x C.b dX0_set_0 rfl (lv_at hl 1 rfl) ?_
  refine m_callSI (As := [.int x1]) (rest := []) (v := v) C hH (by simp) cs_X0_445 (ct_X0_isList l D H0 h1) ⟨Nat.le_of_ble_eq_true rfl, Nat.le_of_ble_eq_true rfl⟩ rfl hl.1 rfl (Nat.le_of_ble_eq_true rfl) dX0_set_1 (fun H_2 locs_2 hH_2 hL_2 => ?_)
  refine lv_if_ne (tgt := 9) C.x C.b dX0_set_4 (by decide) (fun q => ?_) (fun q => absurd q hv)
  exact hx p e R s m below meth c C hr htb hH H_2 locs_2 _ hH_2 hL_2 hl
theorem cx_get (l : Launch) (D : Dx) (H0 : Heap) {σ s2 : Mm} {x0 : Nat} {x1 x2 v : Int32} (h1 : f_X0_isList fu ev σ x1 = some (v, s2)) (hv : v ≠ 0) (hx : ∀ p e R s m below meth c, Cx p m meth c cX0_get 4 s #[.ref x0, .int x1, .int x2] RX0 R ev D H0 12 10300 → meth.sig.returnType = (some .long) → c.exceptionTable.toList = tableOf [(11, 19, 20, 450), (11, 19, 20, 452)] → Hs D H0 ev σ s.heap → GG p l e R s m #[.ref x0, .int x1, .int x2] below meth c D H0 ev 4 (MQy D H0 ev below #[.ref x0, .int x1, .int x2] s P) s2 11 [(0, .ref x0), (1, .int x1), (2, .int x2)] []) : CtP l D H0 ev yX0_get (wsW_ yX0_get cX0_get 4 (some .long) [(11, 19, 20, 450), (11, 19, 20, 452)]) 12 10300 [.ref x0, .int x1, .int x2] σ P := by
  refine CtP_of (by decide) ?_
  intro p e R s m below meth c C hr htb hH
  have hl0 := lv_entry [.ref x0, .int x1, .int x2] (n := 4) (Nat.le_of_ble_eq_true rfl)
  rw [lg_entry_eq]
  have hl := lv_sub (l' := [(0, .ref x0), (1, .int x1), (2, .int x2)]) hl0 [0, 1, 2] rfl
  refine lv_iload_n C.x C.b dX0_get_0 rfl (lv_at hl 1 rfl) ?_
  refine m_callSI (As := [.int x1]) (rest := []) (v := v) C hH (by simp) cs_X0_445 (ct_X0_isList l D H0 h1) ⟨Nat.le_of_ble_eq_true rfl, Nat.le_of_ble_eq_true rfl⟩ rfl hl.1 rfl (Nat.le_of_ble_eq_true rfl) dX0_get_1 (fun H_2 locs_2 hH_2 hL_2 => ?_)
  refine lv_if_ne (tgt := 11) C.x C.b dX0_get_4 (by decide) (fun q => ?_) (fun q => absurd q hv)
  exact hx p e R s m below meth c C hr htb hH H_2 locs_2 _ hH_2 hL_2 hl
end XLIST
