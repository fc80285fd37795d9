theorem fp_X1_9 : FPF RX1 9 1 0 (.array .long) := ⟨_, _, _, _, tyX1, rfl, in_X1, by decide, q178, ⟨rfl, rfl⟩, tyX1_ok, nmX1, rfl, rfl⟩
theorem fp_X1_15 : FPF RX1 15 1 1 (.array .long) := ⟨_, _, _, _, tyX1, rfl, in_X1, by decide, q180, ⟨rfl, rfl⟩, tyX1_ok, nmX1, rfl, rfl⟩
theorem fp_X1_20 : FPF RX1 20 1 2 (.array (.array .long)) := ⟨_, _, _, _, tyX1, rfl, in_X1, by decide, q182, ⟨rfl, rfl⟩, tyX1_ok, nmX1, rfl, rfl⟩
theorem fp_X1_23 : FPF RX1 23 1 3 (.array .boolean) := ⟨_, _, _, _, tyX1, rfl, in_X1, by decide, q184, ⟨rfl, rfl⟩, tyX1_ok, nmX1, rfl, rfl⟩
/-! CellReducer$Cell.<init>()V -/
section M_X1_init
variable {p : Program} {l : Launch} {e : Env} {R : Room} {s : State} {m : MethodId} {args : Array Value} {below : List Frame} {meth : Method} {c : Code} {D : Dx} {H0 : Heap} {ev : Ev} {fu : Nat} {res : Unit × Mm}
def b_X1_init_0  (fu : Nat) (ev : Ev) (σ : Mm) (x0 : Nat) : Option (Unit × Mm) :=
  bd2 (nwA ev σ 1 (3 : Int32) 8 (.inr (.inl fun _ => 0))) fun a1 s2 =>
  (pfA ev s2 x0 1 0 (some a1)).bind fun s3 =>
  bd2 (nwA ev s3 1 (3 : Int32) 8 (.inr (.inl fun _ => 0))) fun a4 s5 =>
  (pfA ev s5 x0 1 1 (some a4)).bind fun s6 =>
  bd2 (nwM ev s6 (3 : Int32) (3 : Int32)) fun a7 s8 =>
  (pfA ev s8 x0 1 2 (some a7)).bind fun s9 =>
  bd2 (nwA ev s9 2 (3 : Int32) 1 (.inl fun _ => 0)) fun a10 s11 =>
  (pfA ev s11 x0 1 3 (some a10)).bind fun s12 =>
  some ((), s12)
set_option maxRecDepth 20000 in
theorem b_X1_init_0_ok (C : Cx p m meth c cX1_init 1 s args RX1 R ev D H0 1 24) (hr : meth.sig.returnType = none) (hnm : meth.name = "<init>")  {σ : Mm} {x0 : Nat} (h : b_X1_init_0  fu ev σ x0 = some res) : GG p l e R s m args below meth c D H0 ev 1 (MQx D H0 ev below args s none res.2) σ 0 [(0, .ref x0)] [] := by
  intro H locs ls hH hL hl
  unfold b_X1_init_0 at h
  refine lv_aload_n C.x C.b dX1_init_0 rfl (lv_at hl 0 rfl) ?_
  refine W.objInit C.x C.b C.1.2.2.2.1 (C.w q175) (C.w q167) (C.w q168) rfl (by rw [C.1.2.2.1]; exact hl.1) rfl dX1_init_1 (by rw [C.2.2.2.2.1]; exact Nat.le_of_ble_eq_true rfl) (by rw [C.2.2.2.2.2.1]; exact Nat.le_of_ble_eq_true rfl) ?_
  refine W.eq (g2 := F0 m 4 ls []) rfl ?_
  refine lv_aload_n C.x C.b dX1_init_4 rfl (lv_at hl 0 rfl) ?_
  refine lv_iconst (v := 3) C.x C.b dX1_init_5 ki_3 ?_
  obtain ⟨a1, s2, hs2, h_1⟩ := ob2 h
  refine m_newa (atype := .long) rfl (κ := 1) rfl (by decide) q194 C hH hL (fun _ _ => rfl) hs2 dX1_init_6 (fun H_2 locs_2 hH_2 hL_2 => ?_)
  obtain ⟨s3, hs3, h_3⟩ := ob h_1
  refine m_putAF C hH_2 hL_2 fp_X1_9 hnm (Or.inr ⟨_, rfl⟩) hs3 dX1_init_8 (fun H_4 locs_4 hH_4 hL_4 => ?_)
  refine lv_aload_n C.x C.b dX1_init_11 rfl (lv_at hl 0 rfl) ?_
  refine lv_iconst (v := 3) C.x C.b dX1_init_12 ki_3 ?_
  obtain ⟨a4, s5, hs5, h_5⟩ := ob2 h_3
  refine m_newa (atype := .long) rfl (κ := 1) rfl (by decide) q194 C hH_4 hL_4 (fun _ _ => rfl) hs5 dX1_init_13 (fun H_6 locs_6 hH_6 hL_6 => ?_)
  obtain ⟨s6, hs6, h_7⟩ := ob h_5
  refine m_putAF C hH_6 hL_6 fp_X1_15 hnm (Or.inr ⟨_, rfl⟩) hs6 dX1_init_15 (fun H_8 locs_8 hH_8 hL_8 => ?_)
  refine lv_aload_n C.x C.b dX1_init_18 rfl (lv_at hl 0 rfl) ?_
  refine lv_iconst (v := 3) C.x C.b dX1_init_19 ki_3 ?_
  refine lv_iconst (v := 3) C.x C.b dX1_init_20 ki_3 ?_
  obtain ⟨a7, s8, hs8, h_9⟩ := ob2 h_7
  refine m_multi C hH_8 hL_8 q176 hs8 dX1_init_21 (fun H_10 locs_10 hH_10 hL_10 => ?_)
  obtain ⟨s9, hs9, h_11⟩ := ob h_9
  refine m_putAF C hH_10 hL_10 fp_X1_20 hnm (Or.inr ⟨_, rfl⟩) hs9 dX1_init_25 (fun H_12 locs_12 hH_12 hL_12 => ?_)
  refine lv_aload_n C.x C.b dX1_init_28 rfl (lv_at hl 0 rfl) ?_
  refine lv_iconst (v := 3) C.x C.b dX1_init_29 ki_3 ?_
  obtain ⟨a10, s11, hs11, h_13⟩ := ob2 h_11
  refine m_newa (atype := .boolean) rfl (κ := 2) rfl (by decide) q195 C hH_12 hL_12 (fun _ _ => rfl) hs11 dX1_init_30 (fun H_14 locs_14 hH_14 hL_14 => ?_)
  obtain ⟨s12, hs12, h_15⟩ := ob h_13
  refine m_putAF C hH_14 hL_14 fp_X1_23 hnm (Or.inr ⟨_, rfl⟩) hs12 dX1_init_32 (fun H_16 locs_16 hH_16 hL_16 => ?_)
  have hz_ := Option.some.inj h_15; subst hz_
  exact m_vret C hH_16 hL_16 hr dX1_init_35
def f_X1_init (fu : Nat) (ev : Ev) (σ : Mm) (x0 : Nat) : Option (Unit × Mm) := b_X1_init_0  fu ev σ x0
set_option maxRecDepth 20000 in
theorem ct_X1_init (l : Launch) (D : Dx) (H0 : Heap) {σ : Mm} {x0 : Nat} (h : f_X1_init fu ev σ x0 = some res) : Ct l D H0 ev yX1_init (ws_ yX1_init cX1_init 1 none) 1 24 [.ref x0] σ none res.2 := by
  refine Ct_of (by decide) ?_
  intro p e R s m below meth c C hr hnm hH
  have hl := lv_entry [.ref x0] (n := 1) (Nat.le_of_ble_eq_true rfl)
  rw [lg_entry_eq]
  exact b_X1_init_0_ok C hr hnm  h s.heap [] _ hH (by simp) (lv_sub hl [0] rfl)
end M_X1_init
theorem fl_X1_20 : FL RX1 20 1 2 := ⟨_, _, _, _, rfl, in_X1, by decide, q182, Or.inl rfl⟩
/-! CellReducer$Cell.asItCame()LCellReducer$Cell; -/
section M_X1_asItCame
variable {p : Program} {l : Launch} {e : Env} {R : Room} {s : State} {m : MethodId} {args : Array Value} {below : List Frame} {meth : Method} {c : Code} {D : Dx} {H0 : Heap} {ev : Ev} {fu : Nat} {res : Option Nat × Mm}
def b_X1_asItCame_44  (fu : Nat) (ev : Ev) (σ : Mm) (x0 : Nat) : Option (Option Nat × Mm) :=
  some ((some x0), σ)
set_option maxRecDepth 20000 in
theorem b_X1_asItCame_44_ok (C : Cx p m meth c cX1_asItCame 3 s args RX1 R ev D H0 0 0) (hr : meth.sig.returnType = (some (.object "CellReducer$Cell")))  {σ : Mm} {x0 : Nat} (h : b_X1_asItCame_44  fu ev σ x0 = some res) : GG p l e R s m args below meth c D H0 ev 3 (MQx D H0 ev below args s (some (va_rf res.1)) res.2) σ 44 [(0, .ref x0)] [] := by
  intro H locs ls hH hL hl
  unfold b_X1_asItCame_44 at h
  refine lv_aload_n C.x C.b dX1_asItCame_44 rfl (lv_at hl 0 rfl) ?_
  have hz_ := Option.some.inj h; subst hz_
  exact m_aret C hH hL hr (Or.inl ⟨_, rfl⟩) (v := (some x0)) dX1_asItCame_45
def b_X1_asItCame_38 (R2 : Mm → Nat → Int32 → Option (Option Nat × Mm)) (fu : Nat) (ev : Ev) (σ : Mm) (x0 : Nat) (x1 : Int32) : Option (Option Nat × Mm) :=
  R2 σ x0 (x1 + (1 : Int32))
set_option maxRecDepth 20000 in
theorem b_X1_asItCame_38_ok (C : Cx p m meth c cX1_asItCame 3 s args RX1 R ev D H0 0 0) (hr : meth.sig.returnType = (some (.object "CellReducer$Cell"))) {R2 : Mm → Nat → Int32 → Option (Option Nat × Mm)} (HR2 : ∀ (σ : Mm) (x0 : Nat) (x1 : Int32), R2 σ x0 x1 = some res → GG p l e R s m args below meth c D H0 ev 3 (MQx D H0 ev below args s (some (va_rf res.1)) res.2) σ 2 [(0, .ref x0), (1, .int x1)] []) {σ : Mm} {x0 : Nat} {x1 : Int32} (h : b_X1_asItCame_38 R2 fu ev σ x0 x1 = some res) : GG p l e R s m args below meth c D H0 ev 3 (MQx D H0 ev below args s (some (va_rf res.1)) res.2) σ 38 [(0, .ref x0), (1, .int x1)] [] := by
  intro H locs ls hH hL hl
  unfold b_X1_asItCame_38 at h
  refine lv_iinc (v := x1 + (1 : Int32)) (lv' := [(1, .int (x1 + (1 : Int32))), (0, .ref x0)]) C.x C.b dX1_asItCame_38 hl (k := 1) rfl (by rw [ki_1]) (by decide) rfl (fun ls_1 hl_1 => ?_)
  refine lv_goto (tgt := 2) C.x C.b dX1_asItCame_41 (by decide) ?_
  exact HR2 _ _ _ h H locs ls_1 hH hL (lv_sub hl_1 [1, 0] rfl)
def b_X1_asItCame_31 (R2 : Mm → Nat → Int32 → Option (Option Nat × Mm)) (R9 : Mm → Nat → Int32 → Int32 → Option (Option Nat × Mm)) (fu : Nat) (ev : Ev) (σ : Mm) (x0 : Nat) (x1 : Int32) (x2 : Int32) (t0 : Option Nat) (t1 : Int32) (t2 : Int64) : Option (Option Nat × Mm) :=
  t0.bind fun a1 =>
  (astJ ev σ a1 t1 t2).bind fun s2 =>
  R9 s2 x0 x1 (x2 + (1 : Int32))
set_option maxRecDepth 20000 in
theorem b_X1_asItCame_31_ok (C : Cx p m meth c cX1_asItCame 3 s args RX1 R ev D H0 0 0) (hr : meth.sig.returnType = (some (.object "CellReducer$Cell"))) {R2 : Mm → Nat → Int32 → Option (Option Nat × Mm)} (HR2 : ∀ (σ : Mm) (x0 : Nat) (x1 : Int32), R2 σ x0 x1 = some res → GG p l e R s m args below meth c D H0 ev 3 (MQx D H0 ev below args s (some (va_rf res.1)) res.2) σ 2 [(0, .ref x0), (1, .int x1)] []) {R9 : Mm → Nat → Int32 → Int32 → Option (Option Nat × Mm)} (HR9 : ∀ (σ : Mm) (x0 : Nat) (x1 : Int32) (x2 : Int32), R9 σ x0 x1 x2 = some res → GG p l e R s m args below meth c D H0 ev 3 (MQx D H0 ev below args s (some (va_rf res.1)) res.2) σ 9 [(0, .ref x0), (1, .int x1), (2, .int x2)] []) {σ : Mm} {x0 : Nat} {x1 : Int32} {x2 : Int32} {t0 : Option Nat} {t1 : Int32} {t2 : Int64} (h : b_X1_asItCame_31 R2 R9 fu ev σ x0 x1 x2 t0 t1 t2 = some res) : GG p l e R s m args below meth c D H0 ev 3 (MQx D H0 ev below args s (some (va_rf res.1)) res.2) σ 31 [(0, .ref x0), (1, .int x1), (2, .int x2)] [.long t2, .int t1, va_rf t0] := by
  intro H locs ls hH hL hl
  unfold b_X1_asItCame_31 at h
  obtain ⟨a1, e_, h_1⟩ := ob h; subst e_
  obtain ⟨s2, hs2, h_2⟩ := ob h_1
  refine m_last C hH hL hs2 dX1_asItCame_31 (fun H_3 locs_3 hH_3 hL_3 => ?_)
  refine lv_iinc (v := x2 + (1 : Int32)) (lv' := [(2, .int (x2 + (1 : Int32))), (0, .ref x0), (1, .int x1)]) C.x C.b dX1_asItCame_32 hl (k := 2) rfl (by rw [ki_1]) (by decide) rfl (fun ls_4 hl_4 => ?_)
  refine lv_goto (tgt := 9) C.x C.b dX1_asItCame_35 (by decide) ?_
  exact HR9 _ _ _ _ h_2 H_3 locs_3 ls_4 hH_3 hL_3 (lv_sub hl_4 [1, 2, 0] rfl)
def b_X1_asItCame_30 (R2 : Mm → Nat → Int32 → Option (Option Nat × Mm)) (R9 : Mm → Nat → Int32 → Int32 → Option (Option Nat × Mm)) (fu : Nat) (ev : Ev) (σ : Mm) (x0 : Nat) (x1 : Int32) (x2 : Int32) (t0 : Option Nat) (t1 : Int32) : Option (Option Nat × Mm) :=
  b_X1_asItCame_31 R2 R9 fu ev σ x0 x1 x2 t0 t1 (0 : Int64)
set_option maxRecDepth 20000 in
theorem b_X1_asItCame_30_ok (C : Cx p m meth c cX1_asItCame 3 s args RX1 R ev D H0 0 0) (hr : meth.sig.returnType = (some (.object "CellReducer$Cell"))) {R2 : Mm → Nat → Int32 → Option (Option Nat × Mm)} (HR2 : ∀ (σ : Mm) (x0 : Nat) (x1 : Int32), R2 σ x0 x1 = some res → GG p l e R s m args below meth c D H0 ev 3 (MQx D H0 ev below args s (some (va_rf res.1)) res.2) σ 2 [(0, .ref x0), (1, .int x1)] []) {R9 : Mm → Nat → Int32 → Int32 → Option (Option Nat × Mm)} (HR9 : ∀ (σ : Mm) (x0 : Nat) (x1 : Int32) (x2 : Int32), R9 σ x0 x1 x2 = some res → GG p l e R s m args below meth c D H0 ev 3 (MQx D H0 ev below args s (some (va_rf res.1)) res.2) σ 9 [(0, .ref x0), (1, .int x1), (2, .int x2)] []) {σ : Mm} {x0 : Nat} {x1 : Int32} {x2 : Int32} {t0 : Option Nat} {t1 : Int32} (h : b_X1_asItCame_30 R2 R9 fu ev σ x0 x1 x2 t0 t1 = some res) : GG p l e R s m args below meth c D H0 ev 3 (MQx D H0 ev below args s (some (va_rf res.1)) res.2) σ 30 [(0, .ref x0), (1, .int x1), (2, .int x2)] [.int t1, va_rf t0] := by
  intro H locs ls hH hL hl
  unfold b_X1_asItCame_30 at h
  refine lv_lconst (v := 0) C.x C.b dX1_asItCame_30 rfl ?_
  exact b_X1_asItCame_31_ok C hr HR2 HR9 h H locs ls hH hL (lv_sub hl [0, 1, 2] rfl)
def b_X1_asItCame_26 (R2 : Mm → Nat → Int32 → Option (Option Nat × Mm)) (R9 : Mm → Nat → Int32 → Int32 → Option (Option Nat × Mm)) (fu : Nat) (ev : Ev) (σ : Mm) (x0 : Nat) (x1 : Int32) (x2 : Int32) (t0 : Option Nat) (t1 : Int32) : Option (Option Nat × Mm) :=
  b_X1_asItCame_31 R2 R9 fu ev σ x0 x1 x2 t0 t1 (1 : Int64)
set_option maxRecDepth 20000 in
theorem b_X1_asItCame_26_ok (C : Cx p m meth c cX1_asItCame 3 s args RX1 R ev D H0 0 0) (hr : meth.sig.returnType = (some (.object "CellReducer$Cell"))) {R2 : Mm → Nat → Int32 → Option (Option Nat × Mm)} (HR2 : ∀ (σ : Mm) (x0 : Nat) (x1 : Int32), R2 σ x0 x1 = some res → GG p l e R s m args below meth c D H0 ev 3 (MQx D H0 ev below args s (some (va_rf res.1)) res.2) σ 2 [(0, .ref x0), (1, .int x1)] []) {R9 : Mm → Nat → Int32 → Int32 → Option (Option Nat × Mm)} (HR9 : ∀ (σ : Mm) (x0 : Nat) (x1 : Int32) (x2 : Int32), R9 σ x0 x1 x2 = some res → GG p l e R s m args below meth c D H0 ev 3 (MQx D H0 ev below args s (some (va_rf res.1)) res.2) σ 9 [(0, .ref x0), (1, .int x1), (2, .int x2)] []) {σ : Mm} {x0 : Nat} {x1 : Int32} {x2 : Int32} {t0 : Option Nat} {t1 : Int32} (h : b_X1_asItCame_26 R2 R9 fu ev σ x0 x1 x2 t0 t1 = some res) : GG p l e R s m args below meth c D H0 ev 3 (MQx D H0 ev below args s (some (va_rf res.1)) res.2) σ 26 [(0, .ref x0), (1, .int x1), (2, .int x2)] [.int t1, va_rf t0] := by
  intro H locs ls hH hL hl
  unfold b_X1_asItCame_26 at h
  refine lv_lconst (v := 1) C.x C.b dX1_asItCame_26 rfl ?_
  refine lv_goto (tgt := 31) C.x C.b dX1_asItCame_27 (by decide) ?_
  exact b_X1_asItCame_31_ok C hr HR2 HR9 h H locs ls hH hL (lv_sub hl [0, 1, 2] rfl)
def b_X1_asItCame_14 (R2 : Mm → Nat → Int32 → Option (Option Nat × Mm)) (R9 : Mm → Nat → Int32 → Int32 → Option (Option Nat × Mm)) (fu : Nat) (ev : Ev) (σ : Mm) (x0 : Nat) (x1 : Int32) (x2 : Int32) : Option (Option Nat × Mm) :=
  (gfA σ x0 1 2).bind fun v1 =>
  v1.bind fun a2 =>
  (aldA 6 σ a2 x1).bind fun v3 =>
  if x1 = x2 then b_X1_asItCame_26 R2 R9 fu ev σ x0 x1 x2 v3 x2 else b_X1_asItCame_30 R2 R9 fu ev σ x0 x1 x2 v3 x2
set_option maxRecDepth 20000 in
theorem b_X1_asItCame_14_ok (C : Cx p m meth c cX1_asItCame 3 s args RX1 R ev D H0 0 0) (hr : meth.sig.returnType = (some (.object "CellReducer$Cell"))) {R2 : Mm → Nat → Int32 → Option (Option Nat × Mm)} (HR2 : ∀ (σ : Mm) (x0 : Nat) (x1 : Int32), R2 σ x0 x1 = some res → GG p l e R s m args below meth c D H0 ev 3 (MQx D H0 ev below args s (some (va_rf res.1)) res.2) σ 2 [(0, .ref x0), (1, .int x1)] []) {R9 : Mm → Nat → Int32 → Int32 → Option (Option Nat × Mm)} (HR9 : ∀ (σ : Mm) (x0 : Nat) (x1 : Int32) (x2 : Int32), R9 σ x0 x1 x2 = some res → GG p l e R s m args below meth c D H0 ev 3 (MQx D H0 ev below args s (some (va_rf res.1)) res.2) σ 9 [(0, .ref x0), (1, .int x1), (2, .int x2)] []) {σ : Mm} {x0 : Nat} {x1 : Int32} {x2 : Int32} (h : b_X1_asItCame_14 R2 R9 fu ev σ x0 x1 x2 = some res) : GG p l e R s m args below meth c D H0 ev 3 (MQx D H0 ev below args s (some (va_rf res.1)) res.2) σ 14 [(0, .ref x0), (1, .int x1), (2, .int x2)] [] := by
  intro H locs ls hH hL hl
  unfold b_X1_asItCame_14 at h
  refine lv_aload_n C.x C.b dX1_asItCame_14 rfl (lv_at hl 0 rfl) ?_
  obtain ⟨v1, hv1, h_1⟩ := ob h
  refine m_getA C hH fl_X1_20 hv1 dX1_asItCame_15 ?_
  refine lv_iload_n C.x C.b dX1_asItCame_18 rfl (lv_at hl 1 rfl) ?_
  obtain ⟨a2, e_, h_2⟩ := ob h_1; subst e_
  obtain ⟨v3, hv3, h_3⟩ := ob h_2
  refine m_aald (κ := 6) rfl (by decide) C hH hv3 dX1_asItCame_19 ?_
  refine lv_iload_n C.x C.b dX1_asItCame_20 rfl (lv_at hl 2 rfl) ?_
  refine lv_iload_n C.x C.b dX1_asItCame_21 rfl (lv_at hl 1 rfl) ?_
  refine lv_iload_n C.x C.b dX1_asItCame_22 rfl (lv_at hl 2 rfl) ?_
  refine lv_icmp_ne (tgt := 30) C.x C.b dX1_asItCame_23 (by decide) (fun q => ?_) (fun q => ?_)
  · exact b_X1_asItCame_30_ok C hr HR2 HR9 (cn h_3 q) H locs ls hH hL (lv_sub hl [0, 1, 2] rfl)
  · exact b_X1_asItCame_26_ok C hr HR2 HR9 (cp h_3 q) H locs ls hH hL (lv_sub hl [0, 1, 2] rfl)
def b_X1_asItCame_9 (R2 : Mm → Nat → Int32 → Option (Option Nat × Mm)) (R9 : Mm → Nat → Int32 → Int32 → Option (Option Nat × Mm)) (fu : Nat) (ev : Ev) (σ : Mm) (x0 : Nat) (x1 : Int32) (x2 : Int32) : Option (Option Nat × Mm) :=
  if (3 : Int32) ≤ x2 then b_X1_asItCame_38 R2 fu ev σ x0 x1 else b_X1_asItCame_14 R2 R9 fu ev σ x0 x1 x2
set_option maxRecDepth 20000 in
theorem b_X1_asItCame_9_ok (C : Cx p m meth c cX1_asItCame 3 s args RX1 R ev D H0 0 0) (hr : meth.sig.returnType = (some (.object "CellReducer$Cell"))) {R2 : Mm → Nat → Int32 → Option (Option Nat × Mm)} (HR2 : ∀ (σ : Mm) (x0 : Nat) (x1 : Int32), R2 σ x0 x1 = some res → GG p l e R s m args below meth c D H0 ev 3 (MQx D H0 ev below args s (some (va_rf res.1)) res.2) σ 2 [(0, .ref x0), (1, .int x1)] []) {R9 : Mm → Nat → Int32 → Int32 → Option (Option Nat × Mm)} (HR9 : ∀ (σ : Mm) (x0 : Nat) (x1 : Int32) (x2 : Int32), R9 σ x0 x1 x2 = some res → GG p l e R s m args below meth c D H0 ev 3 (MQx D H0 ev below args s (some (va_rf res.1)) res.2) σ 9 [(0, .ref x0), (1, .int x1), (2, .int x2)] []) {σ : Mm} {x0 : Nat} {x1 : Int32} {x2 : Int32} (h : b_X1_asItCame_9 R2 R9 fu ev σ x0 x1 x2 = some res) : GG p l e R s m args below meth c D H0 ev 3 (MQx D H0 ev below args s (some (va_rf res.1)) res.2) σ 9 [(0, .ref x0), (1, .int x1), (2, .int x2)] [] := by
  intro H locs ls hH hL hl
  unfold b_X1_asItCame_9 at h
  refine lv_iload_n C.x C.b dX1_asItCame_9 rfl (lv_at hl 2 rfl) ?_
  refine lv_iconst (v := 3) C.x C.b dX1_asItCame_10 ki_3 ?_
  refine lv_icmp_ge (tgt := 38) C.x C.b dX1_asItCame_11 (by decide) (fun q => ?_) (fun q => ?_)
  · exact b_X1_asItCame_38_ok C hr HR2 (cp h q) H locs ls hH hL (lv_sub hl [0, 1] rfl)
  · exact b_X1_asItCame_14_ok C hr HR2 HR9 (cn h q) H locs ls hH hL (lv_sub hl [0, 1, 2] rfl)
def L_X1_asItCame_9 (R2 : Mm → Nat → Int32 → Option (Option Nat × Mm)) (fu : Nat) (ev : Ev) : Nat → Mm → Nat → Int32 → Int32 → Option (Option Nat × Mm)
  | 0, _, _, _, _ => none
  | n + 1, σ, x0, x1, x2 => b_X1_asItCame_9 R2 (L_X1_asItCame_9 R2 fu ev n) fu ev σ x0 x1 x2
theorem L_X1_asItCame_9_ok (C : Cx p m meth c cX1_asItCame 3 s args RX1 R ev D H0 0 0) (hr : meth.sig.returnType = (some (.object "CellReducer$Cell"))) {R2 : Mm → Nat → Int32 → Option (Option Nat × Mm)} (HR2 : ∀ (σ : Mm) (x0 : Nat) (x1 : Int32), R2 σ x0 x1 = some res → GG p l e R s m args below meth c D H0 ev 3 (MQx D H0 ev below args s (some (va_rf res.1)) res.2) σ 2 [(0, .ref x0), (1, .int x1)] []) : ∀ (n : Nat) {σ : Mm} {x0 : Nat} {x1 : Int32} {x2 : Int32}, L_X1_asItCame_9 R2 fu ev n σ x0 x1 x2 = some res → GG p l e R s m args below meth c D H0 ev 3 (MQx D H0 ev below args s (some (va_rf res.1)) res.2) σ 9 [(0, .ref x0), (1, .int x1), (2, .int x2)] [] := by
  intro n
  induction n with
  | zero => intro σ x0 x1 x2 h; exact (Option.some_ne_none _ (Eq.symm h)).elim
  | succ n ih => intro σ x0 x1 x2 h; exact b_X1_asItCame_9_ok C hr HR2 (fun σ _ _ _ h => ih h) h
def b_X1_asItCame_7 (R2 : Mm → Nat → Int32 → Option (Option Nat × Mm)) (fu : Nat) (ev : Ev) (σ : Mm) (x0 : Nat) (x1 : Int32) : Option (Option Nat × Mm) :=
  L_X1_asItCame_9 R2 fu ev fu σ x0 x1 (0 : Int32)
set_option maxRecDepth 20000 in
theorem b_X1_asItCame_7_ok (C : Cx p m meth c cX1_asItCame 3 s args RX1 R ev D H0 0 0) (hr : meth.sig.returnType = (some (.object "CellReducer$Cell"))) {R2 : Mm → Nat → Int32 → Option (Option Nat × Mm)} (HR2 : ∀ (σ : Mm) (x0 : Nat) (x1 : Int32), R2 σ x0 x1 = some res → GG p l e R s m args below meth c D H0 ev 3 (MQx D H0 ev below args s (some (va_rf res.1)) res.2) σ 2 [(0, .ref x0), (1, .int x1)] []) {σ : Mm} {x0 : Nat} {x1 : Int32} (h : b_X1_asItCame_7 R2 fu ev σ x0 x1 = some res) : GG p l e R s m args below meth c D H0 ev 3 (MQx D H0 ev below args s (some (va_rf res.1)) res.2) σ 7 [(0, .ref x0), (1, .int x1)] [] := by
  intro H locs ls hH hL hl
  unfold b_X1_asItCame_7 at h
  refine lv_iconst (v := 0) C.x C.b dX1_asItCame_7 ki_0 ?_
  refine lv_istore_n (i := 2) (lv' := [(2, .int (0 : Int32)), (0, .ref x0), (1, .int x1)]) C.x C.b dX1_asItCame_8 rfl hl (by decide) rfl (fun ls_1 hl_1 => ?_)
  exact L_X1_asItCame_9_ok C hr HR2 fu h H locs ls_1 hH hL (lv_sub hl_1 [1, 2, 0] rfl)
def b_X1_asItCame_2 (R2 : Mm → Nat → Int32 → Option (Option Nat × Mm)) (fu : Nat) (ev : Ev) (σ : Mm) (x0 : Nat) (x1 : Int32) : Option (Option Nat × Mm) :=
  if (3 : Int32) ≤ x1 then b_X1_asItCame_44  fu ev σ x0 else b_X1_asItCame_7 R2 fu ev σ x0 x1
set_option maxRecDepth 20000 in
theorem b_X1_asItCame_2_ok (C : Cx p m meth c cX1_asItCame 3 s args RX1 R ev D H0 0 0) (hr : meth.sig.returnType = (some (.object "CellReducer$Cell"))) {R2 : Mm → Nat → Int32 → Option (Option Nat × Mm)} (HR2 : ∀ (σ : Mm) (x0 : Nat) (x1 : Int32), R2 σ x0 x1 = some res → GG p l e R s m args below meth c D H0 ev 3 (MQx D H0 ev below args s (some (va_rf res.1)) res.2) σ 2 [(0, .ref x0), (1, .int x1)] []) {σ : Mm} {x0 : Nat} {x1 : Int32} (h : b_X1_asItCame_2 R2 fu ev σ x0 x1 = some res) : GG p l e R s m args below meth c D H0 ev 3 (MQx D H0 ev below args s (some (va_rf res.1)) res.2) σ 2 [(0, .ref x0), (1, .int x1)] [] := by
  intro H locs ls hH hL hl
  unfold b_X1_asItCame_2 at h
  refine lv_iload_n C.x C.b dX1_asItCame_2 rfl (lv_at hl 1 rfl) ?_
  refine lv_iconst (v := 3) C.x C.b dX1_asItCame_3 ki_3 ?_
  refine lv_icmp_ge (tgt := 44) C.x C.b dX1_asItCame_4 (by decide) (fun q => ?_) (fun q => ?_)
  · exact b_X1_asItCame_44_ok C hr  (cp h q) H locs ls hH hL (lv_sub hl [0] rfl)
  · exact b_X1_asItCame_7_ok C hr HR2 (cn h q) H locs ls hH hL (lv_sub hl [0, 1] rfl)
def L_X1_asItCame_2  (fu : Nat) (ev : Ev) : Nat → Mm → Nat → Int32 → Option (Option Nat × Mm)
  | 0, _, _, _ => none
  | n + 1, σ, x0, x1 => b_X1_asItCame_2  (L_X1_asItCame_2  fu ev n) fu ev σ x0 x1
theorem L_X1_asItCame_2_ok (C : Cx p m meth c cX1_asItCame 3 s args RX1 R ev D H0 0 0) (hr : meth.sig.returnType = (some (.object "CellReducer$Cell")))  : ∀ (n : Nat) {σ : Mm} {x0 : Nat} {x1 : Int32}, L_X1_asItCame_2  fu ev n σ x0 x1 = some res → GG p l e R s m args below meth c D H0 ev 3 (MQx D H0 ev below args s (some (va_rf res.1)) res.2) σ 2 [(0, .ref x0), (1, .int x1)] [] := by
  intro n
  induction n with
  | zero => intro σ x0 x1 h; exact (Option.some_ne_none _ (Eq.symm h)).elim
  | succ n ih => intro σ x0 x1 h; exact b_X1_asItCame_2_ok C hr  (fun σ _ _ h => ih h) h
def b_X1_asItCame_0  (fu : Nat) (ev : Ev) (σ : Mm) (x0 : Nat) : Option (Option Nat × Mm) :=
  L_X1_asItCame_2  fu ev fu σ x0 (0 : Int32)
set_option maxRecDepth 20000 in
theorem b_X1_asItCame_0_ok (C : Cx p m meth c cX1_asItCame 3 s args RX1 R ev D H0 0 0) (hr : meth.sig.returnType = (some (.object "CellReducer$Cell")))  {σ : Mm} {x0 : Nat} (h : b_X1_asItCame_0  fu ev σ x0 = some res) : GG p l e R s m args below meth c D H0 ev 3 (MQx D H0 ev below args s (some (va_rf res.1)) res.2) σ 0 [(0, .ref x0)] [] := by
  intro H locs ls hH hL hl
  unfold b_X1_asItCame_0 at h
  refine lv_iconst (v := 0) C.x C.b dX1_asItCame_0 ki_0 ?_
  refine lv_istore_n (i := 1) (lv' := [(1, .int (0 : Int32)), (0, .ref x0)]) C.x C.b dX1_asItCame_1 rfl hl (by decide) rfl (fun ls_1 hl_1 => ?_)
  exact L_X1_asItCame_2_ok C hr  fu h H locs ls_1 hH hL (lv_sub hl_1 [1, 0] rfl)
def f_X1_asItCame (fu : Nat) (ev : Ev) (σ : Mm) (x0 : Nat) : Option (Option Nat × Mm) := b_X1_asItCame_0  fu ev σ x0
set_option maxRecDepth 20000 in
theorem ct_X1_asItCame (l : Launch) (D : Dx) (H0 : Heap) {σ : Mm} {x0 : Nat} (h : f_X1_asItCame fu ev σ x0 = some res) : Ct l D H0 ev yX1_asItCame (ws_ yX1_asItCame cX1_asItCame 3 (some (.object "CellReducer$Cell"))) 0 0 [.ref x0] σ (some (va_rf res.1)) res.2 := by
  refine Ct_of (by decide) ?_
  intro p e R s m below meth c C hr hnm hH
  have hl := lv_entry [.ref x0] (n := 3) (Nat.le_of_ble_eq_true rfl)
  rw [lg_entry_eq]
  exact b_X1_asItCame_0_ok C hr  h s.heap [] _ hH (by simp) (lv_sub hl [0] rfl)
end M_X1_asItCame
theorem fl_X1_9 : FL RX1 9 1 0 := ⟨_, _, _, _, rfl, in_X1, by decide, q178, Or.inl rfl⟩
theorem fl_X1_15 : FL RX1 15 1 1 := ⟨_, _, _, _, rfl, in_X1, by decide, q180, Or.inl rfl⟩
theorem cv_X1_27 : CV RX1 27 1 yX1_asItCame cX1_asItCame 3 (some (.object "CellReducer$Cell")) 0 := ⟨_, rfl, lw_V q368 q369 q370 q104 q371, rfl, by decide, by decide, by decide +kernel⟩
/-! CellReducer$Cell.tells(JJJJJJ)LCellReducer$Cell; -/
section M_X1_tells
variable {p : Program} {l : Launch} {e : Env} {R : Room} {s : State} {m : MethodId} {args : Array Value} {below : List Frame} {meth : Method} {c : Code} {D : Dx} {H0 : Heap} {ev : Ev} {fu : Nat} {res : Option Nat × Mm}
def b_X1_tells_0  (fu : Nat) (ev : Ev) (σ : Mm) (x0 : Nat) (x1 : Int64) (x3 : Int64) (x5 : Int64) (x7 : Int64) (x9 : Int64) (x11 : Int64) : Option (Option Nat × Mm) :=
  (gfA σ x0 1 0).bind fun v1 =>
  v1.bind fun a2 =>
  (astJ ev σ a2 (0 : Int32) x1).bind fun s3 =>
  (gfA s3 x0 1 0).bind fun v4 =>
  v4.bind fun a5 =>
  (astJ ev s3 a5 (1 : Int32) x3).bind fun s6 =>
  (gfA s6 x0 1 0).bind fun v7 =>
  v7.bind fun a8 =>
  (astJ ev s6 a8 (2 : Int32) x5).bind fun s9 =>
  (gfA s9 x0 1 1).bind fun v10 =>
  v10.bind fun a11 =>
  (astJ ev s9 a11 (0 : Int32) x7).bind fun s12 =>
  (gfA s12 x0 1 1).bind fun v13 =>
  v13.bind fun a14 =>
  (astJ ev s12 a14 (1 : Int32) x9).bind fun s15 =>
  (gfA s15 x0 1 1).bind fun v16 =>
  v16.bind fun a17 =>
  (astJ ev s15 a17 (2 : Int32) x11).bind fun s18 =>
  (isC s18 x0 1).bind fun _ =>
  bd2 (f_X1_asItCame fu ev s18 x0) fun v20 s21 =>
  some (v20, s21)
set_option maxRecDepth 20000 in
theorem b_X1_tells_0_ok (C : Cx p m meth c cX1_tells 13 s args RX1 R ev D H0 1 22) (hr : meth.sig.returnType = (some (.object "CellReducer$Cell")))  {σ : Mm} {x0 : Nat} {x1 : Int64} {x3 : Int64} {x5 : Int64} {x7 : Int64} {x9 : Int64} {x11 : Int64} (h : b_X1_tells_0  fu ev σ x0 x1 x3 x5 x7 x9 x11 = some res) : GG p l e R s m args below meth c D H0 ev 13 (MQx D H0 ev below args s (some (va_rf res.1)) res.2) σ 0 [(0, .ref x0), (1, .long x1), (3, .long x3), (5, .long x5), (7, .long x7), (9, .long x9), (11, .long x11)] [] := by
  intro H locs ls hH hL hl
  unfold b_X1_tells_0 at h
  refine lv_aload_n C.x C.b dX1_tells_0 rfl (lv_at hl 0 rfl) ?_
  obtain ⟨v1, hv1, h_1⟩ := ob h
  refine m_getA C hH fl_X1_9 hv1 dX1_tells_1 ?_
  refine lv_iconst (v := 0) C.x C.b dX1_tells_4 ki_0 ?_
  refine lv_lload_n C.x C.b dX1_tells_5 rfl (lv_at hl 1 rfl) ?_
  obtain ⟨a2, e_, h_2⟩ := ob h_1; subst e_
  obtain ⟨s3, hs3, h_3⟩ := ob h_2
  refine m_last C hH hL hs3 dX1_tells_6 (fun H_4 locs_4 hH_4 hL_4 => ?_)
  refine lv_aload_n C.x C.b dX1_tells_7 rfl (lv_at hl 0 rfl) ?_
  obtain ⟨v4, hv4, h_5⟩ := ob h_3
  refine m_getA C hH_4 fl_X1_9 hv4 dX1_tells_8 ?_
  refine lv_iconst (v := 1) C.x C.b dX1_tells_11 ki_1 ?_
  refine lv_lload_n C.x C.b dX1_tells_12 rfl (lv_at hl 2 rfl) ?_
  obtain ⟨a5, e_, h_6⟩ := ob h_5; subst e_
  obtain ⟨s6, hs6, h_7⟩ := ob h_6
  refine m_last C hH_4 hL_4 hs6 dX1_tells_13 (fun H_8 locs_8 hH_8 hL_8 => ?_)
  refine lv_aload_n C.x C.b dX1_tells_14 rfl (lv_at hl 0 rfl) ?_
  obtain ⟨v7, hv7, h_9⟩ := ob h_7
  refine m_getA C hH_8 fl_X1_9 hv7 dX1_tells_15 ?_
  refine lv_iconst (v := 2) C.x C.b dX1_tells_18 ki_2 ?_
  refine lv_lload C.x C.b dX1_tells_19 (lv_at hl 3 rfl) ?_
  obtain ⟨a8, e_, h_10⟩ := ob h_9; subst e_
  obtain ⟨s9, hs9, h_11⟩ := ob h_10
  refine m_last C hH_8 hL_8 hs9 dX1_tells_21 (fun H_12 locs_12 hH_12 hL_12 => ?_)
  refine lv_aload_n C.x C.b dX1_tells_22 rfl (lv_at hl 0 rfl) ?_
  obtain ⟨v10, hv10, h_13⟩ := ob h_11
  refine m_getA C hH_12 fl_X1_15 hv10 dX1_tells_23 ?_
  refine lv_iconst (v := 0) C.x C.b dX1_tells_26 ki_0 ?_
  refine lv_lload C.x C.b dX1_tells_27 (lv_at hl 4 rfl) ?_
  obtain ⟨a11, e_, h_14⟩ := ob h_13; subst e_
  obtain ⟨s12, hs12, h_15⟩ := ob h_14
  refine m_last C hH_12 hL_12 hs12 dX1_tells_29 (fun H_16 locs_16 hH_16 hL_16 => ?_)
  refine lv_aload_n C.x C.b dX1_tells_30 rfl (lv_at hl 0 rfl) ?_
  obtain ⟨v13, hv13, h_17⟩ := ob h_15
  refine m_getA C hH_16 fl_X1_15 hv13 dX1_tells_31 ?_
  refine lv_iconst (v := 1) C.x C.b dX1_tells_34 ki_1 ?_
  refine lv_lload C.x C.b dX1_tells_35 (lv_at hl 5 rfl) ?_
  obtain ⟨a14, e_, h_18⟩ := ob h_17; subst e_
  obtain ⟨s15, hs15, h_19⟩ := ob h_18
  refine m_last C hH_16 hL_16 hs15 dX1_tells_37 (fun H_20 locs_20 hH_20 hL_20 => ?_)
  refine lv_aload_n C.x C.b dX1_tells_38 rfl (lv_at hl 0 rfl) ?_
  obtain ⟨v16, hv16, h_21⟩ := ob h_19
  refine m_getA C hH_20 fl_X1_15 hv16 dX1_tells_39 ?_
  refine lv_iconst (v := 2) C.x C.b dX1_tells_42 ki_2 ?_
  refine lv_lload C.x C.b dX1_tells_43 (lv_at hl 6 rfl) ?_
  obtain ⟨a17, e_, h_22⟩ := ob h_21; subst e_
  obtain ⟨s18, hs18, h_23⟩ := ob h_22
  refine m_last C hH_20 hL_20 hs18 dX1_tells_45 (fun H_24 locs_24 hH_24 hL_24 => ?_)
  refine lv_aload_n C.x C.b dX1_tells_46 rfl (lv_at hl 0 rfl) ?_
  obtain ⟨_, u19, h_25⟩ := ob h_23
  obtain ⟨v20, s21, hs21, h_26⟩ := ob2 h_25
  refine m_callVA (As := []) (rest := []) (v := v20) C hH_24 hL_24 cv_X1_27 (ct_X1_asItCame l D H0 hs21) u19 ⟨Nat.le_of_ble_eq_true rfl, Nat.le_of_ble_eq_true rfl⟩ rfl hl.1 rfl (Nat.le_of_ble_eq_true rfl) dX1_tells_47 (fun H_27 locs_27 hH_27 hL_27 => ?_)
  have hz_ := Option.some.inj h_26; subst hz_
  exact m_aret C hH_27 hL_27 hr (Or.inl ⟨_, rfl⟩) (v := v20) dX1_tells_50
def f_X1_tells (fu : Nat) (ev : Ev) (σ : Mm) (x0 : Nat) (x1 : Int64) (x3 : Int64) (x5 : Int64) (x7 : Int64) (x9 : Int64) (x11 : Int64) : Option (Option Nat × Mm) := b_X1_tells_0  fu ev σ x0 x1 x3 x5 x7 x9 x11
set_option maxRecDepth 20000 in
theorem ct_X1_tells (l : Launch) (D : Dx) (H0 : Heap) {σ : Mm} {x0 : Nat} {x1 : Int64} {x3 : Int64} {x5 : Int64} {x7 : Int64} {x9 : Int64} {x11 : Int64} (h : f_X1_tells fu ev σ x0 x1 x3 x5 x7 x9 x11 = some res) : Ct l D H0 ev yX1_tells (ws_ yX1_tells cX1_tells 13 (some (.object "CellReducer$Cell"))) 1 22 [.ref x0, .long x1, .long x3, .long x5, .long x7, .long x9, .long x11] σ (some (va_rf res.1)) res.2 := by
  refine Ct_of (by decide) ?_
  intro p e R s m below meth c C hr hnm hH
  have hl := lv_entry [.ref x0, .long x1, .long x3, .long x5, .long x7, .long x9, .long x11] (n := 13) (Nat.le_of_ble_eq_true rfl)
  rw [lg_entry_eq]
  exact b_X1_tells_0_ok C hr  h s.heap [] _ hH (by simp) (lv_sub hl [0, 1, 2, 3, 4, 5, 6] rfl)
end M_X1_tells
/-! CellReducer.isIn(JJJ)Z -/
section M_X0_isIn
variable {p : Program} {l : Launch} {e : Env} {R : Room} {s : State} {m : MethodId} {args : Array Value} {below : List Frame} {meth : Method} {c : Code} {D : Dx} {H0 : Heap} {ev : Ev} {fu : Nat} {res : Int32 × Mm}
def b_X0_isIn_18  (fu : Nat) (ev : Ev) (σ : Mm) (t0 : Int32) : Option (Int32 × Mm) :=
  (zbI t0).bind fun _ =>
  some (t0, σ)
set_option maxRecDepth 20000 in
theorem b_X0_isIn_18_ok (C : Cx p m meth c cX0_isIn 6 s args RX0 R ev D H0 0 0) (hr : meth.sig.returnType = (some .boolean))  {σ : Mm} {t0 : Int32} (h : b_X0_isIn_18  fu ev σ t0 = some res) : GG p l e R s m args below meth c D H0 ev 6 (MQx D H0 ev below args s (some (.int res.1)) res.2) σ 18 [] [.int t0] := by
  intro H locs ls hH hL hl
  unfold b_X0_isIn_18 at h
  obtain ⟨_, u1, h_1⟩ := ob h
  have hz_ := Option.some.inj h_1; subst hz_
  exact m_zret C hH hL hr (zbI_is u1) dX0_isIn_18
def b_X0_isIn_17  (fu : Nat) (ev : Ev) (σ : Mm)  : Option (Int32 × Mm) :=
  b_X0_isIn_18  fu ev σ (0 : Int32)
set_option maxRecDepth 20000 in
theorem b_X0_isIn_17_ok (C : Cx p m meth c cX0_isIn 6 s args RX0 R ev D H0 0 0) (hr : meth.sig.returnType = (some .boolean))  {σ : Mm}  (h : b_X0_isIn_17  fu ev σ  = some res) : GG p l e R s m args below meth c D H0 ev 6 (MQx D H0 ev below args s (some (.int res.1)) res.2) σ 17 [] [] := by
  intro H locs ls hH hL hl
  unfold b_X0_isIn_17 at h
  refine lv_iconst (v := 0) C.x C.b dX0_isIn_17 ki_0 ?_
  exact b_X0_isIn_18_ok C hr  h H locs ls hH hL (lv_sub hl [] rfl)
def b_X0_isIn_13  (fu : Nat) (ev : Ev) (σ : Mm)  : Option (Int32 × Mm) :=
  b_X0_isIn_18  fu ev σ (1 : Int32)
set_option maxRecDepth 20000 in
theorem b_X0_isIn_13_ok (C : Cx p m meth c cX0_isIn 6 s args RX0 R ev D H0 0 0) (hr : meth.sig.returnType = (some .boolean))  {σ : Mm}  (h : b_X0_isIn_13  fu ev σ  = some res) : GG p l e R s m args below meth c D H0 ev 6 (MQx D H0 ev below args s (some (.int res.1)) res.2) σ 13 [] [] := by
  intro H locs ls hH hL hl
  unfold b_X0_isIn_13 at h
  refine lv_iconst (v := 1) C.x C.b dX0_isIn_13 ki_1 ?_
  refine lv_goto (tgt := 18) C.x C.b dX0_isIn_14 (by decide) ?_
  exact b_X0_isIn_18_ok C hr  h H locs ls hH hL (lv_sub hl [] rfl)
def b_X0_isIn_6  (fu : Nat) (ev : Ev) (σ : Mm) (x0 : Int64) (x4 : Int64) : Option (Int32 × Mm) :=
  if x4 < x0 then b_X0_isIn_17  fu ev σ  else b_X0_isIn_13  fu ev σ 
set_option maxRecDepth 20000 in
theorem b_X0_isIn_6_ok (C : Cx p m meth c cX0_isIn 6 s args RX0 R ev D H0 0 0) (hr : meth.sig.returnType = (some .boolean))  {σ : Mm} {x0 : Int64} {x4 : Int64} (h : b_X0_isIn_6  fu ev σ x0 x4 = some res) : GG p l e R s m args below meth c D H0 ev 6 (MQx D H0 ev below args s (some (.int res.1)) res.2) σ 6 [(0, .long x0), (4, .long x4)] [] := by
  intro H locs ls hH hL hl
  unfold b_X0_isIn_6 at h
  refine lv_lload_n C.x C.b dX0_isIn_6 rfl (lv_at hl 0 rfl) ?_
  refine lv_lload C.x C.b dX0_isIn_7 (lv_at hl 1 rfl) ?_
  refine r_lc_gt (tgt := 17) C.x C.b dX0_isIn_9 dX0_isIn_10 (by decide) (fun q => ?_) (fun q => ?_)
  · exact b_X0_isIn_17_ok C hr  (cp h q) H locs ls hH hL (lv_sub hl [] rfl)
  · exact b_X0_isIn_13_ok C hr  (cn h q) H locs ls hH hL (lv_sub hl [] rfl)
def b_X0_isIn_0  (fu : Nat) (ev : Ev) (σ : Mm) (x0 : Int64) (x2 : Int64) (x4 : Int64) : Option (Int32 × Mm) :=
  if x0 < x2 then b_X0_isIn_17  fu ev σ  else b_X0_isIn_6  fu ev σ x0 x4
set_option maxRecDepth 20000 in
theorem b_X0_isIn_0_ok (C : Cx p m meth c cX0_isIn 6 s args RX0 R ev D H0 0 0) (hr : meth.sig.returnType = (some .boolean))  {σ : Mm} {x0 : Int64} {x2 : Int64} {x4 : Int64} (h : b_X0_isIn_0  fu ev σ x0 x2 x4 = some res) : GG p l e R s m args below meth c D H0 ev 6 (MQx D H0 ev below args s (some (.int res.1)) res.2) σ 0 [(0, .long x0), (2, .long x2), (4, .long x4)] [] := by
  intro H locs ls hH hL hl
  unfold b_X0_isIn_0 at h
  refine lv_lload_n C.x C.b dX0_isIn_0 rfl (lv_at hl 0 rfl) ?_
  refine lv_lload_n C.x C.b dX0_isIn_1 rfl (lv_at hl 1 rfl) ?_
  refine r_lc_lt (tgt := 17) C.x C.b dX0_isIn_2 dX0_isIn_3 (by decide) (fun q => ?_) (fun q => ?_)
  · exact b_X0_isIn_17_ok C hr  (cp h q) H locs ls hH hL (lv_sub hl [] rfl)
  · exact b_X0_isIn_6_ok C hr  (cn h q) H locs ls hH hL (lv_sub hl [0, 2] rfl)
def f_X0_isIn (fu : Nat) (ev : Ev) (σ : Mm) (x0 : Int64) (x2 : Int64) (x4 : Int64) : Option (Int32 × Mm) := b_X0_isIn_0  fu ev σ x0 x2 x4
set_option maxRecDepth 20000 in
theorem ct_X0_isIn (l : Launch) (D : Dx) (H0 : Heap) {σ : Mm} {x0 : Int64} {x2 : Int64} {x4 : Int64} (h : f_X0_isIn fu ev σ x0 x2 x4 = some res) : Ct l D H0 ev yX0_isIn (ws_ yX0_isIn cX0_isIn 6 (some .boolean)) 0 0 [.long x0, .long x2, .long x4] σ (some (.int res.1)) res.2 := by
  refine Ct_of (by decide) ?_
  intro p e R s m below meth c C hr hnm hH
  have hl := lv_entry [.long x0, .long x2, .long x4] (n := 6) (Nat.le_of_ble_eq_true rfl)
  rw [lg_entry_eq]
  exact b_X0_isIn_0_ok C hr  h s.heap [] _ hH (by simp) (lv_sub hl [0, 1, 2] rfl)
end M_X0_isIn
/-! CellReducer$Cell.volume()J -/
section M_X1_volume
variable {p : Program} {l : Launch} {e : Env} {R : Room} {s : State} {m : MethodId} {args : Array Value} {below : List Frame} {meth : Method} {c : Code} {D : Dx} {H0 : Heap} {ev : Ev} {fu : Nat} {res : Int64 × Mm}
def b_X1_volume_0  (fu : Nat) (ev : Ev) (σ : Mm) (x0 : Nat) : Option (Int64 × Mm) :=
  (gfA σ x0 1 0).bind fun v1 =>
  v1.bind fun a2 =>
  (aldJ σ a2 (0 : Int32)).bind fun v3 =>
  (gfA σ x0 1 0).bind fun v4 =>
  v4.bind fun a5 =>
  (aldJ σ a5 (1 : Int32)).bind fun v6 =>
  (gfA σ x0 1 0).bind fun v7 =>
  v7.bind fun a8 =>
  (aldJ σ a8 (2 : Int32)).bind fun v9 =>
  (gfA σ x0 1 1).bind fun v10 =>
  v10.bind fun a11 =>
  (aldJ σ a11 (0 : Int32)).bind fun v12 =>
  (gfA σ x0 1 1).bind fun v13 =>
  v13.bind fun a14 =>
  (aldJ σ a14 (1 : Int32)).bind fun v15 =>
  (gfA σ x0 1 1).bind fun v16 =>
  v16.bind fun a17 =>
  (aldJ σ a17 (2 : Int32)).bind fun v18 =>
  (gfA σ x0 1 0).bind fun v19 =>
  v19.bind fun a20 =>
  (aldJ σ a20 (0 : Int32)).bind fun v21 =>
  (gfA σ x0 1 1).bind fun v22 =>
  v22.bind fun a23 =>
  (aldJ σ a23 (0 : Int32)).bind fun v24 =>
  (gfA σ x0 1 1).bind fun v25 =>
  v25.bind fun a26 =>
  (aldJ σ a26 (0 : Int32)).bind fun v27 =>
  (gfA σ x0 1 0).bind fun v28 =>
  v28.bind fun a29 =>
  (aldJ σ a29 (1 : Int32)).bind fun v30 =>
  (gfA σ x0 1 1).bind fun v31 =>
  v31.bind fun a32 =>
  (aldJ σ a32 (1 : Int32)).bind fun v33 =>
  (gfA σ x0 1 1).bind fun v34 =>
  v34.bind fun a35 =>
  (aldJ σ a35 (1 : Int32)).bind fun v36 =>
  (gfA σ x0 1 0).bind fun v37 =>
  v37.bind fun a38 =>
  (aldJ σ a38 (2 : Int32)).bind fun v39 =>
  (gfA σ x0 1 1).bind fun v40 =>
  v40.bind fun a41 =>
  (aldJ σ a41 (2 : Int32)).bind fun v42 =>
  (gfA σ x0 1 1).bind fun v43 =>
  v43.bind fun a44 =>
  (aldJ σ a44 (2 : Int32)).bind fun v45 =>
  some ((((((((4 : Int64) * v3) * v6) * v9) + ((v12 * v15) * v18)) - ((v21 * v24) * v27)) - ((v30 * v33) * v36)) - ((v39 * v42) * v45), σ)
set_option maxRecDepth 20000 in
theorem b_X1_volume_0_ok (C : Cx p m meth c cX1_volume 1 s args RX1 R ev D H0 0 0) (hr : meth.sig.returnType = (some .long))  {σ : Mm} {x0 : Nat} (h : b_X1_volume_0  fu ev σ x0 = some res) : GG p l e R s m args below meth c D H0 ev 1 (MQx D H0 ev below args s (some (.long res.1)) res.2) σ 0 [(0, .ref x0)] [] := by
  intro H locs ls hH hL hl
  unfold b_X1_volume_0 at h
  refine lv_ldc2 C.x C.b C.1.2.2.2.1 (C.w q386) dX1_volume_0 ?_
  refine lv_aload_n C.x C.b dX1_volume_3 rfl (lv_at hl 0 rfl) ?_
  obtain ⟨v1, hv1, h_1⟩ := ob h
  refine m_getA C hH fl_X1_9 hv1 dX1_volume_4 ?_
  refine lv_iconst (v := 0) C.x C.b dX1_volume_7 ki_0 ?_
  obtain ⟨a2, e_, h_2⟩ := ob h_1; subst e_
  obtain ⟨v3, hv3, h_3⟩ := ob h_2
  refine m_lald C hH hv3 dX1_volume_8 ?_
  refine lv_lmul C.x C.b dX1_volume_9 ?_
  refine lv_aload_n C.x C.b dX1_volume_10 rfl (lv_at hl 0 rfl) ?_
  obtain ⟨v4, hv4, h_4⟩ := ob h_3
  refine m_getA C hH fl_X1_9 hv4 dX1_volume_11 ?_
  refine lv_iconst (v := 1) C.x C.b dX1_volume_14 ki_1 ?_
  obtain ⟨a5, e_, h_5⟩ := ob h_4; subst e_
  obtain ⟨v6, hv6, h_6⟩ := ob h_5
  refine m_lald C hH hv6 dX1_volume_15 ?_
  refine lv_lmul C.x C.b dX1_volume_16 ?_
  refine lv_aload_n C.x C.b dX1_volume_17 rfl (lv_at hl 0 rfl) ?_
  obtain ⟨v7, hv7, h_7⟩ := ob h_6
  refine m_getA C hH fl_X1_9 hv7 dX1_volume_18 ?_
  refine lv_iconst (v := 2) C.x C.b dX1_volume_21 ki_2 ?_
  obtain ⟨a8, e_, h_8⟩ := ob h_7; subst e_
  obtain ⟨v9, hv9, h_9⟩ := ob h_8
  refine m_lald C hH hv9 dX1_volume_22 ?_
  refine lv_lmul C.x C.b dX1_volume_23 ?_
  refine lv_aload_n C.x C.b dX1_volume_24 rfl (lv_at hl 0 rfl) ?_
  obtain ⟨v10, hv10, h_10⟩ := ob h_9
  refine m_getA C hH fl_X1_15 hv10 dX1_volume_25 ?_
  refine lv_iconst (v := 0) C.x C.b dX1_volume_28 ki_0 ?_
  obtain ⟨a11, e_, h_11⟩ := ob h_10; subst e_
  obtain ⟨v12, hv12, h_12⟩ := ob h_11
  refine m_lald C hH hv12 dX1_volume_29 ?_
  refine lv_aload_n C.x C.b dX1_volume_30 rfl (lv_at hl 0 rfl) ?_
  obtain ⟨v13, hv13, h_13⟩ := ob h_12
  refine m_getA C hH fl_X1_15 hv13 dX1_volume_31 ?_
  refine lv_iconst (v := 1) C.x C.b dX1_volume_34 ki_1 ?_
  obtain ⟨a14, e_, h_14⟩ := ob h_13; subst e_
  obtain ⟨v15, hv15, h_15⟩ := ob h_14
  refine m_lald C hH hv15 dX1_volume_35 ?_
  refine lv_lmul C.x C.b dX1_volume_36 ?_
  refine lv_aload_n C.x C.b dX1_volume_37 rfl (lv_at hl 0 rfl) ?_
  obtain ⟨v16, hv16, h_16⟩ := ob h_15
  refine m_getA C hH fl_X1_15 hv16 dX1_volume_38 ?_
  refine lv_iconst (v := 2) C.x C.b dX1_volume_41 ki_2 ?_
  obtain ⟨a17, e_, h_17⟩ := ob h_16; subst e_
  obtain ⟨v18, hv18, h_18⟩ := ob h_17
  refine m_lald C hH hv18 dX1_volume_42 ?_
  refine lv_lmul C.x C.b dX1_volume_43 ?_
  refine lv_ladd C.x C.b dX1_volume_44 ?_
  refine lv_aload_n C.x C.b dX1_volume_45 rfl (lv_at hl 0 rfl) ?_
  obtain ⟨v19, hv19, h_19⟩ := ob h_18
  refine m_getA C hH fl_X1_9 hv19 dX1_volume_46 ?_
  refine lv_iconst (v := 0) C.x C.b dX1_volume_49 ki_0 ?_
  obtain ⟨a20, e_, h_20⟩ := ob h_19; subst e_
  obtain ⟨v21, hv21, h_21⟩ := ob h_20
  refine m_lald C hH hv21 dX1_volume_50 ?_
  refine lv_aload_n C.x C.b dX1_volume_51 rfl (lv_at hl 0 rfl) ?_
  obtain ⟨v22, hv22, h_22⟩ := ob h_21
  refine m_getA C hH fl_X1_15 hv22 dX1_volume_52 ?_
  refine lv_iconst (v := 0) C.x C.b dX1_volume_55 ki_0 ?_
  obtain ⟨a23, e_, h_23⟩ := ob h_22; subst e_
  obtain ⟨v24, hv24, h_24⟩ := ob h_23
  refine m_lald C hH hv24 dX1_volume_56 ?_
  refine lv_lmul C.x C.b dX1_volume_57 ?_
  refine lv_aload_n C.x C.b dX1_volume_58 rfl (lv_at hl 0 rfl) ?_
  obtain ⟨v25, hv25, h_25⟩ := ob h_24
  refine m_getA C hH fl_X1_15 hv25 dX1_volume_59 ?_
  refine lv_iconst (v := 0) C.x C.b dX1_volume_62 ki_0 ?_
  obtain ⟨a26, e_, h_26⟩ := ob h_25; subst e_
  obtain ⟨v27, hv27, h_27⟩ := ob h_26
  refine m_lald C hH hv27 dX1_volume_63 ?_
  refine lv_lmul C.x C.b dX1_volume_64 ?_
  refine lv_lsub C.x C.b dX1_volume_65 ?_
  refine lv_aload_n C.x C.b dX1_volume_66 rfl (lv_at hl 0 rfl) ?_
  obtain ⟨v28, hv28, h_28⟩ := ob h_27
  refine m_getA C hH fl_X1_9 hv28 dX1_volume_67 ?_
  refine lv_iconst (v := 1) C.x C.b dX1_volume_70 ki_1 ?_
  obtain ⟨a29, e_, h_29⟩ := ob h_28; subst e_
  obtain ⟨v30, hv30, h_30⟩ := ob h_29
  refine m_lald C hH hv30 dX1_volume_71 ?_
  refine lv_aload_n C.x C.b dX1_volume_72 rfl (lv_at hl 0 rfl) ?_
  obtain ⟨v31, hv31, h_31⟩ := ob h_30
  refine m_getA C hH fl_X1_15 hv31 dX1_volume_73 ?_
  refine lv_iconst (v := 1) C.x C.b dX1_volume_76 ki_1 ?_
  obtain ⟨a32, e_, h_32⟩ := ob h_31; subst e_
  obtain ⟨v33, hv33, h_33⟩ := ob h_32
  refine m_lald C hH hv33 dX1_volume_77 ?_
  refine lv_lmul C.x C.b dX1_volume_78 ?_
  refine lv_aload_n C.x C.b dX1_volume_79 rfl (lv_at hl 0 rfl) ?_
  obtain ⟨v34, hv34, h_34⟩ := ob h_33
  refine m_getA C hH fl_X1_15 hv34 dX1_volume_80 ?_
  refine lv_iconst (v := 1) C.x C.b dX1_volume_83 ki_1 ?_
  obtain ⟨a35, e_, h_35⟩ := ob h_34; subst e_
  obtain ⟨v36, hv36, h_36⟩ := ob h_35
  refine m_lald C hH hv36 dX1_volume_84 ?_
  refine lv_lmul C.x C.b dX1_volume_85 ?_
  refine lv_lsub C.x C.b dX1_volume_86 ?_
  refine lv_aload_n C.x C.b dX1_volume_87 rfl (lv_at hl 0 rfl) ?_
  obtain ⟨v37, hv37, h_37⟩ := ob h_36
  refine m_getA C hH fl_X1_9 hv37 dX1_volume_88 ?_
  refine lv_iconst (v := 2) C.x C.b dX1_volume_91 ki_2 ?_
  obtain ⟨a38, e_, h_38⟩ := ob h_37; subst e_
  obtain ⟨v39, hv39, h_39⟩ := ob h_38
  refine m_lald C hH hv39 dX1_volume_92 ?_
  refine lv_aload_n C.x C.b dX1_volume_93 rfl (lv_at hl 0 rfl) ?_
  obtain ⟨v40, hv40, h_40⟩ := ob h_39
  refine m_getA C hH fl_X1_15 hv40 dX1_volume_94 ?_
  refine lv_iconst (v := 2) C.x C.b dX1_volume_97 ki_2 ?_
  obtain ⟨a41, e_, h_41⟩ := ob h_40; subst e_
  obtain ⟨v42, hv42, h_42⟩ := ob h_41
  refine m_lald C hH hv42 dX1_volume_98 ?_
  refine lv_lmul C.x C.b dX1_volume_99 ?_
  refine lv_aload_n C.x C.b dX1_volume_100 rfl (lv_at hl 0 rfl) ?_
  obtain ⟨v43, hv43, h_43⟩ := ob h_42
  refine m_getA C hH fl_X1_15 hv43 dX1_volume_101 ?_
  refine lv_iconst (v := 2) C.x C.b dX1_volume_104 ki_2 ?_
  obtain ⟨a44, e_, h_44⟩ := ob h_43; subst e_
  obtain ⟨v45, hv45, h_45⟩ := ob h_44
  refine m_lald C hH hv45 dX1_volume_105 ?_
  refine lv_lmul C.x C.b dX1_volume_106 ?_
  refine lv_lsub C.x C.b dX1_volume_107 ?_
  have hz_ := Option.some.inj h_45; subst hz_
  exact m_lret C hH hL hr dX1_volume_108
def f_X1_volume (fu : Nat) (ev : Ev) (σ : Mm) (x0 : Nat) : Option (Int64 × Mm) := b_X1_volume_0  fu ev σ x0
set_option maxRecDepth 20000 in
theorem ct_X1_volume (l : Launch) (D : Dx) (H0 : Heap) {σ : Mm} {x0 : Nat} (h : f_X1_volume fu ev σ x0 = some res) : Ct l D H0 ev yX1_volume (ws_ yX1_volume cX1_volume 1 (some .long)) 0 0 [.ref x0] σ (some (.long res.1)) res.2 := by
  refine Ct_of (by decide) ?_
  intro p e R s m below meth c C hr hnm hH
  have hl := lv_entry [.ref x0] (n := 1) (Nat.le_of_ble_eq_true rfl)
  rw [lg_entry_eq]
  exact b_X1_volume_0_ok C hr  h s.heap [] _ hH (by simp) (lv_sub hl [0] rfl)
end M_X1_volume
theorem cv_X1_53 : CV RX1 53 1 yX1_volume cX1_volume 1 (some .long) 0 := ⟨_, rfl, lw_V q387 q388 q389 q104 q390, rfl, by decide, by decide, by decide +kernel⟩
theorem cs_X1_45 : CSN RX1 45 yX0_isIn cX0_isIn 6 (some .boolean) 3 := ⟨lw_meth q383, ⟨"CellReducer", by decide⟩, q382, q103, by decide, by decide, by decide +kernel⟩
/-! CellReducer$Cell.mayBe()Z -/
section M_X1_mayBe
variable {p : Program} {l : Launch} {e : Env} {R : Room} {s : State} {m : MethodId} {args : Array Value} {below : List Frame} {meth : Method} {c : Code} {D : Dx} {H0 : Heap} {ev : Ev} {fu : Nat} {res : Int32 × Mm}
def b_X1_mayBe_122  (fu : Nat) (ev : Ev) (σ : Mm) (t0 : Int32) : Option (Int32 × Mm) :=
  (zbI t0).bind fun _ =>
  some (t0, σ)
set_option maxRecDepth 20000 in
theorem b_X1_mayBe_122_ok (C : Cx p m meth c cX1_mayBe 2 s args RX1 R ev D H0 1 25) (hr : meth.sig.returnType = (some .boolean))  {σ : Mm} {t0 : Int32} (h : b_X1_mayBe_122  fu ev σ t0 = some res) : GG p l e R s m args below meth c D H0 ev 2 (MQx D H0 ev below args s (some (.int res.1)) res.2) σ 122 [] [.int t0] := by
  intro H locs ls hH hL hl
  unfold b_X1_mayBe_122 at h
  obtain ⟨_, u1, h_1⟩ := ob h
  have hz_ := Option.some.inj h_1; subst hz_
  exact m_zret C hH hL hr (zbI_is u1) dX1_mayBe_122
def b_X1_mayBe_121  (fu : Nat) (ev : Ev) (σ : Mm)  : Option (Int32 × Mm) :=
  b_X1_mayBe_122  fu ev σ (0 : Int32)
set_option maxRecDepth 20000 in
theorem b_X1_mayBe_121_ok (C : Cx p m meth c cX1_mayBe 2 s args RX1 R ev D H0 1 25) (hr : meth.sig.returnType = (some .boolean))  {σ : Mm}  (h : b_X1_mayBe_121  fu ev σ  = some res) : GG p l e R s m args below meth c D H0 ev 2 (MQx D H0 ev below args s (some (.int res.1)) res.2) σ 121 [] [] := by
  intro H locs ls hH hL hl
  unfold b_X1_mayBe_121 at h
  refine lv_iconst (v := 0) C.x C.b dX1_mayBe_121 ki_0 ?_
  exact b_X1_mayBe_122_ok C hr  h H locs ls hH hL (lv_sub hl [] rfl)
def b_X1_mayBe_117  (fu : Nat) (ev : Ev) (σ : Mm)  : Option (Int32 × Mm) :=
  b_X1_mayBe_122  fu ev σ (1 : Int32)
set_option maxRecDepth 20000 in
theorem b_X1_mayBe_117_ok (C : Cx p m meth c cX1_mayBe 2 s args RX1 R ev D H0 1 25) (hr : meth.sig.returnType = (some .boolean))  {σ : Mm}  (h : b_X1_mayBe_117  fu ev σ  = some res) : GG p l e R s m args below meth c D H0 ev 2 (MQx D H0 ev below args s (some (.int res.1)) res.2) σ 117 [] [] := by
  intro H locs ls hH hL hl
  unfold b_X1_mayBe_117 at h
  refine lv_iconst (v := 1) C.x C.b dX1_mayBe_117 ki_1 ?_
  refine lv_goto (tgt := 122) C.x C.b dX1_mayBe_118 (by decide) ?_
  exact b_X1_mayBe_122_ok C hr  h H locs ls hH hL (lv_sub hl [] rfl)
def b_X1_mayBe_108  (fu : Nat) (ev : Ev) (σ : Mm) (x0 : Nat) : Option (Int32 × Mm) :=
  (isC σ x0 1).bind fun _ =>
  bd2 (f_X1_volume fu ev σ x0) fun v2 s3 =>
  if v2 ≤ (0 : Int64) then b_X1_mayBe_121  fu ev s3  else b_X1_mayBe_117  fu ev s3 
set_option maxRecDepth 20000 in
theorem b_X1_mayBe_108_ok (C : Cx p m meth c cX1_mayBe 2 s args RX1 R ev D H0 1 25) (hr : meth.sig.returnType = (some .boolean))  {σ : Mm} {x0 : Nat} (h : b_X1_mayBe_108  fu ev σ x0 = some res) : GG p l e R s m args below meth c D H0 ev 2 (MQx D H0 ev below args s (some (.int res.1)) res.2) σ 108 [(0, .ref x0)] [] := by
  intro H locs ls hH hL hl
  unfold b_X1_mayBe_108 at h
  refine lv_aload_n C.x C.b dX1_mayBe_108 rfl (lv_at hl 0 rfl) ?_
  obtain ⟨_, u1, h_1⟩ := ob h
  obtain ⟨v2, s3, hs3, h_2⟩ := ob2 h_1
  refine m_callVJ (As := []) (rest := []) (v := v2) C hH hL cv_X1_53 (ct_X1_volume l D H0 hs3) u1 ⟨Nat.le_of_ble_eq_true rfl, Nat.le_of_ble_eq_true rfl⟩ rfl hl.1 rfl (Nat.le_of_ble_eq_true rfl) dX1_mayBe_109 (fun H_3 locs_3 hH_3 hL_3 => ?_)
  refine lv_lconst (v := 0) C.x C.b dX1_mayBe_112 rfl ?_
  refine r_lc_le (tgt := 121) C.x C.b dX1_mayBe_113 dX1_mayBe_114 (by decide) (fun q => ?_) (fun q => ?_)
  · exact b_X1_mayBe_121_ok C hr  (cp h_2 q) H_3 locs_3 ls hH_3 hL_3 (lv_sub hl [] rfl)
  · exact b_X1_mayBe_117_ok C hr  (cn h_2 q) H_3 locs_3 ls hH_3 hL_3 (lv_sub hl [] rfl)
def b_X1_mayBe_102 (R51 : Mm → Nat → Int32 → Option (Int32 × Mm)) (fu : Nat) (ev : Ev) (σ : Mm) (x0 : Nat) (x1 : Int32) : Option (Int32 × Mm) :=
  R51 σ x0 (x1 + (1 : Int32))
set_option maxRecDepth 20000 in
theorem b_X1_mayBe_102_ok (C : Cx p m meth c cX1_mayBe 2 s args RX1 R ev D H0 1 25) (hr : meth.sig.returnType = (some .boolean)) {R51 : Mm → Nat → Int32 → Option (Int32 × Mm)} (HR51 : ∀ (σ : Mm) (x0 : Nat) (x1 : Int32), R51 σ x0 x1 = some res → GG p l e R s m args below meth c D H0 ev 2 (MQx D H0 ev below args s (some (.int res.1)) res.2) σ 51 [(0, .ref x0), (1, .int x1)] []) {σ : Mm} {x0 : Nat} {x1 : Int32} (h : b_X1_mayBe_102 R51 fu ev σ x0 x1 = some res) : GG p l e R s m args below meth c D H0 ev 2 (MQx D H0 ev below args s (some (.int res.1)) res.2) σ 102 [(0, .ref x0), (1, .int x1)] [] := by
  intro H locs ls hH hL hl
  unfold b_X1_mayBe_102 at h
  refine lv_iinc (v := x1 + (1 : Int32)) (lv' := [(1, .int (x1 + (1 : Int32))), (0, .ref x0)]) C.x C.b dX1_mayBe_102 hl (k := 1) rfl (by rw [ki_1]) (by decide) rfl (fun ls_1 hl_1 => ?_)
  refine lv_goto (tgt := 51) C.x C.b dX1_mayBe_105 (by decide) ?_
  exact HR51 _ _ _ h H locs ls_1 hH hL (lv_sub hl_1 [1, 0] rfl)
def b_X1_mayBe_100  (fu : Nat) (ev : Ev) (σ : Mm)  : Option (Int32 × Mm) :=
  some ((0 : Int32), σ)
set_option maxRecDepth 20000 in
theorem b_X1_mayBe_100_ok (C : Cx p m meth c cX1_mayBe 2 s args RX1 R ev D H0 1 25) (hr : meth.sig.returnType = (some .boolean))  {σ : Mm}  (h : b_X1_mayBe_100  fu ev σ  = some res) : GG p l e R s m args below meth c D H0 ev 2 (MQx D H0 ev below args s (some (.int res.1)) res.2) σ 100 [] [] := by
  intro H locs ls hH hL hl
  unfold b_X1_mayBe_100 at h
  refine lv_iconst (v := 0) C.x C.b dX1_mayBe_100 ki_0 ?_
  have hz_ := Option.some.inj h; subst hz_
  exact m_zret C hH hL hr (Or.inl rfl) dX1_mayBe_101
def b_X1_mayBe_56 (R51 : Mm → Nat → Int32 → Option (Int32 × Mm)) (fu : Nat) (ev : Ev) (σ : Mm) (x0 : Nat) (x1 : Int32) : Option (Int32 × Mm) :=
  (gfA σ x0 1 0).bind fun v1 =>
  v1.bind fun a2 =>
  (aldJ σ a2 ((x1 + (1 : Int32)) - (x1 + (1 : Int32)) / (3 : Int32) * (3 : Int32))).bind fun v3 =>
  (gfA σ x0 1 0).bind fun v4 =>
  v4.bind fun a5 =>
  (aldJ σ a5 ((x1 + (2 : Int32)) - (x1 + (2 : Int32)) / (3 : Int32) * (3 : Int32))).bind fun v6 =>
  (gfA σ x0 1 1).bind fun v7 =>
  v7.bind fun a8 =>
  (aldJ σ a8 x1).bind fun v9 =>
  (gfA σ x0 1 1).bind fun v10 =>
  v10.bind fun a11 =>
  (aldJ σ a11 x1).bind fun v12 =>
  if (0 : Int64) < ((((4 : Int64) * v3) * v6) - (v9 * v12)) then b_X1_mayBe_102 R51 fu ev σ x0 x1 else b_X1_mayBe_100  fu ev σ 
set_option maxRecDepth 20000 in
theorem b_X1_mayBe_56_ok (C : Cx p m meth c cX1_mayBe 2 s args RX1 R ev D H0 1 25) (hr : meth.sig.returnType = (some .boolean)) {R51 : Mm → Nat → Int32 → Option (Int32 × Mm)} (HR51 : ∀ (σ : Mm) (x0 : Nat) (x1 : Int32), R51 σ x0 x1 = some res → GG p l e R s m args below meth c D H0 ev 2 (MQx D H0 ev below args s (some (.int res.1)) res.2) σ 51 [(0, .ref x0), (1, .int x1)] []) {σ : Mm} {x0 : Nat} {x1 : Int32} (h : b_X1_mayBe_56 R51 fu ev σ x0 x1 = some res) : GG p l e R s m args below meth c D H0 ev 2 (MQx D H0 ev below args s (some (.int res.1)) res.2) σ 56 [(0, .ref x0), (1, .int x1)] [] := by
  intro H locs ls hH hL hl
  unfold b_X1_mayBe_56 at h
  refine lv_ldc2 C.x C.b C.1.2.2.2.1 (C.w q386) dX1_mayBe_56 ?_
  refine lv_aload_n C.x C.b dX1_mayBe_59 rfl (lv_at hl 0 rfl) ?_
  obtain ⟨v1, hv1, h_1⟩ := ob h
  refine m_getA C hH fl_X1_9 hv1 dX1_mayBe_60 ?_
  refine lv_iload_n C.x C.b dX1_mayBe_63 rfl (lv_at hl 1 rfl) ?_
  refine lv_iconst (v := 1) C.x C.b dX1_mayBe_64 ki_1 ?_
  refine lv_iadd C.x C.b dX1_mayBe_65 ?_
  refine lv_iconst (v := 3) C.x C.b dX1_mayBe_66 ki_3 ?_
  refine lv_irem C.x C.b dX1_mayBe_67 (by decide) ?_
  obtain ⟨a2, e_, h_2⟩ := ob h_1; subst e_
  obtain ⟨v3, hv3, h_3⟩ := ob h_2
  refine m_lald C hH hv3 dX1_mayBe_68 ?_
  refine lv_lmul C.x C.b dX1_mayBe_69 ?_
  refine lv_aload_n C.x C.b dX1_mayBe_70 rfl (lv_at hl 0 rfl) ?_
  obtain ⟨v4, hv4, h_4⟩ := ob h_3
  refine m_getA C hH fl_X1_9 hv4 dX1_mayBe_71 ?_
  refine lv_iload_n C.x C.b dX1_mayBe_74 rfl (lv_at hl 1 rfl) ?_
  refine lv_iconst (v := 2) C.x C.b dX1_mayBe_75 ki_2 ?_
  refine lv_iadd C.x C.b dX1_mayBe_76 ?_
  refine lv_iconst (v := 3) C.x C.b dX1_mayBe_77 ki_3 ?_
  refine lv_irem C.x C.b dX1_mayBe_78 (by decide) ?_
  obtain ⟨a5, e_, h_5⟩ := ob h_4; subst e_
  obtain ⟨v6, hv6, h_6⟩ := ob h_5
  refine m_lald C hH hv6 dX1_mayBe_79 ?_
  refine lv_lmul C.x C.b dX1_mayBe_80 ?_
  refine lv_aload_n C.x C.b dX1_mayBe_81 rfl (lv_at hl 0 rfl) ?_
  obtain ⟨v7, hv7, h_7⟩ := ob h_6
  refine m_getA C hH fl_X1_15 hv7 dX1_mayBe_82 ?_
  refine lv_iload_n C.x C.b dX1_mayBe_85 rfl (lv_at hl 1 rfl) ?_
  obtain ⟨a8, e_, h_8⟩ := ob h_7; subst e_
  obtain ⟨v9, hv9, h_9⟩ := ob h_8
  refine m_lald C hH hv9 dX1_mayBe_86 ?_
  refine lv_aload_n C.x C.b dX1_mayBe_87 rfl (lv_at hl 0 rfl) ?_
  obtain ⟨v10, hv10, h_10⟩ := ob h_9
  refine m_getA C hH fl_X1_15 hv10 dX1_mayBe_88 ?_
  refine lv_iload_n C.x C.b dX1_mayBe_91 rfl (lv_at hl 1 rfl) ?_
  obtain ⟨a11, e_, h_11⟩ := ob h_10; subst e_
  obtain ⟨v12, hv12, h_12⟩ := ob h_11
  refine m_lald C hH hv12 dX1_mayBe_92 ?_
  refine lv_lmul C.x C.b dX1_mayBe_93 ?_
  refine lv_lsub C.x C.b dX1_mayBe_94 ?_
  refine lv_lconst (v := 0) C.x C.b dX1_mayBe_95 rfl ?_
  refine r_lc_gt (tgt := 102) C.x C.b dX1_mayBe_96 dX1_mayBe_97 (by decide) (fun q => ?_) (fun q => ?_)
  · exact b_X1_mayBe_102_ok C hr HR51 (cp h_12 q) H locs ls hH hL (lv_sub hl [0, 1] rfl)
  · exact b_X1_mayBe_100_ok C hr  (cn h_12 q) H locs ls hH hL (lv_sub hl [] rfl)
def b_X1_mayBe_51 (R51 : Mm → Nat → Int32 → Option (Int32 × Mm)) (fu : Nat) (ev : Ev) (σ : Mm) (x0 : Nat) (x1 : Int32) : Option (Int32 × Mm) :=
  if (3 : Int32) ≤ x1 then b_X1_mayBe_108  fu ev σ x0 else b_X1_mayBe_56 R51 fu ev σ x0 x1
set_option maxRecDepth 20000 in
theorem b_X1_mayBe_51_ok (C : Cx p m meth c cX1_mayBe 2 s args RX1 R ev D H0 1 25) (hr : meth.sig.returnType = (some .boolean)) {R51 : Mm → Nat → Int32 → Option (Int32 × Mm)} (HR51 : ∀ (σ : Mm) (x0 : Nat) (x1 : Int32), R51 σ x0 x1 = some res → GG p l e R s m args below meth c D H0 ev 2 (MQx D H0 ev below args s (some (.int res.1)) res.2) σ 51 [(0, .ref x0), (1, .int x1)] []) {σ : Mm} {x0 : Nat} {x1 : Int32} (h : b_X1_mayBe_51 R51 fu ev σ x0 x1 = some res) : GG p l e R s m args below meth c D H0 ev 2 (MQx D H0 ev below args s (some (.int res.1)) res.2) σ 51 [(0, .ref x0), (1, .int x1)] [] := by
  intro H locs ls hH hL hl
  unfold b_X1_mayBe_51 at h
  refine lv_iload_n C.x C.b dX1_mayBe_51 rfl (lv_at hl 1 rfl) ?_
  refine lv_iconst (v := 3) C.x C.b dX1_mayBe_52 ki_3 ?_
  refine lv_icmp_ge (tgt := 108) C.x C.b dX1_mayBe_53 (by decide) (fun q => ?_) (fun q => ?_)
  · exact b_X1_mayBe_108_ok C hr  (cp h q) H locs ls hH hL (lv_sub hl [0] rfl)
  · exact b_X1_mayBe_56_ok C hr HR51 (cn h q) H locs ls hH hL (lv_sub hl [0, 1] rfl)
def L_X1_mayBe_51  (fu : Nat) (ev : Ev) : Nat → Mm → Nat → Int32 → Option (Int32 × Mm)
  | 0, _, _, _ => none
  | n + 1, σ, x0, x1 => b_X1_mayBe_51  (L_X1_mayBe_51  fu ev n) fu ev σ x0 x1
theorem L_X1_mayBe_51_ok (C : Cx p m meth c cX1_mayBe 2 s args RX1 R ev D H0 1 25) (hr : meth.sig.returnType = (some .boolean))  : ∀ (n : Nat) {σ : Mm} {x0 : Nat} {x1 : Int32}, L_X1_mayBe_51  fu ev n σ x0 x1 = some res → GG p l e R s m args below meth c D H0 ev 2 (MQx D H0 ev below args s (some (.int res.1)) res.2) σ 51 [(0, .ref x0), (1, .int x1)] [] := by
  intro n
  induction n with
  | zero => intro σ x0 x1 h; exact (Option.some_ne_none _ (Eq.symm h)).elim
  | succ n ih => intro σ x0 x1 h; exact b_X1_mayBe_51_ok C hr  (fun σ _ _ h => ih h) h
def b_X1_mayBe_49  (fu : Nat) (ev : Ev) (σ : Mm) (x0 : Nat) : Option (Int32 × Mm) :=
  L_X1_mayBe_51  fu ev fu σ x0 (0 : Int32)
set_option maxRecDepth 20000 in
theorem b_X1_mayBe_49_ok (C : Cx p m meth c cX1_mayBe 2 s args RX1 R ev D H0 1 25) (hr : meth.sig.returnType = (some .boolean))  {σ : Mm} {x0 : Nat} (h : b_X1_mayBe_49  fu ev σ x0 = some res) : GG p l e R s m args below meth c D H0 ev 2 (MQx D H0 ev below args s (some (.int res.1)) res.2) σ 49 [(0, .ref x0)] [] := by
  intro H locs ls hH hL hl
  unfold b_X1_mayBe_49 at h
  refine lv_iconst (v := 0) C.x C.b dX1_mayBe_49 ki_0 ?_
  refine lv_istore_n (i := 1) (lv' := [(1, .int (0 : Int32)), (0, .ref x0)]) C.x C.b dX1_mayBe_50 rfl hl (by decide) rfl (fun ls_1 hl_1 => ?_)
  exact L_X1_mayBe_51_ok C hr  fu h H locs ls_1 hH hL (lv_sub hl_1 [1, 0] rfl)
def b_X1_mayBe_41  (fu : Nat) (ev : Ev) (σ : Mm)  : Option (Int32 × Mm) :=
  some ((0 : Int32), σ)
set_option maxRecDepth 20000 in
theorem b_X1_mayBe_41_ok (C : Cx p m meth c cX1_mayBe 2 s args RX1 R ev D H0 1 25) (hr : meth.sig.returnType = (some .boolean))  {σ : Mm}  (h : b_X1_mayBe_41  fu ev σ  = some res) : GG p l e R s m args below meth c D H0 ev 2 (MQx D H0 ev below args s (some (.int res.1)) res.2) σ 41 [] [] := by
  intro H locs ls hH hL hl
  unfold b_X1_mayBe_41 at h
  refine lv_iconst (v := 0) C.x C.b dX1_mayBe_41 ki_0 ?_
  have hz_ := Option.some.inj h; subst hz_
  exact m_zret C hH hL hr (Or.inl rfl) dX1_mayBe_42
def b_X1_mayBe_43 (R2 : Mm → Nat → Int32 → Option (Int32 × Mm)) (fu : Nat) (ev : Ev) (σ : Mm) (x0 : Nat) (x1 : Int32) : Option (Int32 × Mm) :=
  R2 σ x0 (x1 + (1 : Int32))
set_option maxRecDepth 20000 in
theorem b_X1_mayBe_43_ok (C : Cx p m meth c cX1_mayBe 2 s args RX1 R ev D H0 1 25) (hr : meth.sig.returnType = (some .boolean)) {R2 : Mm → Nat → Int32 → Option (Int32 × Mm)} (HR2 : ∀ (σ : Mm) (x0 : Nat) (x1 : Int32), R2 σ x0 x1 = some res → GG p l e R s m args below meth c D H0 ev 2 (MQx D H0 ev below args s (some (.int res.1)) res.2) σ 2 [(0, .ref x0), (1, .int x1)] []) {σ : Mm} {x0 : Nat} {x1 : Int32} (h : b_X1_mayBe_43 R2 fu ev σ x0 x1 = some res) : GG p l e R s m args below meth c D H0 ev 2 (MQx D H0 ev below args s (some (.int res.1)) res.2) σ 43 [(0, .ref x0), (1, .int x1)] [] := by
  intro H locs ls hH hL hl
  unfold b_X1_mayBe_43 at h
  refine lv_iinc (v := x1 + (1 : Int32)) (lv' := [(1, .int (x1 + (1 : Int32))), (0, .ref x0)]) C.x C.b dX1_mayBe_43 hl (k := 1) rfl (by rw [ki_1]) (by decide) rfl (fun ls_1 hl_1 => ?_)
  refine lv_goto (tgt := 2) C.x C.b dX1_mayBe_46 (by decide) ?_
  exact HR2 _ _ _ h H locs ls_1 hH hL (lv_sub hl_1 [1, 0] rfl)
def b_X1_mayBe_23 (R2 : Mm → Nat → Int32 → Option (Int32 × Mm)) (fu : Nat) (ev : Ev) (σ : Mm) (x0 : Nat) (x1 : Int32) : Option (Int32 × Mm) :=
  (gfA σ x0 1 1).bind fun v1 =>
  v1.bind fun a2 =>
  (aldJ σ a2 x1).bind fun v3 =>
  bd2 (f_X0_isIn fu ev σ v3 (-200000 : Int64) (200000 : Int64)) fun v4 s5 =>
  if v4 = 0 then b_X1_mayBe_41  fu ev s5  else b_X1_mayBe_43 R2 fu ev s5 x0 x1
set_option maxRecDepth 20000 in
theorem b_X1_mayBe_23_ok (C : Cx p m meth c cX1_mayBe 2 s args RX1 R ev D H0 1 25) (hr : meth.sig.returnType = (some .boolean)) {R2 : Mm → Nat → Int32 → Option (Int32 × Mm)} (HR2 : ∀ (σ : Mm) (x0 : Nat) (x1 : Int32), R2 σ x0 x1 = some res → GG p l e R s m args below meth c D H0 ev 2 (MQx D H0 ev below args s (some (.int res.1)) res.2) σ 2 [(0, .ref x0), (1, .int x1)] []) {σ : Mm} {x0 : Nat} {x1 : Int32} (h : b_X1_mayBe_23 R2 fu ev σ x0 x1 = some res) : GG p l e R s m args below meth c D H0 ev 2 (MQx D H0 ev below args s (some (.int res.1)) res.2) σ 23 [(0, .ref x0), (1, .int x1)] [] := by
  intro H locs ls hH hL hl
  unfold b_X1_mayBe_23 at h
  refine lv_aload_n C.x C.b dX1_mayBe_23 rfl (lv_at hl 0 rfl) ?_
  obtain ⟨v1, hv1, h_1⟩ := ob h
  refine m_getA C hH fl_X1_15 hv1 dX1_mayBe_24 ?_
  refine lv_iload_n C.x C.b dX1_mayBe_27 rfl (lv_at hl 1 rfl) ?_
  obtain ⟨a2, e_, h_2⟩ := ob h_1; subst e_
  obtain ⟨v3, hv3, h_3⟩ := ob h_2
  refine m_lald C hH hv3 dX1_mayBe_28 ?_
  refine lv_ldc2 C.x C.b C.1.2.2.2.1 (C.w q384) dX1_mayBe_29 ?_
  refine lv_ldc2 C.x C.b C.1.2.2.2.1 (C.w q385) dX1_mayBe_32 ?_
  obtain ⟨v4, s5, hs5, h_4⟩ := ob2 h_3
  refine m_callSIn (As := [.long v3, .long (-200000 : Int64), .long (200000 : Int64)]) (rest := []) (v := v4) C hH hL cs_X1_45 (ct_X0_isIn l D H0 hs5) ⟨Nat.le_of_ble_eq_true rfl, Nat.le_of_ble_eq_true rfl⟩ rfl hl.1 rfl (Nat.le_of_ble_eq_true rfl) dX1_mayBe_35 (fun H_5 locs_5 hH_5 hL_5 => ?_)
  refine lv_if_ne (tgt := 43) C.x C.b dX1_mayBe_38 (by decide) (fun q => ?_) (fun q => ?_)
  · exact b_X1_mayBe_43_ok C hr HR2 (cn h_4 q) H_5 locs_5 ls hH_5 hL_5 (lv_sub hl [0, 1] rfl)
  · exact b_X1_mayBe_41_ok C hr  (cp h_4 q) H_5 locs_5 ls hH_5 hL_5 (lv_sub hl [] rfl)
def b_X1_mayBe_7 (R2 : Mm → Nat → Int32 → Option (Int32 × Mm)) (fu : Nat) (ev : Ev) (σ : Mm) (x0 : Nat) (x1 : Int32) : Option (Int32 × Mm) :=
  (gfA σ x0 1 0).bind fun v1 =>
  v1.bind fun a2 =>
  (aldJ σ a2 x1).bind fun v3 =>
  bd2 (f_X0_isIn fu ev σ v3 (1 : Int64) (100000 : Int64)) fun v4 s5 =>
  if v4 = 0 then b_X1_mayBe_41  fu ev s5  else b_X1_mayBe_23 R2 fu ev s5 x0 x1
set_option maxRecDepth 20000 in
theorem b_X1_mayBe_7_ok (C : Cx p m meth c cX1_mayBe 2 s args RX1 R ev D H0 1 25) (hr : meth.sig.returnType = (some .boolean)) {R2 : Mm → Nat → Int32 → Option (Int32 × Mm)} (HR2 : ∀ (σ : Mm) (x0 : Nat) (x1 : Int32), R2 σ x0 x1 = some res → GG p l e R s m args below meth c D H0 ev 2 (MQx D H0 ev below args s (some (.int res.1)) res.2) σ 2 [(0, .ref x0), (1, .int x1)] []) {σ : Mm} {x0 : Nat} {x1 : Int32} (h : b_X1_mayBe_7 R2 fu ev σ x0 x1 = some res) : GG p l e R s m args below meth c D H0 ev 2 (MQx D H0 ev below args s (some (.int res.1)) res.2) σ 7 [(0, .ref x0), (1, .int x1)] [] := by
  intro H locs ls hH hL hl
  unfold b_X1_mayBe_7 at h
  refine lv_aload_n C.x C.b dX1_mayBe_7 rfl (lv_at hl 0 rfl) ?_
  obtain ⟨v1, hv1, h_1⟩ := ob h
  refine m_getA C hH fl_X1_9 hv1 dX1_mayBe_8 ?_
  refine lv_iload_n C.x C.b dX1_mayBe_11 rfl (lv_at hl 1 rfl) ?_
  obtain ⟨a2, e_, h_2⟩ := ob h_1; subst e_
  obtain ⟨v3, hv3, h_3⟩ := ob h_2
  refine m_lald C hH hv3 dX1_mayBe_12 ?_
  refine lv_lconst (v := 1) C.x C.b dX1_mayBe_13 rfl ?_
  refine lv_ldc2 C.x C.b C.1.2.2.2.1 (C.w q380) dX1_mayBe_14 ?_
  obtain ⟨v4, s5, hs5, h_4⟩ := ob2 h_3
  refine m_callSIn (As := [.long v3, .long (1 : Int64), .long (100000 : Int64)]) (rest := []) (v := v4) C hH hL cs_X1_45 (ct_X0_isIn l D H0 hs5) ⟨Nat.le_of_ble_eq_true rfl, Nat.le_of_ble_eq_true rfl⟩ rfl hl.1 rfl (Nat.le_of_ble_eq_true rfl) dX1_mayBe_17 (fun H_5 locs_5 hH_5 hL_5 => ?_)
  refine lv_if_eq (tgt := 41) C.x C.b dX1_mayBe_20 (by decide) (fun q => ?_) (fun q => ?_)
  · exact b_X1_mayBe_41_ok C hr  (cp h_4 q) H_5 locs_5 ls hH_5 hL_5 (lv_sub hl [] rfl)
  · exact b_X1_mayBe_23_ok C hr HR2 (cn h_4 q) H_5 locs_5 ls hH_5 hL_5 (lv_sub hl [0, 1] rfl)
def b_X1_mayBe_2 (R2 : Mm → Nat → Int32 → Option (Int32 × Mm)) (fu : Nat) (ev : Ev) (σ : Mm) (x0 : Nat) (x1 : Int32) : Option (Int32 × Mm) :=
  if (3 : Int32) ≤ x1 then b_X1_mayBe_49  fu ev σ x0 else b_X1_mayBe_7 R2 fu ev σ x0 x1
set_option maxRecDepth 20000 in
theorem b_X1_mayBe_2_ok (C : Cx p m meth c cX1_mayBe 2 s args RX1 R ev D H0 1 25) (hr : meth.sig.returnType = (some .boolean)) {R2 : Mm → Nat → Int32 → Option (Int32 × Mm)} (HR2 : ∀ (σ : Mm) (x0 : Nat) (x1 : Int32), R2 σ x0 x1 = some res → GG p l e R s m args below meth c D H0 ev 2 (MQx D H0 ev below args s (some (.int res.1)) res.2) σ 2 [(0, .ref x0), (1, .int x1)] []) {σ : Mm} {x0 : Nat} {x1 : Int32} (h : b_X1_mayBe_2 R2 fu ev σ x0 x1 = some res) : GG p l e R s m args below meth c D H0 ev 2 (MQx D H0 ev below args s (some (.int res.1)) res.2) σ 2 [(0, .ref x0), (1, .int x1)] [] := by
  intro H locs ls hH hL hl
  unfold b_X1_mayBe_2 at h
  refine lv_iload_n C.x C.b dX1_mayBe_2 rfl (lv_at hl 1 rfl) ?_
  refine lv_iconst (v := 3) C.x C.b dX1_mayBe_3 ki_3 ?_
  refine lv_icmp_ge (tgt := 49) C.x C.b dX1_mayBe_4 (by decide) (fun q => ?_) (fun q => ?_)
  · exact b_X1_mayBe_49_ok C hr  (cp h q) H locs ls hH hL (lv_sub hl [0] rfl)
  · exact b_X1_mayBe_7_ok C hr HR2 (cn h q) H locs ls hH hL (lv_sub hl [0, 1] rfl)
def L_X1_mayBe_2  (fu : Nat) (ev : Ev) : Nat → Mm → Nat → Int32 → Option (Int32 × Mm)
  | 0, _, _, _ => none
  | n + 1, σ, x0, x1 => b_X1_mayBe_2  (L_X1_mayBe_2  fu ev n) fu ev σ x0 x1
theorem L_X1_mayBe_2_ok (C : Cx p m meth c cX1_mayBe 2 s args RX1 R ev D H0 1 25) (hr : meth.sig.returnType = (some .boolean))  : ∀ (n : Nat) {σ : Mm} {x0 : Nat} {x1 : Int32}, L_X1_mayBe_2  fu ev n σ x0 x1 = some res → GG p l e R s m args below meth c D H0 ev 2 (MQx D H0 ev below args s (some (.int res.1)) res.2) σ 2 [(0, .ref x0), (1, .int x1)] [] := by
  intro n
  induction n with
  | zero => intro σ x0 x1 h; exact (Option.some_ne_none _ (Eq.symm h)).elim
  | succ n ih => intro σ x0 x1 h; exact b_X1_mayBe_2_ok C hr  (fun σ _ _ h => ih h) h
def b_X1_mayBe_0  (fu : Nat) (ev : Ev) (σ : Mm) (x0 : Nat) : Option (Int32 × Mm) :=
  L_X1_mayBe_2  fu ev fu σ x0 (0 : Int32)
set_option maxRecDepth 20000 in
theorem b_X1_mayBe_0_ok (C : Cx p m meth c cX1_mayBe 2 s args RX1 R ev D H0 1 25) (hr : meth.sig.returnType = (some .boolean))  {σ : Mm} {x0 : Nat} (h : b_X1_mayBe_0  fu ev σ x0 = some res) : GG p l e R s m args below meth c D H0 ev 2 (MQx D H0 ev below args s (some (.int res.1)) res.2) σ 0 [(0, .ref x0)] [] := by
  intro H locs ls hH hL hl
  unfold b_X1_mayBe_0 at h
  refine lv_iconst (v := 0) C.x C.b dX1_mayBe_0 ki_0 ?_
  refine lv_istore_n (i := 1) (lv' := [(1, .int (0 : Int32)), (0, .ref x0)]) C.x C.b dX1_mayBe_1 rfl hl (by decide) rfl (fun ls_1 hl_1 => ?_)
  exact L_X1_mayBe_2_ok C hr  fu h H locs ls_1 hH hL (lv_sub hl_1 [1, 0] rfl)
def f_X1_mayBe (fu : Nat) (ev : Ev) (σ : Mm) (x0 : Nat) : Option (Int32 × Mm) := b_X1_mayBe_0  fu ev σ x0
set_option maxRecDepth 20000 in
theorem ct_X1_mayBe (l : Launch) (D : Dx) (H0 : Heap) {σ : Mm} {x0 : Nat} (h : f_X1_mayBe fu ev σ x0 = some res) : Ct l D H0 ev yX1_mayBe (ws_ yX1_mayBe cX1_mayBe 2 (some .boolean)) 1 25 [.ref x0] σ (some (.int res.1)) res.2 := by
  refine Ct_of (by decide) ?_
  intro p e R s m below meth c C hr hnm hH
  have hl := lv_entry [.ref x0] (n := 2) (Nat.le_of_ble_eq_true rfl)
  rw [lg_entry_eq]
  exact b_X1_mayBe_0_ok C hr  h s.heap [] _ hH (by simp) (lv_sub hl [0] rfl)
end M_X1_mayBe
/-! CellReducer$Cell.takes(LCellReducer$Cell;)LCellReducer$Cell; -/
section M_X1_takes
variable {p : Program} {l : Launch} {e : Env} {R : Room} {s : State} {m : MethodId} {args : Array Value} {below : List Frame} {meth : Method} {c : Code} {D : Dx} {H0 : Heap} {ev : Ev} {fu : Nat} {res : Option Nat × Mm}
def b_X1_takes_55  (fu : Nat) (ev : Ev) (σ : Mm) (x0 : Nat) : Option (Option Nat × Mm) :=
  some ((some x0), σ)
set_option maxRecDepth 20000 in
theorem b_X1_takes_55_ok (C : Cx p m meth c cX1_takes 3 s args RX1 R ev D H0 1 60) (hr : meth.sig.returnType = (some (.object "CellReducer$Cell")))  {σ : Mm} {x0 : Nat} (h : b_X1_takes_55  fu ev σ x0 = some res) : GG p l e R s m args below meth c D H0 ev 3 (MQx D H0 ev below args s (some (va_rf res.1)) res.2) σ 55 [(0, .ref x0)] [] := by
  intro H locs ls hH hL hl
  unfold b_X1_takes_55 at h
  refine lv_aload_n C.x C.b dX1_takes_55 rfl (lv_at hl 0 rfl) ?_
  have hz_ := Option.some.inj h; subst hz_
  exact m_aret C hH hL hr (Or.inl ⟨_, rfl⟩) (v := (some x0)) dX1_takes_56
def b_X1_takes_7 (R2 : Mm → Nat → Option Nat → Int32 → Option (Option Nat × Mm)) (fu : Nat) (ev : Ev) (σ : Mm) (x0 : Nat) (x1 : Option Nat) (x2 : Int32) : Option (Option Nat × Mm) :=
  (gfA σ x0 1 0).bind fun v1 =>
  x1.bind fun a2 =>
  (gfA σ a2 1 0).bind fun v3 =>
  v3.bind fun a4 =>
  (aldJ σ a4 x2).bind fun v5 =>
  v1.bind fun a6 =>
  (astJ ev σ a6 x2 v5).bind fun s7 =>
  (gfA s7 x0 1 1).bind fun v8 =>
  (gfA s7 a2 1 1).bind fun v9 =>
  v9.bind fun a10 =>
  (aldJ s7 a10 x2).bind fun v11 =>
  v8.bind fun a12 =>
  (astJ ev s7 a12 x2 v11).bind fun s13 =>
  (gfA s13 a2 1 2).bind fun v14 =>
  v14.bind fun a15 =>
  (aldA 6 s13 a15 x2).bind fun v16 =>
  (gfA s13 x0 1 2).bind fun v17 =>
  v17.bind fun a18 =>
  (aldA 6 s13 a18 x2).bind fun v19 =>
  v16.bind fun a20 =>
  v19.bind fun a21 =>
  (cpyJ ev s13 a20 (0 : Int32) a21 (0 : Int32) (3 : Int32)).bind fun s22 =>
  R2 s22 x0 (some a2) (x2 + (1 : Int32))
set_option maxRecDepth 20000 in
theorem b_X1_takes_7_ok (C : Cx p m meth c cX1_takes 3 s args RX1 R ev D H0 1 60) (hr : meth.sig.returnType = (some (.object "CellReducer$Cell"))) {R2 : Mm → Nat → Option Nat → Int32 → Option (Option Nat × Mm)} (HR2 : ∀ (σ : Mm) (x0 : Nat) (x1 : Option Nat) (x2 : Int32), R2 σ x0 x1 x2 = some res → GG p l e R s m args below meth c D H0 ev 3 (MQx D H0 ev below args s (some (va_rf res.1)) res.2) σ 2 [(0, .ref x0), (1, va_rf x1), (2, .int x2)] []) {σ : Mm} {x0 : Nat} {x1 : Option Nat} {x2 : Int32} (h : b_X1_takes_7 R2 fu ev σ x0 x1 x2 = some res) : GG p l e R s m args below meth c D H0 ev 3 (MQx D H0 ev below args s (some (va_rf res.1)) res.2) σ 7 [(0, .ref x0), (1, va_rf x1), (2, .int x2)] [] := by
  intro H locs ls hH hL hl
  unfold b_X1_takes_7 at h
  refine lv_aload_n C.x C.b dX1_takes_7 rfl (lv_at hl 0 rfl) ?_
  obtain ⟨v1, hv1, h_1⟩ := ob h
  refine m_getA C hH fl_X1_9 hv1 dX1_takes_8 ?_
  refine lv_iload_n C.x C.b dX1_takes_11 rfl (lv_at hl 2 rfl) ?_
  refine r_aload_n C.x C.b dX1_takes_12 rfl (lv_at hl 1 rfl) ?_
  obtain ⟨a2, e_, h_2⟩ := ob h_1; subst e_
  obtain ⟨v3, hv3, h_3⟩ := ob h_2
  refine m_getA C hH fl_X1_9 hv3 dX1_takes_13 ?_
  refine lv_iload_n C.x C.b dX1_takes_16 rfl (lv_at hl 2 rfl) ?_
  obtain ⟨a4, e_, h_4⟩ := ob h_3; subst e_
  obtain ⟨v5, hv5, h_5⟩ := ob h_4
  refine m_lald C hH hv5 dX1_takes_17 ?_
  obtain ⟨a6, e_, h_6⟩ := ob h_5; subst e_
  obtain ⟨s7, hs7, h_7⟩ := ob h_6
  refine m_last C hH hL hs7 dX1_takes_18 (fun H_8 locs_8 hH_8 hL_8 => ?_)
  refine lv_aload_n C.x C.b dX1_takes_19 rfl (lv_at hl 0 rfl) ?_
  obtain ⟨v8, hv8, h_9⟩ := ob h_7
  refine m_getA C hH_8 fl_X1_15 hv8 dX1_takes_20 ?_
  refine lv_iload_n C.x C.b dX1_takes_23 rfl (lv_at hl 2 rfl) ?_
  refine lv_aload_n C.x C.b dX1_takes_24 rfl (lv_at hl 1 rfl) ?_
  obtain ⟨v9, hv9, h_10⟩ := ob h_9
  refine m_getA C hH_8 fl_X1_15 hv9 dX1_takes_25 ?_
  refine lv_iload_n C.x C.b dX1_takes_28 rfl (lv_at hl 2 rfl) ?_
  obtain ⟨a10, e_, h_11⟩ := ob h_10; subst e_
  obtain ⟨v11, hv11, h_12⟩ := ob h_11
  refine m_lald C hH_8 hv11 dX1_takes_29 ?_
  obtain ⟨a12, e_, h_13⟩ := ob h_12; subst e_
  obtain ⟨s13, hs13, h_14⟩ := ob h_13
  refine m_last C hH_8 hL_8 hs13 dX1_takes_30 (fun H_15 locs_15 hH_15 hL_15 => ?_)
  refine lv_aload_n C.x C.b dX1_takes_31 rfl (lv_at hl 1 rfl) ?_
  obtain ⟨v14, hv14, h_16⟩ := ob h_14
  refine m_getA C hH_15 fl_X1_20 hv14 dX1_takes_32 ?_
  refine lv_iload_n C.x C.b dX1_takes_35 rfl (lv_at hl 2 rfl) ?_
  obtain ⟨a15, e_, h_17⟩ := ob h_16; subst e_
  obtain ⟨v16, hv16, h_18⟩ := ob h_17
  refine m_aald (κ := 6) rfl (by decide) C hH_15 hv16 dX1_takes_36 ?_
  refine lv_iconst (v := 0) C.x C.b dX1_takes_37 ki_0 ?_
  refine lv_aload_n C.x C.b dX1_takes_38 rfl (lv_at hl 0 rfl) ?_
  obtain ⟨v17, hv17, h_19⟩ := ob h_18
  refine m_getA C hH_15 fl_X1_20 hv17 dX1_takes_39 ?_
  refine lv_iload_n C.x C.b dX1_takes_42 rfl (lv_at hl 2 rfl) ?_
  obtain ⟨a18, e_, h_20⟩ := ob h_19; subst e_
  obtain ⟨v19, hv19, h_21⟩ := ob h_20
  refine m_aald (κ := 6) rfl (by decide) C hH_15 hv19 dX1_takes_43 ?_
  refine lv_iconst (v := 0) C.x C.b dX1_takes_44 ki_0 ?_
  refine lv_iconst (v := 3) C.x C.b dX1_takes_45 ki_3 ?_
  obtain ⟨a20, e_, h_22⟩ := ob h_21; subst e_
  obtain ⟨a21, e_, h_23⟩ := ob h_22; subst e_
  obtain ⟨s22, hs22, h_24⟩ := ob h_23
  refine m_copyJ (rest := []) C hH_15 hL_15 q395 q397 q396 q112 hs22 hl.1 (Nat.le_of_ble_eq_true rfl) (Nat.le_of_ble_eq_true rfl) dX1_takes_46 (fun H_25 locs_25 hH_25 hL_25 => ?_)
  refine lv_iinc (v := x2 + (1 : Int32)) (lv' := [(2, .int (x2 + (1 : Int32))), (0, .ref x0), (1, .ref a2)]) C.x C.b dX1_takes_49 hl (k := 2) rfl (by rw [ki_1]) (by decide) rfl (fun ls_26 hl_26 => ?_)
  refine lv_goto (tgt := 2) C.x C.b dX1_takes_52 (by decide) ?_
  exact HR2 _ _ _ _ h_24 H_25 locs_25 ls_26 hH_25 hL_25 (lv_sub hl_26 [1, 2, 0] rfl)
def b_X1_takes_2 (R2 : Mm → Nat → Option Nat → Int32 → Option (Option Nat × Mm)) (fu : Nat) (ev : Ev) (σ : Mm) (x0 : Nat) (x1 : Option Nat) (x2 : Int32) : Option (Option Nat × Mm) :=
  if (3 : Int32) ≤ x2 then b_X1_takes_55  fu ev σ x0 else b_X1_takes_7 R2 fu ev σ x0 x1 x2
set_option maxRecDepth 20000 in
theorem b_X1_takes_2_ok (C : Cx p m meth c cX1_takes 3 s args RX1 R ev D H0 1 60) (hr : meth.sig.returnType = (some (.object "CellReducer$Cell"))) {R2 : Mm → Nat → Option Nat → Int32 → Option (Option Nat × Mm)} (HR2 : ∀ (σ : Mm) (x0 : Nat) (x1 : Option Nat) (x2 : Int32), R2 σ x0 x1 x2 = some res → GG p l e R s m args below meth c D H0 ev 3 (MQx D H0 ev below args s (some (va_rf res.1)) res.2) σ 2 [(0, .ref x0), (1, va_rf x1), (2, .int x2)] []) {σ : Mm} {x0 : Nat} {x1 : Option Nat} {x2 : Int32} (h : b_X1_takes_2 R2 fu ev σ x0 x1 x2 = some res) : GG p l e R s m args below meth c D H0 ev 3 (MQx D H0 ev below args s (some (va_rf res.1)) res.2) σ 2 [(0, .ref x0), (1, va_rf x1), (2, .int x2)] [] := by
  intro H locs ls hH hL hl
  unfold b_X1_takes_2 at h
  refine lv_iload_n C.x C.b dX1_takes_2 rfl (lv_at hl 2 rfl) ?_
  refine lv_iconst (v := 3) C.x C.b dX1_takes_3 ki_3 ?_
  refine lv_icmp_ge (tgt := 55) C.x C.b dX1_takes_4 (by decide) (fun q => ?_) (fun q => ?_)
  · exact b_X1_takes_55_ok C hr  (cp h q) H locs ls hH hL (lv_sub hl [0] rfl)
  · exact b_X1_takes_7_ok C hr HR2 (cn h q) H locs ls hH hL (lv_sub hl [0, 1, 2] rfl)
def L_X1_takes_2  (fu : Nat) (ev : Ev) : Nat → Mm → Nat → Option Nat → Int32 → Option (Option Nat × Mm)
  | 0, _, _, _, _ => none
  | n + 1, σ, x0, x1, x2 => b_X1_takes_2  (L_X1_takes_2  fu ev n) fu ev σ x0 x1 x2
theorem L_X1_takes_2_ok (C : Cx p m meth c cX1_takes 3 s args RX1 R ev D H0 1 60) (hr : meth.sig.returnType = (some (.object "CellReducer$Cell")))  : ∀ (n : Nat) {σ : Mm} {x0 : Nat} {x1 : Option Nat} {x2 : Int32}, L_X1_takes_2  fu ev n σ x0 x1 x2 = some res → GG p l e R s m args below meth c D H0 ev 3 (MQx D H0 ev below args s (some (va_rf res.1)) res.2) σ 2 [(0, .ref x0), (1, va_rf x1), (2, .int x2)] [] := by
  intro n
  induction n with
  | zero => intro σ x0 x1 x2 h; exact (Option.some_ne_none _ (Eq.symm h)).elim
  | succ n ih => intro σ x0 x1 x2 h; exact b_X1_takes_2_ok C hr  (fun σ _ _ _ h => ih h) h
def b_X1_takes_0  (fu : Nat) (ev : Ev) (σ : Mm) (x0 : Nat) (x1 : Option Nat) : Option (Option Nat × Mm) :=
  L_X1_takes_2  fu ev fu σ x0 x1 (0 : Int32)
set_option maxRecDepth 20000 in
theorem b_X1_takes_0_ok (C : Cx p m meth c cX1_takes 3 s args RX1 R ev D H0 1 60) (hr : meth.sig.returnType = (some (.object "CellReducer$Cell")))  {σ : Mm} {x0 : Nat} {x1 : Option Nat} (h : b_X1_takes_0  fu ev σ x0 x1 = some res) : GG p l e R s m args below meth c D H0 ev 3 (MQx D H0 ev below args s (some (va_rf res.1)) res.2) σ 0 [(0, .ref x0), (1, va_rf x1)] [] := by
  intro H locs ls hH hL hl
  unfold b_X1_takes_0 at h
  refine lv_iconst (v := 0) C.x C.b dX1_takes_0 ki_0 ?_
  refine lv_istore_n (i := 2) (lv' := [(2, .int (0 : Int32)), (0, .ref x0), (1, va_rf x1)]) C.x C.b dX1_takes_1 rfl hl (by decide) (by simp [cat_I, cat_J, cat_R, r_catv, rf_some]) (fun ls_1 hl_1 => ?_)
  exact L_X1_takes_2_ok C hr  fu h H locs ls_1 hH hL (lv_sub hl_1 [1, 2, 0] rfl)
def f_X1_takes (fu : Nat) (ev : Ev) (σ : Mm) (x0 : Nat) (x1 : Option Nat) : Option (Option Nat × Mm) := b_X1_takes_0  fu ev σ x0 x1
set_option maxRecDepth 20000 in
theorem ct_X1_takes (l : Launch) (D : Dx) (H0 : Heap) {σ : Mm} {x0 : Nat} {x1 : Option Nat} (h : f_X1_takes fu ev σ x0 x1 = some res) : Ct l D H0 ev yX1_takes (ws_ yX1_takes cX1_takes 3 (some (.object "CellReducer$Cell"))) 1 60 [.ref x0, va_rf x1] σ (some (va_rf res.1)) res.2 := by
  refine Ct_of (by decide) ?_
  intro p e R s m below meth c C hr hnm hH
  have hl := lv_entry [.ref x0, va_rf x1] (n := 3) (by simp [lg_sl, cat_I, cat_J, cat_R, r_catv, rf_some])
  rw [lg_entry_eq]
  exact b_X1_takes_0_ok C hr  h s.heap [] _ hH (by simp) (lv_sub hl [0, 1] (by simp [lv_args, lv_pick, cat_I, cat_J, cat_R, r_catv, rf_some]))
end M_X1_takes
/-! CellReducer$Cell.six(I)J -/
section M_X1_six
variable {p : Program} {l : Launch} {e : Env} {R : Room} {s : State} {m : MethodId} {args : Array Value} {below : List Frame} {meth : Method} {c : Code} {D : Dx} {H0 : Heap} {ev : Ev} {fu : Nat} {res : Int64 × Mm}
def b_X1_six_22  (fu : Nat) (ev : Ev) (σ : Mm) (t0 : Int64) : Option (Int64 × Mm) :=
  some (t0, σ)
set_option maxRecDepth 20000 in
theorem b_X1_six_22_ok (C : Cx p m meth c cX1_six 2 s args RX1 R ev D H0 0 0) (hr : meth.sig.returnType = (some .long))  {σ : Mm} {t0 : Int64} (h : b_X1_six_22  fu ev σ t0 = some res) : GG p l e R s m args below meth c D H0 ev 2 (MQx D H0 ev below args s (some (.long res.1)) res.2) σ 22 [] [.long t0] := by
  intro H locs ls hH hL hl
  unfold b_X1_six_22 at h
  have hz_ := Option.some.inj h; subst hz_
  exact m_lret C hH hL hr dX1_six_22
def b_X1_six_14  (fu : Nat) (ev : Ev) (σ : Mm) (x0 : Nat) (x1 : Int32) : Option (Int64 × Mm) :=
  (gfA σ x0 1 1).bind fun v1 =>
  v1.bind fun a2 =>
  (aldJ σ a2 (x1 - (3 : Int32))).bind fun v3 =>
  b_X1_six_22  fu ev σ v3
set_option maxRecDepth 20000 in
theorem b_X1_six_14_ok (C : Cx p m meth c cX1_six 2 s args RX1 R ev D H0 0 0) (hr : meth.sig.returnType = (some .long))  {σ : Mm} {x0 : Nat} {x1 : Int32} (h : b_X1_six_14  fu ev σ x0 x1 = some res) : GG p l e R s m args below meth c D H0 ev 2 (MQx D H0 ev below args s (some (.long res.1)) res.2) σ 14 [(0, .ref x0), (1, .int x1)] [] := by
  intro H locs ls hH hL hl
  unfold b_X1_six_14 at h
  refine lv_aload_n C.x C.b dX1_six_14 rfl (lv_at hl 0 rfl) ?_
  obtain ⟨v1, hv1, h_1⟩ := ob h
  refine m_getA C hH fl_X1_15 hv1 dX1_six_15 ?_
  refine lv_iload_n C.x C.b dX1_six_18 rfl (lv_at hl 1 rfl) ?_
  refine lv_iconst (v := 3) C.x C.b dX1_six_19 ki_3 ?_
  refine lv_isub C.x C.b dX1_six_20 ?_
  obtain ⟨a2, e_, h_2⟩ := ob h_1; subst e_
  obtain ⟨v3, hv3, h_3⟩ := ob h_2
  refine m_lald C hH hv3 dX1_six_21 ?_
  exact b_X1_six_22_ok C hr  h_3 H locs ls hH hL (lv_sub hl [] rfl)
def b_X1_six_5  (fu : Nat) (ev : Ev) (σ : Mm) (x0 : Nat) (x1 : Int32) : Option (Int64 × Mm) :=
  (gfA σ x0 1 0).bind fun v1 =>
  v1.bind fun a2 =>
  (aldJ σ a2 x1).bind fun v3 =>
  b_X1_six_22  fu ev σ v3
set_option maxRecDepth 20000 in
theorem b_X1_six_5_ok (C : Cx p m meth c cX1_six 2 s args RX1 R ev D H0 0 0) (hr : meth.sig.returnType = (some .long))  {σ : Mm} {x0 : Nat} {x1 : Int32} (h : b_X1_six_5  fu ev σ x0 x1 = some res) : GG p l e R s m args below meth c D H0 ev 2 (MQx D H0 ev below args s (some (.long res.1)) res.2) σ 5 [(0, .ref x0), (1, .int x1)] [] := by
  intro H locs ls hH hL hl
  unfold b_X1_six_5 at h
  refine lv_aload_n C.x C.b dX1_six_5 rfl (lv_at hl 0 rfl) ?_
  obtain ⟨v1, hv1, h_1⟩ := ob h
  refine m_getA C hH fl_X1_9 hv1 dX1_six_6 ?_
  refine lv_iload_n C.x C.b dX1_six_9 rfl (lv_at hl 1 rfl) ?_
  obtain ⟨a2, e_, h_2⟩ := ob h_1; subst e_
  obtain ⟨v3, hv3, h_3⟩ := ob h_2
  refine m_lald C hH hv3 dX1_six_10 ?_
  refine lv_goto (tgt := 22) C.x C.b dX1_six_11 (by decide) ?_
  exact b_X1_six_22_ok C hr  h_3 H locs ls hH hL (lv_sub hl [] rfl)
def b_X1_six_0  (fu : Nat) (ev : Ev) (σ : Mm) (x0 : Nat) (x1 : Int32) : Option (Int64 × Mm) :=
  if (3 : Int32) ≤ x1 then b_X1_six_14  fu ev σ x0 x1 else b_X1_six_5  fu ev σ x0 x1
set_option maxRecDepth 20000 in
theorem b_X1_six_0_ok (C : Cx p m meth c cX1_six 2 s args RX1 R ev D H0 0 0) (hr : meth.sig.returnType = (some .long))  {σ : Mm} {x0 : Nat} {x1 : Int32} (h : b_X1_six_0  fu ev σ x0 x1 = some res) : GG p l e R s m args below meth c D H0 ev 2 (MQx D H0 ev below args s (some (.long res.1)) res.2) σ 0 [(0, .ref x0), (1, .int x1)] [] := by
  intro H locs ls hH hL hl
  unfold b_X1_six_0 at h
  refine lv_iload_n C.x C.b dX1_six_0 rfl (lv_at hl 1 rfl) ?_
  refine lv_iconst (v := 3) C.x C.b dX1_six_1 ki_3 ?_
  refine lv_icmp_ge (tgt := 14) C.x C.b dX1_six_2 (by decide) (fun q => ?_) (fun q => ?_)
  · exact b_X1_six_14_ok C hr  (cp h q) H locs ls hH hL (lv_sub hl [0, 1] rfl)
  · exact b_X1_six_5_ok C hr  (cn h q) H locs ls hH hL (lv_sub hl [0, 1] rfl)
def f_X1_six (fu : Nat) (ev : Ev) (σ : Mm) (x0 : Nat) (x1 : Int32) : Option (Int64 × Mm) := b_X1_six_0  fu ev σ x0 x1
set_option maxRecDepth 20000 in
theorem ct_X1_six (l : Launch) (D : Dx) (H0 : Heap) {σ : Mm} {x0 : Nat} {x1 : Int32} (h : f_X1_six fu ev σ x0 x1 = some res) : Ct l D H0 ev yX1_six (ws_ yX1_six cX1_six 2 (some .long)) 0 0 [.ref x0, .int x1] σ (some (.long res.1)) res.2 := by
  refine Ct_of (by decide) ?_
  intro p e R s m below meth c C hr hnm hH
  have hl := lv_entry [.ref x0, .int x1] (n := 2) (Nat.le_of_ble_eq_true rfl)
  rw [lg_entry_eq]
  exact b_X1_six_0_ok C hr  h s.heap [] _ hH (by simp) (lv_sub hl [0, 1] rfl)
end M_X1_six
/-! CellReducer$Cell.squareBy(IIJ)J -/
section M_X1_squareBy
variable {p : Program} {l : Launch} {e : Env} {R : Room} {s : State} {m : MethodId} {args : Array Value} {below : List Frame} {meth : Method} {c : Code} {D : Dx} {H0 : Heap} {ev : Ev} {fu : Nat} {res : Int64 × Mm}
def b_X1_squareBy_0  (fu : Nat) (ev : Ev) (σ : Mm) (x0 : Nat) (x1 : Int32) (x2 : Int32) (x3 : Int64) : Option (Int64 × Mm) :=
  (gfA σ x0 1 0).bind fun v1 =>
  v1.bind fun a2 =>
  (aldJ σ a2 x1).bind fun v3 =>
  (gfA σ x0 1 1).bind fun v4 =>
  v4.bind fun a5 =>
  (aldJ σ a5 (((3 : Int32) - x1) - x2)).bind fun v6 =>
  (gfA σ x0 1 0).bind fun v7 =>
  v7.bind fun a8 =>
  (aldJ σ a8 x2).bind fun v9 =>
  some ((v3 + (x3 * v6)) + ((x3 * x3) * v9), σ)
set_option maxRecDepth 20000 in
theorem b_X1_squareBy_0_ok (C : Cx p m meth c cX1_squareBy 5 s args RX1 R ev D H0 0 0) (hr : meth.sig.returnType = (some .long))  {σ : Mm} {x0 : Nat} {x1 : Int32} {x2 : Int32} {x3 : Int64} (h : b_X1_squareBy_0  fu ev σ x0 x1 x2 x3 = some res) : GG p l e R s m args below meth c D H0 ev 5 (MQx D H0 ev below args s (some (.long res.1)) res.2) σ 0 [(0, .ref x0), (1, .int x1), (2, .int x2), (3, .long x3)] [] := by
  intro H locs ls hH hL hl
  unfold b_X1_squareBy_0 at h
  refine lv_aload_n C.x C.b dX1_squareBy_0 rfl (lv_at hl 0 rfl) ?_
  obtain ⟨v1, hv1, h_1⟩ := ob h
  refine m_getA C hH fl_X1_9 hv1 dX1_squareBy_1 ?_
  refine lv_iload_n C.x C.b dX1_squareBy_4 rfl (lv_at hl 1 rfl) ?_
  obtain ⟨a2, e_, h_2⟩ := ob h_1; subst e_
  obtain ⟨v3, hv3, h_3⟩ := ob h_2
  refine m_lald C hH hv3 dX1_squareBy_5 ?_
  refine lv_lload_n C.x C.b dX1_squareBy_6 rfl (lv_at hl 3 rfl) ?_
  refine lv_aload_n C.x C.b dX1_squareBy_7 rfl (lv_at hl 0 rfl) ?_
  obtain ⟨v4, hv4, h_4⟩ := ob h_3
  refine m_getA C hH fl_X1_15 hv4 dX1_squareBy_8 ?_
  refine lv_iconst (v := 3) C.x C.b dX1_squareBy_11 ki_3 ?_
  refine lv_iload_n C.x C.b dX1_squareBy_12 rfl (lv_at hl 1 rfl) ?_
  refine lv_isub C.x C.b dX1_squareBy_13 ?_
  refine lv_iload_n C.x C.b dX1_squareBy_14 rfl (lv_at hl 2 rfl) ?_
  refine lv_isub C.x C.b dX1_squareBy_15 ?_
  obtain ⟨a5, e_, h_5⟩ := ob h_4; subst e_
  obtain ⟨v6, hv6, h_6⟩ := ob h_5
  refine m_lald C hH hv6 dX1_squareBy_16 ?_
  refine lv_lmul C.x C.b dX1_squareBy_17 ?_
  refine lv_ladd C.x C.b dX1_squareBy_18 ?_
  refine lv_lload_n C.x C.b dX1_squareBy_19 rfl (lv_at hl 3 rfl) ?_
  refine lv_lload_n C.x C.b dX1_squareBy_20 rfl (lv_at hl 3 rfl) ?_
  refine lv_lmul C.x C.b dX1_squareBy_21 ?_
  refine lv_aload_n C.x C.b dX1_squareBy_22 rfl (lv_at hl 0 rfl) ?_
  obtain ⟨v7, hv7, h_7⟩ := ob h_6
  refine m_getA C hH fl_X1_9 hv7 dX1_squareBy_23 ?_
  refine lv_iload_n C.x C.b dX1_squareBy_26 rfl (lv_at hl 2 rfl) ?_
  obtain ⟨a8, e_, h_8⟩ := ob h_7; subst e_
  obtain ⟨v9, hv9, h_9⟩ := ob h_8
  refine m_lald C hH hv9 dX1_squareBy_27 ?_
  refine lv_lmul C.x C.b dX1_squareBy_28 ?_
  refine lv_ladd C.x C.b dX1_squareBy_29 ?_
  have hz_ := Option.some.inj h_9; subst hz_
  exact m_lret C hH hL hr dX1_squareBy_30
def f_X1_squareBy (fu : Nat) (ev : Ev) (σ : Mm) (x0 : Nat) (x1 : Int32) (x2 : Int32) (x3 : Int64) : Option (Int64 × Mm) := b_X1_squareBy_0  fu ev σ x0 x1 x2 x3
set_option maxRecDepth 20000 in
theorem ct_X1_squareBy (l : Launch) (D : Dx) (H0 : Heap) {σ : Mm} {x0 : Nat} {x1 : Int32} {x2 : Int32} {x3 : Int64} (h : f_X1_squareBy fu ev σ x0 x1 x2 x3 = some res) : Ct l D H0 ev yX1_squareBy (ws_ yX1_squareBy cX1_squareBy 5 (some .long)) 0 0 [.ref x0, .int x1, .int x2, .long x3] σ (some (.long res.1)) res.2 := by
  refine Ct_of (by decide) ?_
  intro p e R s m below meth c C hr hnm hH
  have hl := lv_entry [.ref x0, .int x1, .int x2, .long x3] (n := 5) (Nat.le_of_ble_eq_true rfl)
  rw [lg_entry_eq]
  exact b_X1_squareBy_0_ok C hr  h s.heap [] _ hH (by simp) (lv_sub hl [0, 1, 2, 3] rfl)
end M_X1_squareBy
theorem cv_X1_57 : CV RX1 57 1 yX1_squareBy cX1_squareBy 5 (some .long) 3 := ⟨_, rfl, lw_V q445 q433 q434 q104 q435, rfl, by decide, by decide, by decide +kernel⟩
/-! CellReducer$Cell.adds(IIJ)V -/
section M_X1_adds
variable {p : Program} {l : Launch} {e : Env} {R : Room} {s : State} {m : MethodId} {args : Array Value} {below : List Frame} {meth : Method} {c : Code} {D : Dx} {H0 : Heap} {ev : Ev} {fu : Nat} {res : Unit × Mm}
def b_X1_adds_97  (fu : Nat) (ev : Ev) (σ : Mm)  : Option (Unit × Mm) :=
  some ((), σ)
set_option maxRecDepth 20000 in
theorem b_X1_adds_97_ok (C : Cx p m meth c cX1_adds 7 s args RX1 R ev D H0 1 24) (hr : meth.sig.returnType = none)  {σ : Mm}  (h : b_X1_adds_97  fu ev σ  = some res) : GG p l e R s m args below meth c D H0 ev 7 (MQx D H0 ev below args s none res.2) σ 97 [] [] := by
  intro H locs ls hH hL hl
  unfold b_X1_adds_97 at h
  have hz_ := Option.some.inj h; subst hz_
  exact m_vret C hH hL hr dX1_adds_97
def b_X1_adds_68 (R62 : Mm → Nat → Int32 → Int32 → Int64 → Int32 → Option (Unit × Mm)) (fu : Nat) (ev : Ev) (σ : Mm) (x0 : Nat) (x1 : Int32) (x2 : Int32) (x3 : Int64) (x6 : Int32) : Option (Unit × Mm) :=
  (gfA σ x0 1 2).bind fun v1 =>
  v1.bind fun a2 =>
  (aldA 6 σ a2 x1).bind fun v3 =>
  v3.bind fun a4 =>
  (aldJ σ a4 x6).bind fun v5 =>
  (gfA σ x0 1 2).bind fun v6 =>
  v6.bind fun a7 =>
  (aldA 6 σ a7 x2).bind fun v8 =>
  v8.bind fun a9 =>
  (aldJ σ a9 x6).bind fun v10 =>
  (astJ ev σ a4 x6 (v5 + (x3 * v10))).bind fun s11 =>
  R62 s11 x0 x1 x2 x3 (x6 + (1 : Int32))
set_option maxRecDepth 20000 in
theorem b_X1_adds_68_ok (C : Cx p m meth c cX1_adds 7 s args RX1 R ev D H0 1 24) (hr : meth.sig.returnType = none) {R62 : Mm → Nat → Int32 → Int32 → Int64 → Int32 → Option (Unit × Mm)} (HR62 : ∀ (σ : Mm) (x0 : Nat) (x1 : Int32) (x2 : Int32) (x3 : Int64) (x6 : Int32), R62 σ x0 x1 x2 x3 x6 = some res → GG p l e R s m args below meth c D H0 ev 7 (MQx D H0 ev below args s none res.2) σ 62 [(0, .ref x0), (1, .int x1), (2, .int x2), (3, .long x3), (6, .int x6)] []) {σ : Mm} {x0 : Nat} {x1 : Int32} {x2 : Int32} {x3 : Int64} {x6 : Int32} (h : b_X1_adds_68 R62 fu ev σ x0 x1 x2 x3 x6 = some res) : GG p l e R s m args below meth c D H0 ev 7 (MQx D H0 ev below args s none res.2) σ 68 [(0, .ref x0), (1, .int x1), (2, .int x2), (3, .long x3), (6, .int x6)] [] := by
  intro H locs ls hH hL hl
  unfold b_X1_adds_68 at h
  refine lv_aload_n C.x C.b dX1_adds_68 rfl (lv_at hl 0 rfl) ?_
  obtain ⟨v1, hv1, h_1⟩ := ob h
  refine m_getA C hH fl_X1_20 hv1 dX1_adds_69 ?_
  refine lv_iload_n C.x C.b dX1_adds_72 rfl (lv_at hl 1 rfl) ?_
  obtain ⟨a2, e_, h_2⟩ := ob h_1; subst e_
  obtain ⟨v3, hv3, h_3⟩ := ob h_2
  refine m_aald (κ := 6) rfl (by decide) C hH hv3 dX1_adds_73 ?_
  refine lv_iload C.x C.b dX1_adds_74 (lv_at hl 4 rfl) ?_
  refine lv_dup2_11 C.x C.b dX1_adds_76 rfl (r_catv _) ?_
  obtain ⟨a4, e_, h_4⟩ := ob h_3; subst e_
  obtain ⟨v5, hv5, h_5⟩ := ob h_4
  refine m_lald C hH hv5 dX1_adds_77 ?_
  refine lv_lload_n C.x C.b dX1_adds_78 rfl (lv_at hl 3 rfl) ?_
  refine lv_aload_n C.x C.b dX1_adds_79 rfl (lv_at hl 0 rfl) ?_
  obtain ⟨v6, hv6, h_6⟩ := ob h_5
  refine m_getA C hH fl_X1_20 hv6 dX1_adds_80 ?_
  refine lv_iload_n C.x C.b dX1_adds_83 rfl (lv_at hl 2 rfl) ?_
  obtain ⟨a7, e_, h_7⟩ := ob h_6; subst e_
  obtain ⟨v8, hv8, h_8⟩ := ob h_7
  refine m_aald (κ := 6) rfl (by decide) C hH hv8 dX1_adds_84 ?_
  refine lv_iload C.x C.b dX1_adds_85 (lv_at hl 4 rfl) ?_
  obtain ⟨a9, e_, h_9⟩ := ob h_8; subst e_
  obtain ⟨v10, hv10, h_10⟩ := ob h_9
  refine m_lald C hH hv10 dX1_adds_87 ?_
  refine lv_lmul C.x C.b dX1_adds_88 ?_
  refine lv_ladd C.x C.b dX1_adds_89 ?_
  obtain ⟨s11, hs11, h_11⟩ := ob h_10
  refine m_last C hH hL hs11 dX1_adds_90 (fun H_12 locs_12 hH_12 hL_12 => ?_)
  refine lv_iinc (v := x6 + (1 : Int32)) (lv' := [(6, .int (x6 + (1 : Int32))), (0, .ref x0), (1, .int x1), (2, .int x2), (3, .long x3)]) C.x C.b dX1_adds_91 hl (k := 4) rfl (by rw [ki_1]) (by decide) rfl (fun ls_13 hl_13 => ?_)
  refine lv_goto (tgt := 62) C.x C.b dX1_adds_94 (by decide) ?_
  exact HR62 _ _ _ _ _ _ h_11 H_12 locs_12 ls_13 hH_12 hL_12 (lv_sub hl_13 [1, 2, 3, 4, 0] rfl)
def b_X1_adds_62 (R62 : Mm → Nat → Int32 → Int32 → Int64 → Int32 → Option (Unit × Mm)) (fu : Nat) (ev : Ev) (σ : Mm) (x0 : Nat) (x1 : Int32) (x2 : Int32) (x3 : Int64) (x6 : Int32) : Option (Unit × Mm) :=
  if (3 : Int32) ≤ x6 then b_X1_adds_97  fu ev σ  else b_X1_adds_68 R62 fu ev σ x0 x1 x2 x3 x6
set_option maxRecDepth 20000 in
theorem b_X1_adds_62_ok (C : Cx p m meth c cX1_adds 7 s args RX1 R ev D H0 1 24) (hr : meth.sig.returnType = none) {R62 : Mm → Nat → Int32 → Int32 → Int64 → Int32 → Option (Unit × Mm)} (HR62 : ∀ (σ : Mm) (x0 : Nat) (x1 : Int32) (x2 : Int32) (x3 : Int64) (x6 : Int32), R62 σ x0 x1 x2 x3 x6 = some res → GG p l e R s m args below meth c D H0 ev 7 (MQx D H0 ev below args s none res.2) σ 62 [(0, .ref x0), (1, .int x1), (2, .int x2), (3, .long x3), (6, .int x6)] []) {σ : Mm} {x0 : Nat} {x1 : Int32} {x2 : Int32} {x3 : Int64} {x6 : Int32} (h : b_X1_adds_62 R62 fu ev σ x0 x1 x2 x3 x6 = some res) : GG p l e R s m args below meth c D H0 ev 7 (MQx D H0 ev below args s none res.2) σ 62 [(0, .ref x0), (1, .int x1), (2, .int x2), (3, .long x3), (6, .int x6)] [] := by
  intro H locs ls hH hL hl
  unfold b_X1_adds_62 at h
  refine lv_iload C.x C.b dX1_adds_62 (lv_at hl 4 rfl) ?_
  refine lv_iconst (v := 3) C.x C.b dX1_adds_64 ki_3 ?_
  refine lv_icmp_ge (tgt := 97) C.x C.b dX1_adds_65 (by decide) (fun q => ?_) (fun q => ?_)
  · exact b_X1_adds_97_ok C hr  (cp h q) H locs ls hH hL (lv_sub hl [] rfl)
  · exact b_X1_adds_68_ok C hr HR62 (cn h q) H locs ls hH hL (lv_sub hl [0, 1, 2, 3, 4] rfl)
def L_X1_adds_62  (fu : Nat) (ev : Ev) : Nat → Mm → Nat → Int32 → Int32 → Int64 → Int32 → Option (Unit × Mm)
  | 0, _, _, _, _, _, _ => none
  | n + 1, σ, x0, x1, x2, x3, x6 => b_X1_adds_62  (L_X1_adds_62  fu ev n) fu ev σ x0 x1 x2 x3 x6
theorem L_X1_adds_62_ok (C : Cx p m meth c cX1_adds 7 s args RX1 R ev D H0 1 24) (hr : meth.sig.returnType = none)  : ∀ (n : Nat) {σ : Mm} {x0 : Nat} {x1 : Int32} {x2 : Int32} {x3 : Int64} {x6 : Int32}, L_X1_adds_62  fu ev n σ x0 x1 x2 x3 x6 = some res → GG p l e R s m args below meth c D H0 ev 7 (MQx D H0 ev below args s none res.2) σ 62 [(0, .ref x0), (1, .int x1), (2, .int x2), (3, .long x3), (6, .int x6)] [] := by
  intro n
  induction n with
  | zero => intro σ x0 x1 x2 x3 x6 h; exact (Option.some_ne_none _ (Eq.symm h)).elim
  | succ n ih => intro σ x0 x1 x2 x3 x6 h; exact b_X1_adds_62_ok C hr  (fun σ _ _ _ _ _ h => ih h) h
def b_X1_adds_0  (fu : Nat) (ev : Ev) (σ : Mm) (x0 : Nat) (x1 : Int32) (x2 : Int32) (x3 : Int64) : Option (Unit × Mm) :=
  (gfA σ x0 1 0).bind fun v1 =>
  (isC σ x0 1).bind fun _ =>
  bd2 (f_X1_squareBy fu ev σ x0 x1 x2 x3) fun v3 s4 =>
  v1.bind fun a5 =>
  (astJ ev s4 a5 x1 v3).bind fun s6 =>
  (gfA s6 x0 1 1).bind fun v7 =>
  v7.bind fun a8 =>
  (aldJ s6 a8 x2).bind fun v9 =>
  (gfA s6 x0 1 1).bind fun v10 =>
  v10.bind fun a11 =>
  (aldJ s6 a11 x1).bind fun v12 =>
  (astJ ev s6 a8 x2 (v9 + (x3 * v12))).bind fun s13 =>
  (gfA s13 x0 1 1).bind fun v14 =>
  v14.bind fun a15 =>
  (aldJ s13 a15 (((3 : Int32) - x1) - x2)).bind fun v16 =>
  (gfA s13 x0 1 0).bind fun v17 =>
  v17.bind fun a18 =>
  (aldJ s13 a18 x2).bind fun v19 =>
  (astJ ev s13 a15 (((3 : Int32) - x1) - x2) (v16 + (((2 : Int64) * x3) * v19))).bind fun s20 =>
  L_X1_adds_62  fu ev fu s20 x0 x1 x2 x3 (0 : Int32)
set_option maxRecDepth 20000 in
theorem b_X1_adds_0_ok (C : Cx p m meth c cX1_adds 7 s args RX1 R ev D H0 1 24) (hr : meth.sig.returnType = none)  {σ : Mm} {x0 : Nat} {x1 : Int32} {x2 : Int32} {x3 : Int64} (h : b_X1_adds_0  fu ev σ x0 x1 x2 x3 = some res) : GG p l e R s m args below meth c D H0 ev 7 (MQx D H0 ev below args s none res.2) σ 0 [(0, .ref x0), (1, .int x1), (2, .int x2), (3, .long x3)] [] := by
  intro H locs ls hH hL hl
  unfold b_X1_adds_0 at h
  refine lv_iconst (v := 3) C.x C.b dX1_adds_0 ki_3 ?_
  refine lv_iload_n C.x C.b dX1_adds_1 rfl (lv_at hl 1 rfl) ?_
  refine lv_isub C.x C.b dX1_adds_2 ?_
  refine lv_iload_n C.x C.b dX1_adds_3 rfl (lv_at hl 2 rfl) ?_
  refine lv_isub C.x C.b dX1_adds_4 ?_
  refine lv_istore (i := 5) (lv' := [(5, .int (((3 : Int32) - x1) - x2)), (0, .ref x0), (1, .int x1), (2, .int x2), (3, .long x3)]) C.x C.b dX1_adds_5 hl (by decide) rfl (fun ls_1 hl_1 => ?_)
  refine lv_aload_n C.x C.b dX1_adds_7 rfl (lv_at hl_1 1 rfl) ?_
  obtain ⟨v1, hv1, h_2⟩ := ob h
  refine m_getA C hH fl_X1_9 hv1 dX1_adds_8 ?_
  refine lv_iload_n C.x C.b dX1_adds_11 rfl (lv_at hl_1 2 rfl) ?_
  refine lv_aload_n C.x C.b dX1_adds_12 rfl (lv_at hl_1 1 rfl) ?_
  refine lv_iload_n C.x C.b dX1_adds_13 rfl (lv_at hl_1 2 rfl) ?_
  refine lv_iload_n C.x C.b dX1_adds_14 rfl (lv_at hl_1 3 rfl) ?_
  refine lv_lload_n C.x C.b dX1_adds_15 rfl (lv_at hl_1 4 rfl) ?_
  obtain ⟨_, u2, h_3⟩ := ob h_2
  obtain ⟨v3, s4, hs4, h_4⟩ := ob2 h_3
  refine m_callVJ (As := [.int x1, .int x2, .long x3]) (rest := [.int x1, va_rf v1]) (v := v3) C hH hL cv_X1_57 (ct_X1_squareBy l D H0 hs4) u2 ⟨Nat.le_of_ble_eq_true rfl, Nat.le_of_ble_eq_true rfl⟩ rfl hl_1.1 rfl (by simp [cat_I, cat_J, cat_R, r_catv, rf_some]) dX1_adds_16 (fun H_5 locs_5 hH_5 hL_5 => ?_)
  obtain ⟨a5, e_, h_6⟩ := ob h_4; subst e_
  obtain ⟨s6, hs6, h_7⟩ := ob h_6
  refine m_last C hH_5 hL_5 hs6 dX1_adds_19 (fun H_8 locs_8 hH_8 hL_8 => ?_)
  refine lv_aload_n C.x C.b dX1_adds_20 rfl (lv_at hl_1 1 rfl) ?_
  obtain ⟨v7, hv7, h_9⟩ := ob h_7
  refine m_getA C hH_8 fl_X1_15 hv7 dX1_adds_21 ?_
  refine lv_iload_n C.x C.b dX1_adds_24 rfl (lv_at hl_1 3 rfl) ?_
  refine lv_dup2_11 C.x C.b dX1_adds_25 rfl (r_catv _) ?_
  obtain ⟨a8, e_, h_10⟩ := ob h_9; subst e_
  obtain ⟨v9, hv9, h_11⟩ := ob h_10
  refine m_lald C hH_8 hv9 dX1_adds_26 ?_
  refine lv_lload_n C.x C.b dX1_adds_27 rfl (lv_at hl_1 4 rfl) ?_
  refine lv_aload_n C.x C.b dX1_adds_28 rfl (lv_at hl_1 1 rfl) ?_
  obtain ⟨v10, hv10, h_12⟩ := ob h_11
  refine m_getA C hH_8 fl_X1_15 hv10 dX1_adds_29 ?_
  refine lv_iload_n C.x C.b dX1_adds_32 rfl (lv_at hl_1 2 rfl) ?_
  obtain ⟨a11, e_, h_13⟩ := ob h_12; subst e_
  obtain ⟨v12, hv12, h_14⟩ := ob h_13
  refine m_lald C hH_8 hv12 dX1_adds_33 ?_
  refine lv_lmul C.x C.b dX1_adds_34 ?_
  refine lv_ladd C.x C.b dX1_adds_35 ?_
  obtain ⟨s13, hs13, h_15⟩ := ob h_14
  refine m_last C hH_8 hL_8 hs13 dX1_adds_36 (fun H_16 locs_16 hH_16 hL_16 => ?_)
  refine lv_aload_n C.x C.b dX1_adds_37 rfl (lv_at hl_1 1 rfl) ?_
  obtain ⟨v14, hv14, h_17⟩ := ob h_15
  refine m_getA C hH_16 fl_X1_15 hv14 dX1_adds_38 ?_
  refine lv_iload C.x C.b dX1_adds_41 (lv_at hl_1 0 rfl) ?_
  refine lv_dup2_11 C.x C.b dX1_adds_43 rfl (r_catv _) ?_
  obtain ⟨a15, e_, h_18⟩ := ob h_17; subst e_
  obtain ⟨v16, hv16, h_19⟩ := ob h_18
  refine m_lald C hH_16 hv16 dX1_adds_44 ?_
  refine lv_ldc2 C.x C.b C.1.2.2.2.1 (C.w q446) dX1_adds_45 ?_
  refine lv_lload_n C.x C.b dX1_adds_48 rfl (lv_at hl_1 4 rfl) ?_
  refine lv_lmul C.x C.b dX1_adds_49 ?_
  refine lv_aload_n C.x C.b dX1_adds_50 rfl (lv_at hl_1 1 rfl) ?_
  obtain ⟨v17, hv17, h_20⟩ := ob h_19
  refine m_getA C hH_16 fl_X1_9 hv17 dX1_adds_51 ?_
  refine lv_iload_n C.x C.b dX1_adds_54 rfl (lv_at hl_1 3 rfl) ?_
  obtain ⟨a18, e_, h_21⟩ := ob h_20; subst e_
  obtain ⟨v19, hv19, h_22⟩ := ob h_21
  refine m_lald C hH_16 hv19 dX1_adds_55 ?_
  refine lv_lmul C.x C.b dX1_adds_56 ?_
  refine lv_ladd C.x C.b dX1_adds_57 ?_
  obtain ⟨s20, hs20, h_23⟩ := ob h_22
  refine m_last C hH_16 hL_16 hs20 dX1_adds_58 (fun H_24 locs_24 hH_24 hL_24 => ?_)
  refine lv_iconst (v := 0) C.x C.b dX1_adds_59 ki_0 ?_
  refine lv_istore (i := 6) (lv' := [(6, .int (0 : Int32)), (5, .int (((3 : Int32) - x1) - x2)), (0, .ref x0), (1, .int x1), (2, .int x2), (3, .long x3)]) C.x C.b dX1_adds_60 hl_1 (by decide) rfl (fun ls_25 hl_25 => ?_)
  exact L_X1_adds_62_ok C hr  fu h_23 H_24 locs_24 ls_25 hH_24 hL_24 (lv_sub hl_25 [2, 3, 4, 5, 0] rfl)
def f_X1_adds (fu : Nat) (ev : Ev) (σ : Mm) (x0 : Nat) (x1 : Int32) (x2 : Int32) (x3 : Int64) : Option (Unit × Mm) := b_X1_adds_0  fu ev σ x0 x1 x2 x3
set_option maxRecDepth 20000 in
theorem ct_X1_adds (l : Launch) (D : Dx) (H0 : Heap) {σ : Mm} {x0 : Nat} {x1 : Int32} {x2 : Int32} {x3 : Int64} (h : f_X1_adds fu ev σ x0 x1 x2 x3 = some res) : Ct l D H0 ev yX1_adds (ws_ yX1_adds cX1_adds 7 none) 1 24 [.ref x0, .int x1, .int x2, .long x3] σ none res.2 := by
  refine Ct_of (by decide) ?_
  intro p e R s m below meth c C hr hnm hH
  have hl := lv_entry [.ref x0, .int x1, .int x2, .long x3] (n := 7) (Nat.le_of_ble_eq_true rfl)
  rw [lg_entry_eq]
  exact b_X1_adds_0_ok C hr  h s.heap [] _ hH (by simp) (lv_sub hl [0, 1, 2, 3] rfl)
end M_X1_adds
/-! CellReducer$Cell.exchanges(II)V -/
section M_X1_exchanges
variable {p : Program} {l : Launch} {e : Env} {R : Room} {s : State} {m : MethodId} {args : Array Value} {below : List Frame} {meth : Method} {c : Code} {D : Dx} {H0 : Heap} {ev : Ev} {fu : Nat} {res : Unit × Mm}
def b_X1_exchanges_105  (fu : Nat) (ev : Ev) (σ : Mm)  : Option (Unit × Mm) :=
  some ((), σ)
set_option maxRecDepth 20000 in
theorem b_X1_exchanges_105_ok (C : Cx p m meth c cX1_exchanges 6 s args RX1 R ev D H0 0 0) (hr : meth.sig.returnType = none)  {σ : Mm}  (h : b_X1_exchanges_105  fu ev σ  = some res) : GG p l e R s m args below meth c D H0 ev 6 (MQx D H0 ev below args s none res.2) σ 105 [] [] := by
  intro H locs ls hH hL hl
  unfold b_X1_exchanges_105 at h
  have hz_ := Option.some.inj h; subst hz_
  exact m_vret C hH hL hr dX1_exchanges_105
def b_X1_exchanges_61 (R55 : Mm → Nat → Int32 → Int32 → Int32 → Option (Unit × Mm)) (fu : Nat) (ev : Ev) (σ : Mm) (x0 : Nat) (x1 : Int32) (x2 : Int32) (x5 : Int32) : Option (Unit × Mm) :=
  (gfA σ x0 1 2).bind fun v1 =>
  v1.bind fun a2 =>
  (aldA 6 σ a2 x1).bind fun v3 =>
  v3.bind fun a4 =>
  (aldJ σ a4 x5).bind fun v5 =>
  (gfA σ x0 1 2).bind fun v6 =>
  v6.bind fun a7 =>
  (aldA 6 σ a7 x1).bind fun v8 =>
  (gfA σ x0 1 2).bind fun v9 =>
  v9.bind fun a10 =>
  (aldA 6 σ a10 x2).bind fun v11 =>
  v11.bind fun a12 =>
  (aldJ σ a12 x5).bind fun v13 =>
  v8.bind fun a14 =>
  (astJ ev σ a14 x5 v13).bind fun s15 =>
  (gfA s15 x0 1 2).bind fun v16 =>
  v16.bind fun a17 =>
  (aldA 6 s15 a17 x2).bind fun v18 =>
  v18.bind fun a19 =>
  (astJ ev s15 a19 x5 v5).bind fun s20 =>
  R55 s20 x0 x1 x2 (x5 + (1 : Int32))
set_option maxRecDepth 20000 in
theorem b_X1_exchanges_61_ok (C : Cx p m meth c cX1_exchanges 6 s args RX1 R ev D H0 0 0) (hr : meth.sig.returnType = none) {R55 : Mm → Nat → Int32 → Int32 → Int32 → Option (Unit × Mm)} (HR55 : ∀ (σ : Mm) (x0 : Nat) (x1 : Int32) (x2 : Int32) (x5 : Int32), R55 σ x0 x1 x2 x5 = some res → GG p l e R s m args below meth c D H0 ev 6 (MQx D H0 ev below args s none res.2) σ 55 [(0, .ref x0), (1, .int x1), (2, .int x2), (5, .int x5)] []) {σ : Mm} {x0 : Nat} {x1 : Int32} {x2 : Int32} {x5 : Int32} (h : b_X1_exchanges_61 R55 fu ev σ x0 x1 x2 x5 = some res) : GG p l e R s m args below meth c D H0 ev 6 (MQx D H0 ev below args s none res.2) σ 61 [(0, .ref x0), (1, .int x1), (2, .int x2), (5, .int x5)] [] := by
  intro H locs ls hH hL hl
  unfold b_X1_exchanges_61 at h
  refine lv_aload_n C.x C.b dX1_exchanges_61 rfl (lv_at hl 0 rfl) ?_
  obtain ⟨v1, hv1, h_1⟩ := ob h
  refine m_getA C hH fl_X1_20 hv1 dX1_exchanges_62 ?_
  refine lv_iload_n C.x C.b dX1_exchanges_65 rfl (lv_at hl 1 rfl) ?_
  obtain ⟨a2, e_, h_2⟩ := ob h_1; subst e_
  obtain ⟨v3, hv3, h_3⟩ := ob h_2
  refine m_aald (κ := 6) rfl (by decide) C hH hv3 dX1_exchanges_66 ?_
  refine lv_iload C.x C.b dX1_exchanges_67 (lv_at hl 3 rfl) ?_
  obtain ⟨a4, e_, h_4⟩ := ob h_3; subst e_
  obtain ⟨v5, hv5, h_5⟩ := ob h_4
  refine m_lald C hH hv5 dX1_exchanges_69 ?_
  refine lv_lstore_n (i := 3) (lv' := [(3, .long v5), (0, .ref x0), (1, .int x1), (2, .int x2), (5, .int x5)]) C.x C.b dX1_exchanges_70 rfl hl (by decide) rfl (fun ls_6 hl_6 => ?_)
  refine lv_aload_n C.x C.b dX1_exchanges_71 rfl (lv_at hl_6 1 rfl) ?_
  obtain ⟨v6, hv6, h_7⟩ := ob h_5
  refine m_getA C hH fl_X1_20 hv6 dX1_exchanges_72 ?_
  refine lv_iload_n C.x C.b dX1_exchanges_75 rfl (lv_at hl_6 2 rfl) ?_
  obtain ⟨a7, e_, h_8⟩ := ob h_7; subst e_
  obtain ⟨v8, hv8, h_9⟩ := ob h_8
  refine m_aald (κ := 6) rfl (by decide) C hH hv8 dX1_exchanges_76 ?_
  refine lv_iload C.x C.b dX1_exchanges_77 (lv_at hl_6 4 rfl) ?_
  refine lv_aload_n C.x C.b dX1_exchanges_79 rfl (lv_at hl_6 1 rfl) ?_
  obtain ⟨v9, hv9, h_10⟩ := ob h_9
  refine m_getA C hH fl_X1_20 hv9 dX1_exchanges_80 ?_
  refine lv_iload_n C.x C.b dX1_exchanges_83 rfl (lv_at hl_6 3 rfl) ?_
  obtain ⟨a10, e_, h_11⟩ := ob h_10; subst e_
  obtain ⟨v11, hv11, h_12⟩ := ob h_11
  refine m_aald (κ := 6) rfl (by decide) C hH hv11 dX1_exchanges_84 ?_
  refine lv_iload C.x C.b dX1_exchanges_85 (lv_at hl_6 4 rfl) ?_
  obtain ⟨a12, e_, h_13⟩ := ob h_12; subst e_
  obtain ⟨v13, hv13, h_14⟩ := ob h_13
  refine m_lald C hH hv13 dX1_exchanges_87 ?_
  obtain ⟨a14, e_, h_15⟩ := ob h_14; subst e_
  obtain ⟨s15, hs15, h_16⟩ := ob h_15
  refine m_last C hH hL hs15 dX1_exchanges_88 (fun H_17 locs_17 hH_17 hL_17 => ?_)
  refine lv_aload_n C.x C.b dX1_exchanges_89 rfl (lv_at hl_6 1 rfl) ?_
  obtain ⟨v16, hv16, h_18⟩ := ob h_16
  refine m_getA C hH_17 fl_X1_20 hv16 dX1_exchanges_90 ?_
  refine lv_iload_n C.x C.b dX1_exchanges_93 rfl (lv_at hl_6 3 rfl) ?_
  obtain ⟨a17, e_, h_19⟩ := ob h_18; subst e_
  obtain ⟨v18, hv18, h_20⟩ := ob h_19
  refine m_aald (κ := 6) rfl (by decide) C hH_17 hv18 dX1_exchanges_94 ?_
  refine lv_iload C.x C.b dX1_exchanges_95 (lv_at hl_6 4 rfl) ?_
  refine lv_lload_n C.x C.b dX1_exchanges_97 rfl (lv_at hl_6 0 rfl) ?_
  obtain ⟨a19, e_, h_21⟩ := ob h_20; subst e_
  obtain ⟨s20, hs20, h_22⟩ := ob h_21
  refine m_last C hH_17 hL_17 hs20 dX1_exchanges_98 (fun H_23 locs_23 hH_23 hL_23 => ?_)
  refine lv_iinc (v := x5 + (1 : Int32)) (lv' := [(5, .int (x5 + (1 : Int32))), (3, .long v5), (0, .ref x0), (1, .int x1), (2, .int x2)]) C.x C.b dX1_exchanges_99 hl_6 (k := 4) rfl (by rw [ki_1]) (by decide) rfl (fun ls_24 hl_24 => ?_)
  refine lv_goto (tgt := 55) C.x C.b dX1_exchanges_102 (by decide) ?_
  exact HR55 _ _ _ _ _ h_22 H_23 locs_23 ls_24 hH_23 hL_23 (lv_sub hl_24 [2, 3, 4, 0] rfl)
def b_X1_exchanges_55 (R55 : Mm → Nat → Int32 → Int32 → Int32 → Option (Unit × Mm)) (fu : Nat) (ev : Ev) (σ : Mm) (x0 : Nat) (x1 : Int32) (x2 : Int32) (x5 : Int32) : Option (Unit × Mm) :=
  if (3 : Int32) ≤ x5 then b_X1_exchanges_105  fu ev σ  else b_X1_exchanges_61 R55 fu ev σ x0 x1 x2 x5
set_option maxRecDepth 20000 in
theorem b_X1_exchanges_55_ok (C : Cx p m meth c cX1_exchanges 6 s args RX1 R ev D H0 0 0) (hr : meth.sig.returnType = none) {R55 : Mm → Nat → Int32 → Int32 → Int32 → Option (Unit × Mm)} (HR55 : ∀ (σ : Mm) (x0 : Nat) (x1 : Int32) (x2 : Int32) (x5 : Int32), R55 σ x0 x1 x2 x5 = some res → GG p l e R s m args below meth c D H0 ev 6 (MQx D H0 ev below args s none res.2) σ 55 [(0, .ref x0), (1, .int x1), (2, .int x2), (5, .int x5)] []) {σ : Mm} {x0 : Nat} {x1 : Int32} {x2 : Int32} {x5 : Int32} (h : b_X1_exchanges_55 R55 fu ev σ x0 x1 x2 x5 = some res) : GG p l e R s m args below meth c D H0 ev 6 (MQx D H0 ev below args s none res.2) σ 55 [(0, .ref x0), (1, .int x1), (2, .int x2), (5, .int x5)] [] := by
  intro H locs ls hH hL hl
  unfold b_X1_exchanges_55 at h
  refine lv_iload C.x C.b dX1_exchanges_55 (lv_at hl 3 rfl) ?_
  refine lv_iconst (v := 3) C.x C.b dX1_exchanges_57 ki_3 ?_
  refine lv_icmp_ge (tgt := 105) C.x C.b dX1_exchanges_58 (by decide) (fun q => ?_) (fun q => ?_)
  · exact b_X1_exchanges_105_ok C hr  (cp h q) H locs ls hH hL (lv_sub hl [] rfl)
  · exact b_X1_exchanges_61_ok C hr HR55 (cn h q) H locs ls hH hL (lv_sub hl [0, 1, 2, 3] rfl)
def L_X1_exchanges_55  (fu : Nat) (ev : Ev) : Nat → Mm → Nat → Int32 → Int32 → Int32 → Option (Unit × Mm)
  | 0, _, _, _, _, _ => none
  | n + 1, σ, x0, x1, x2, x5 => b_X1_exchanges_55  (L_X1_exchanges_55  fu ev n) fu ev σ x0 x1 x2 x5
theorem L_X1_exchanges_55_ok (C : Cx p m meth c cX1_exchanges 6 s args RX1 R ev D H0 0 0) (hr : meth.sig.returnType = none)  : ∀ (n : Nat) {σ : Mm} {x0 : Nat} {x1 : Int32} {x2 : Int32} {x5 : Int32}, L_X1_exchanges_55  fu ev n σ x0 x1 x2 x5 = some res → GG p l e R s m args below meth c D H0 ev 6 (MQx D H0 ev below args s none res.2) σ 55 [(0, .ref x0), (1, .int x1), (2, .int x2), (5, .int x5)] [] := by
  intro n
  induction n with
  | zero => intro σ x0 x1 x2 x5 h; exact (Option.some_ne_none _ (Eq.symm h)).elim
  | succ n ih => intro σ x0 x1 x2 x5 h; exact b_X1_exchanges_55_ok C hr  (fun σ _ _ _ _ h => ih h) h
def b_X1_exchanges_0  (fu : Nat) (ev : Ev) (σ : Mm) (x0 : Nat) (x1 : Int32) (x2 : Int32) : Option (Unit × Mm) :=
  (gfA σ x0 1 0).bind fun v1 =>
  v1.bind fun a2 =>
  (aldJ σ a2 x1).bind fun v3 =>
  (gfA σ x0 1 0).bind fun v4 =>
  (gfA σ x0 1 0).bind fun v5 =>
  v5.bind fun a6 =>
  (aldJ σ a6 x2).bind fun v7 =>
  v4.bind fun a8 =>
  (astJ ev σ a8 x1 v7).bind fun s9 =>
  (gfA s9 x0 1 0).bind fun v10 =>
  v10.bind fun a11 =>
  (astJ ev s9 a11 x2 v3).bind fun s12 =>
  (gfA s12 x0 1 1).bind fun v13 =>
  v13.bind fun a14 =>
  (aldJ s12 a14 x1).bind fun v15 =>
  (gfA s12 x0 1 1).bind fun v16 =>
  (gfA s12 x0 1 1).bind fun v17 =>
  v17.bind fun a18 =>
  (aldJ s12 a18 x2).bind fun v19 =>
  v16.bind fun a20 =>
  (astJ ev s12 a20 x1 v19).bind fun s21 =>
  (gfA s21 x0 1 1).bind fun v22 =>
  v22.bind fun a23 =>
  (astJ ev s21 a23 x2 v15).bind fun s24 =>
  L_X1_exchanges_55  fu ev fu s24 x0 x1 x2 (0 : Int32)
set_option maxRecDepth 20000 in
theorem b_X1_exchanges_0_ok (C : Cx p m meth c cX1_exchanges 6 s args RX1 R ev D H0 0 0) (hr : meth.sig.returnType = none)  {σ : Mm} {x0 : Nat} {x1 : Int32} {x2 : Int32} (h : b_X1_exchanges_0  fu ev σ x0 x1 x2 = some res) : GG p l e R s m args below meth c D H0 ev 6 (MQx D H0 ev below args s none res.2) σ 0 [(0, .ref x0), (1, .int x1), (2, .int x2)] [] := by
  intro H locs ls hH hL hl
  unfold b_X1_exchanges_0 at h
  refine lv_aload_n C.x C.b dX1_exchanges_0 rfl (lv_at hl 0 rfl) ?_
  obtain ⟨v1, hv1, h_1⟩ := ob h
  refine m_getA C hH fl_X1_9 hv1 dX1_exchanges_1 ?_
  refine lv_iload_n C.x C.b dX1_exchanges_4 rfl (lv_at hl 1 rfl) ?_
  obtain ⟨a2, e_, h_2⟩ := ob h_1; subst e_
  obtain ⟨v3, hv3, h_3⟩ := ob h_2
  refine m_lald C hH hv3 dX1_exchanges_5 ?_
  refine lv_lstore_n (i := 3) (lv' := [(3, .long v3), (0, .ref x0), (1, .int x1), (2, .int x2)]) C.x C.b dX1_exchanges_6 rfl hl (by decide) rfl (fun ls_4 hl_4 => ?_)
  refine lv_aload_n C.x C.b dX1_exchanges_7 rfl (lv_at hl_4 1 rfl) ?_
  obtain ⟨v4, hv4, h_5⟩ := ob h_3
  refine m_getA C hH fl_X1_9 hv4 dX1_exchanges_8 ?_
  refine lv_iload_n C.x C.b dX1_exchanges_11 rfl (lv_at hl_4 2 rfl) ?_
  refine lv_aload_n C.x C.b dX1_exchanges_12 rfl (lv_at hl_4 1 rfl) ?_
  obtain ⟨v5, hv5, h_6⟩ := ob h_5
  refine m_getA C hH fl_X1_9 hv5 dX1_exchanges_13 ?_
  refine lv_iload_n C.x C.b dX1_exchanges_16 rfl (lv_at hl_4 3 rfl) ?_
  obtain ⟨a6, e_, h_7⟩ := ob h_6; subst e_
  obtain ⟨v7, hv7, h_8⟩ := ob h_7
  refine m_lald C hH hv7 dX1_exchanges_17 ?_
  obtain ⟨a8, e_, h_9⟩ := ob h_8; subst e_
  obtain ⟨s9, hs9, h_10⟩ := ob h_9
  refine m_last C hH hL hs9 dX1_exchanges_18 (fun H_11 locs_11 hH_11 hL_11 => ?_)
  refine lv_aload_n C.x C.b dX1_exchanges_19 rfl (lv_at hl_4 1 rfl) ?_
  obtain ⟨v10, hv10, h_12⟩ := ob h_10
  refine m_getA C hH_11 fl_X1_9 hv10 dX1_exchanges_20 ?_
  refine lv_iload_n C.x C.b dX1_exchanges_23 rfl (lv_at hl_4 3 rfl) ?_
  refine lv_lload_n C.x C.b dX1_exchanges_24 rfl (lv_at hl_4 0 rfl) ?_
  obtain ⟨a11, e_, h_13⟩ := ob h_12; subst e_
  obtain ⟨s12, hs12, h_14⟩ := ob h_13
  refine m_last C hH_11 hL_11 hs12 dX1_exchanges_25 (fun H_15 locs_15 hH_15 hL_15 => ?_)
  refine lv_aload_n C.x C.b dX1_exchanges_26 rfl (lv_at hl_4 1 rfl) ?_
  obtain ⟨v13, hv13, h_16⟩ := ob h_14
  refine m_getA C hH_15 fl_X1_15 hv13 dX1_exchanges_27 ?_
  refine lv_iload_n C.x C.b dX1_exchanges_30 rfl (lv_at hl_4 2 rfl) ?_
  obtain ⟨a14, e_, h_17⟩ := ob h_16; subst e_
  obtain ⟨v15, hv15, h_18⟩ := ob h_17
  refine m_lald C hH_15 hv15 dX1_exchanges_31 ?_
  refine lv_lstore_n (i := 3) (lv' := [(3, .long v15), (0, .ref x0), (1, .int x1), (2, .int x2)]) C.x C.b dX1_exchanges_32 rfl hl_4 (by decide) rfl (fun ls_19 hl_19 => ?_)
  refine lv_aload_n C.x C.b dX1_exchanges_33 rfl (lv_at hl_19 1 rfl) ?_
  obtain ⟨v16, hv16, h_20⟩ := ob h_18
  refine m_getA C hH_15 fl_X1_15 hv16 dX1_exchanges_34 ?_
  refine lv_iload_n C.x C.b dX1_exchanges_37 rfl (lv_at hl_19 2 rfl) ?_
  refine lv_aload_n C.x C.b dX1_exchanges_38 rfl (lv_at hl_19 1 rfl) ?_
  obtain ⟨v17, hv17, h_21⟩ := ob h_20
  refine m_getA C hH_15 fl_X1_15 hv17 dX1_exchanges_39 ?_
  refine lv_iload_n C.x C.b dX1_exchanges_42 rfl (lv_at hl_19 3 rfl) ?_
  obtain ⟨a18, e_, h_22⟩ := ob h_21; subst e_
  obtain ⟨v19, hv19, h_23⟩ := ob h_22
  refine m_lald C hH_15 hv19 dX1_exchanges_43 ?_
  obtain ⟨a20, e_, h_24⟩ := ob h_23; subst e_
  obtain ⟨s21, hs21, h_25⟩ := ob h_24
  refine m_last C hH_15 hL_15 hs21 dX1_exchanges_44 (fun H_26 locs_26 hH_26 hL_26 => ?_)
  refine lv_aload_n C.x C.b dX1_exchanges_45 rfl (lv_at hl_19 1 rfl) ?_
  obtain ⟨v22, hv22, h_27⟩ := ob h_25
  refine m_getA C hH_26 fl_X1_15 hv22 dX1_exchanges_46 ?_
  refine lv_iload_n C.x C.b dX1_exchanges_49 rfl (lv_at hl_19 3 rfl) ?_
  refine lv_lload_n C.x C.b dX1_exchanges_50 rfl (lv_at hl_19 0 rfl) ?_
  obtain ⟨a23, e_, h_28⟩ := ob h_27; subst e_
  obtain ⟨s24, hs24, h_29⟩ := ob h_28
  refine m_last C hH_26 hL_26 hs24 dX1_exchanges_51 (fun H_30 locs_30 hH_30 hL_30 => ?_)
  refine lv_iconst (v := 0) C.x C.b dX1_exchanges_52 ki_0 ?_
  refine lv_istore (i := 5) (lv' := [(5, .int (0 : Int32)), (3, .long v15), (0, .ref x0), (1, .int x1), (2, .int x2)]) C.x C.b dX1_exchanges_53 hl_19 (by decide) rfl (fun ls_31 hl_31 => ?_)
  exact L_X1_exchanges_55_ok C hr  fu h_29 H_30 locs_30 ls_31 hH_30 hL_30 (lv_sub hl_31 [2, 3, 4, 0] rfl)
def f_X1_exchanges (fu : Nat) (ev : Ev) (σ : Mm) (x0 : Nat) (x1 : Int32) (x2 : Int32) : Option (Unit × Mm) := b_X1_exchanges_0  fu ev σ x0 x1 x2
set_option maxRecDepth 20000 in
theorem ct_X1_exchanges (l : Launch) (D : Dx) (H0 : Heap) {σ : Mm} {x0 : Nat} {x1 : Int32} {x2 : Int32} (h : f_X1_exchanges fu ev σ x0 x1 x2 = some res) : Ct l D H0 ev yX1_exchanges (ws_ yX1_exchanges cX1_exchanges 6 none) 0 0 [.ref x0, .int x1, .int x2] σ none res.2 := by
  refine Ct_of (by decide) ?_
  intro p e R s m below meth c C hr hnm hH
  have hl := lv_entry [.ref x0, .int x1, .int x2] (n := 6) (Nat.le_of_ble_eq_true rfl)
  rw [lg_entry_eq]
  exact b_X1_exchanges_0_ok C hr  h s.heap [] _ hH (by simp) (lv_sub hl [0, 1, 2] rfl)
end M_X1_exchanges
/-! CellReducer$Cell.turns(I)V -/
section M_X1_turns
variable {p : Program} {l : Launch} {e : Env} {R : Room} {s : State} {m : MethodId} {args : Array Value} {below : List Frame} {meth : Method} {c : Code} {D : Dx} {H0 : Heap} {ev : Ev} {fu : Nat} {res : Unit × Mm}
def b_X1_turns_57  (fu : Nat) (ev : Ev) (σ : Mm)  : Option (Unit × Mm) :=
  some ((), σ)
set_option maxRecDepth 20000 in
theorem b_X1_turns_57_ok (C : Cx p m meth c cX1_turns 3 s args RX1 R ev D H0 0 0) (hr : meth.sig.returnType = none)  {σ : Mm}  (h : b_X1_turns_57  fu ev σ  = some res) : GG p l e R s m args below meth c D H0 ev 3 (MQx D H0 ev below args s none res.2) σ 57 [] [] := by
  intro H locs ls hH hL hl
  unfold b_X1_turns_57 at h
  have hz_ := Option.some.inj h; subst hz_
  exact m_vret C hH hL hr dX1_turns_57
def b_X1_turns_33 (R2 : Mm → Nat → Int32 → Int32 → Option (Unit × Mm)) (fu : Nat) (ev : Ev) (σ : Mm) (x0 : Nat) (x1 : Int32) (x2 : Int32) (t0 : Option Nat) (t1 : Int32) (t2 : Int64) : Option (Unit × Mm) :=
  t0.bind fun a1 =>
  (astJ ev σ a1 t1 t2).bind fun s2 =>
  (gfA s2 x0 1 2).bind fun v3 =>
  v3.bind fun a4 =>
  (aldA 6 s2 a4 x1).bind fun v5 =>
  (gfA s2 x0 1 2).bind fun v6 =>
  v6.bind fun a7 =>
  (aldA 6 s2 a7 x1).bind fun v8 =>
  v8.bind fun a9 =>
  (aldJ s2 a9 x2).bind fun v10 =>
  v5.bind fun a11 =>
  (astJ ev s2 a11 x2 (-v10)).bind fun s12 =>
  R2 s12 x0 x1 (x2 + (1 : Int32))
set_option maxRecDepth 20000 in
theorem b_X1_turns_33_ok (C : Cx p m meth c cX1_turns 3 s args RX1 R ev D H0 0 0) (hr : meth.sig.returnType = none) {R2 : Mm → Nat → Int32 → Int32 → Option (Unit × Mm)} (HR2 : ∀ (σ : Mm) (x0 : Nat) (x1 : Int32) (x2 : Int32), R2 σ x0 x1 x2 = some res → GG p l e R s m args below meth c D H0 ev 3 (MQx D H0 ev below args s none res.2) σ 2 [(0, .ref x0), (1, .int x1), (2, .int x2)] []) {σ : Mm} {x0 : Nat} {x1 : Int32} {x2 : Int32} {t0 : Option Nat} {t1 : Int32} {t2 : Int64} (h : b_X1_turns_33 R2 fu ev σ x0 x1 x2 t0 t1 t2 = some res) : GG p l e R s m args below meth c D H0 ev 3 (MQx D H0 ev below args s none res.2) σ 33 [(0, .ref x0), (1, .int x1), (2, .int x2)] [.long t2, .int t1, va_rf t0] := by
  intro H locs ls hH hL hl
  unfold b_X1_turns_33 at h
  obtain ⟨a1, e_, h_1⟩ := ob h; subst e_
  obtain ⟨s2, hs2, h_2⟩ := ob h_1
  refine m_last C hH hL hs2 dX1_turns_33 (fun H_3 locs_3 hH_3 hL_3 => ?_)
  refine lv_aload_n C.x C.b dX1_turns_34 rfl (lv_at hl 0 rfl) ?_
  obtain ⟨v3, hv3, h_4⟩ := ob h_2
  refine m_getA C hH_3 fl_X1_20 hv3 dX1_turns_35 ?_
  refine lv_iload_n C.x C.b dX1_turns_38 rfl (lv_at hl 1 rfl) ?_
  obtain ⟨a4, e_, h_5⟩ := ob h_4; subst e_
  obtain ⟨v5, hv5, h_6⟩ := ob h_5
  refine m_aald (κ := 6) rfl (by decide) C hH_3 hv5 dX1_turns_39 ?_
  refine lv_iload_n C.x C.b dX1_turns_40 rfl (lv_at hl 2 rfl) ?_
  refine lv_aload_n C.x C.b dX1_turns_41 rfl (lv_at hl 0 rfl) ?_
  obtain ⟨v6, hv6, h_7⟩ := ob h_6
  refine m_getA C hH_3 fl_X1_20 hv6 dX1_turns_42 ?_
  refine lv_iload_n C.x C.b dX1_turns_45 rfl (lv_at hl 1 rfl) ?_
  obtain ⟨a7, e_, h_8⟩ := ob h_7; subst e_
  obtain ⟨v8, hv8, h_9⟩ := ob h_8
  refine m_aald (κ := 6) rfl (by decide) C hH_3 hv8 dX1_turns_46 ?_
  refine lv_iload_n C.x C.b dX1_turns_47 rfl (lv_at hl 2 rfl) ?_
  obtain ⟨a9, e_, h_10⟩ := ob h_9; subst e_
  obtain ⟨v10, hv10, h_11⟩ := ob h_10
  refine m_lald C hH_3 hv10 dX1_turns_48 ?_
  refine lv_lneg C.x C.b dX1_turns_49 ?_
  obtain ⟨a11, e_, h_12⟩ := ob h_11; subst e_
  obtain ⟨s12, hs12, h_13⟩ := ob h_12
  refine m_last C hH_3 hL_3 hs12 dX1_turns_50 (fun H_14 locs_14 hH_14 hL_14 => ?_)
  refine lv_iinc (v := x2 + (1 : Int32)) (lv' := [(2, .int (x2 + (1 : Int32))), (0, .ref x0), (1, .int x1)]) C.x C.b dX1_turns_51 hl (k := 2) rfl (by rw [ki_1]) (by decide) rfl (fun ls_15 hl_15 => ?_)
  refine lv_goto (tgt := 2) C.x C.b dX1_turns_54 (by decide) ?_
  exact HR2 _ _ _ _ h_13 H_14 locs_14 ls_15 hH_14 hL_14 (lv_sub hl_15 [1, 2, 0] rfl)
def b_X1_turns_26 (R2 : Mm → Nat → Int32 → Int32 → Option (Unit × Mm)) (fu : Nat) (ev : Ev) (σ : Mm) (x0 : Nat) (x1 : Int32) (x2 : Int32) (t0 : Option Nat) (t1 : Int32) : Option (Unit × Mm) :=
  (gfA σ x0 1 1).bind fun v1 =>
  v1.bind fun a2 =>
  (aldJ σ a2 x2).bind fun v3 =>
  b_X1_turns_33 R2 fu ev σ x0 x1 x2 t0 t1 (-v3)
set_option maxRecDepth 20000 in
theorem b_X1_turns_26_ok (C : Cx p m meth c cX1_turns 3 s args RX1 R ev D H0 0 0) (hr : meth.sig.returnType = none) {R2 : Mm → Nat → Int32 → Int32 → Option (Unit × Mm)} (HR2 : ∀ (σ : Mm) (x0 : Nat) (x1 : Int32) (x2 : Int32), R2 σ x0 x1 x2 = some res → GG p l e R s m args below meth c D H0 ev 3 (MQx D H0 ev below args s none res.2) σ 2 [(0, .ref x0), (1, .int x1), (2, .int x2)] []) {σ : Mm} {x0 : Nat} {x1 : Int32} {x2 : Int32} {t0 : Option Nat} {t1 : Int32} (h : b_X1_turns_26 R2 fu ev σ x0 x1 x2 t0 t1 = some res) : GG p l e R s m args below meth c D H0 ev 3 (MQx D H0 ev below args s none res.2) σ 26 [(0, .ref x0), (1, .int x1), (2, .int x2)] [.int t1, va_rf t0] := by
  intro H locs ls hH hL hl
  unfold b_X1_turns_26 at h
  refine lv_aload_n C.x C.b dX1_turns_26 rfl (lv_at hl 0 rfl) ?_
  obtain ⟨v1, hv1, h_1⟩ := ob h
  refine m_getA C hH fl_X1_15 hv1 dX1_turns_27 ?_
  refine lv_iload_n C.x C.b dX1_turns_30 rfl (lv_at hl 2 rfl) ?_
  obtain ⟨a2, e_, h_2⟩ := ob h_1; subst e_
  obtain ⟨v3, hv3, h_3⟩ := ob h_2
  refine m_lald C hH hv3 dX1_turns_31 ?_
  refine lv_lneg C.x C.b dX1_turns_32 ?_
  exact b_X1_turns_33_ok C hr HR2 h_3 H locs ls hH hL (lv_sub hl [0, 1, 2] rfl)
def b_X1_turns_17 (R2 : Mm → Nat → Int32 → Int32 → Option (Unit × Mm)) (fu : Nat) (ev : Ev) (σ : Mm) (x0 : Nat) (x1 : Int32) (x2 : Int32) (t0 : Option Nat) (t1 : Int32) : Option (Unit × Mm) :=
  (gfA σ x0 1 1).bind fun v1 =>
  v1.bind fun a2 =>
  (aldJ σ a2 x2).bind fun v3 =>
  b_X1_turns_33 R2 fu ev σ x0 x1 x2 t0 t1 v3
set_option maxRecDepth 20000 in
theorem b_X1_turns_17_ok (C : Cx p m meth c cX1_turns 3 s args RX1 R ev D H0 0 0) (hr : meth.sig.returnType = none) {R2 : Mm → Nat → Int32 → Int32 → Option (Unit × Mm)} (HR2 : ∀ (σ : Mm) (x0 : Nat) (x1 : Int32) (x2 : Int32), R2 σ x0 x1 x2 = some res → GG p l e R s m args below meth c D H0 ev 3 (MQx D H0 ev below args s none res.2) σ 2 [(0, .ref x0), (1, .int x1), (2, .int x2)] []) {σ : Mm} {x0 : Nat} {x1 : Int32} {x2 : Int32} {t0 : Option Nat} {t1 : Int32} (h : b_X1_turns_17 R2 fu ev σ x0 x1 x2 t0 t1 = some res) : GG p l e R s m args below meth c D H0 ev 3 (MQx D H0 ev below args s none res.2) σ 17 [(0, .ref x0), (1, .int x1), (2, .int x2)] [.int t1, va_rf t0] := by
  intro H locs ls hH hL hl
  unfold b_X1_turns_17 at h
  refine lv_aload_n C.x C.b dX1_turns_17 rfl (lv_at hl 0 rfl) ?_
  obtain ⟨v1, hv1, h_1⟩ := ob h
  refine m_getA C hH fl_X1_15 hv1 dX1_turns_18 ?_
  refine lv_iload_n C.x C.b dX1_turns_21 rfl (lv_at hl 2 rfl) ?_
  obtain ⟨a2, e_, h_2⟩ := ob h_1; subst e_
  obtain ⟨v3, hv3, h_3⟩ := ob h_2
  refine m_lald C hH hv3 dX1_turns_22 ?_
  refine lv_goto (tgt := 33) C.x C.b dX1_turns_23 (by decide) ?_
  exact b_X1_turns_33_ok C hr HR2 h_3 H locs ls hH hL (lv_sub hl [0, 1, 2] rfl)
def b_X1_turns_7 (R2 : Mm → Nat → Int32 → Int32 → Option (Unit × Mm)) (fu : Nat) (ev : Ev) (σ : Mm) (x0 : Nat) (x1 : Int32) (x2 : Int32) : Option (Unit × Mm) :=
  (gfA σ x0 1 1).bind fun v1 =>
  if x2 = x1 then b_X1_turns_17 R2 fu ev σ x0 x1 x2 v1 x2 else b_X1_turns_26 R2 fu ev σ x0 x1 x2 v1 x2
set_option maxRecDepth 20000 in
theorem b_X1_turns_7_ok (C : Cx p m meth c cX1_turns 3 s args RX1 R ev D H0 0 0) (hr : meth.sig.returnType = none) {R2 : Mm → Nat → Int32 → Int32 → Option (Unit × Mm)} (HR2 : ∀ (σ : Mm) (x0 : Nat) (x1 : Int32) (x2 : Int32), R2 σ x0 x1 x2 = some res → GG p l e R s m args below meth c D H0 ev 3 (MQx D H0 ev below args s none res.2) σ 2 [(0, .ref x0), (1, .int x1), (2, .int x2)] []) {σ : Mm} {x0 : Nat} {x1 : Int32} {x2 : Int32} (h : b_X1_turns_7 R2 fu ev σ x0 x1 x2 = some res) : GG p l e R s m args below meth c D H0 ev 3 (MQx D H0 ev below args s none res.2) σ 7 [(0, .ref x0), (1, .int x1), (2, .int x2)] [] := by
  intro H locs ls hH hL hl
  unfold b_X1_turns_7 at h
  refine lv_aload_n C.x C.b dX1_turns_7 rfl (lv_at hl 0 rfl) ?_
  obtain ⟨v1, hv1, h_1⟩ := ob h
  refine m_getA C hH fl_X1_15 hv1 dX1_turns_8 ?_
  refine lv_iload_n C.x C.b dX1_turns_11 rfl (lv_at hl 2 rfl) ?_
  refine lv_iload_n C.x C.b dX1_turns_12 rfl (lv_at hl 2 rfl) ?_
  refine lv_iload_n C.x C.b dX1_turns_13 rfl (lv_at hl 1 rfl) ?_
  refine lv_icmp_ne (tgt := 26) C.x C.b dX1_turns_14 (by decide) (fun q => ?_) (fun q => ?_)
  · exact b_X1_turns_26_ok C hr HR2 (cn h_1 q) H locs ls hH hL (lv_sub hl [0, 1, 2] rfl)
  · exact b_X1_turns_17_ok C hr HR2 (cp h_1 q) H locs ls hH hL (lv_sub hl [0, 1, 2] rfl)
def b_X1_turns_2 (R2 : Mm → Nat → Int32 → Int32 → Option (Unit × Mm)) (fu : Nat) (ev : Ev) (σ : Mm) (x0 : Nat) (x1 : Int32) (x2 : Int32) : Option (Unit × Mm) :=
  if (3 : Int32) ≤ x2 then b_X1_turns_57  fu ev σ  else b_X1_turns_7 R2 fu ev σ x0 x1 x2
set_option maxRecDepth 20000 in
theorem b_X1_turns_2_ok (C : Cx p m meth c cX1_turns 3 s args RX1 R ev D H0 0 0) (hr : meth.sig.returnType = none) {R2 : Mm → Nat → Int32 → Int32 → Option (Unit × Mm)} (HR2 : ∀ (σ : Mm) (x0 : Nat) (x1 : Int32) (x2 : Int32), R2 σ x0 x1 x2 = some res → GG p l e R s m args below meth c D H0 ev 3 (MQx D H0 ev below args s none res.2) σ 2 [(0, .ref x0), (1, .int x1), (2, .int x2)] []) {σ : Mm} {x0 : Nat} {x1 : Int32} {x2 : Int32} (h : b_X1_turns_2 R2 fu ev σ x0 x1 x2 = some res) : GG p l e R s m args below meth c D H0 ev 3 (MQx D H0 ev below args s none res.2) σ 2 [(0, .ref x0), (1, .int x1), (2, .int x2)] [] := by
  intro H locs ls hH hL hl
  unfold b_X1_turns_2 at h
  refine lv_iload_n C.x C.b dX1_turns_2 rfl (lv_at hl 2 rfl) ?_
  refine lv_iconst (v := 3) C.x C.b dX1_turns_3 ki_3 ?_
  refine lv_icmp_ge (tgt := 57) C.x C.b dX1_turns_4 (by decide) (fun q => ?_) (fun q => ?_)
  · exact b_X1_turns_57_ok C hr  (cp h q) H locs ls hH hL (lv_sub hl [] rfl)
  · exact b_X1_turns_7_ok C hr HR2 (cn h q) H locs ls hH hL (lv_sub hl [0, 1, 2] rfl)
def L_X1_turns_2  (fu : Nat) (ev : Ev) : Nat → Mm → Nat → Int32 → Int32 → Option (Unit × Mm)
  | 0, _, _, _, _ => none
  | n + 1, σ, x0, x1, x2 => b_X1_turns_2  (L_X1_turns_2  fu ev n) fu ev σ x0 x1 x2
theorem L_X1_turns_2_ok (C : Cx p m meth c cX1_turns 3 s args RX1 R ev D H0 0 0) (hr : meth.sig.returnType = none)  : ∀ (n : Nat) {σ : Mm} {x0 : Nat} {x1 : Int32} {x2 : Int32}, L_X1_turns_2  fu ev n σ x0 x1 x2 = some res → GG p l e R s m args below meth c D H0 ev 3 (MQx D H0 ev below args s none res.2) σ 2 [(0, .ref x0), (1, .int x1), (2, .int x2)] [] := by
  intro n
  induction n with
  | zero => intro σ x0 x1 x2 h; exact (Option.some_ne_none _ (Eq.symm h)).elim
  | succ n ih => intro σ x0 x1 x2 h; exact b_X1_turns_2_ok C hr  (fun σ _ _ _ h => ih h) h
def b_X1_turns_0  (fu : Nat) (ev : Ev) (σ : Mm) (x0 : Nat) (x1 : Int32) : Option (Unit × Mm) :=
  L_X1_turns_2  fu ev fu σ x0 x1 (0 : Int32)
set_option maxRecDepth 20000 in
theorem b_X1_turns_0_ok (C : Cx p m meth c cX1_turns 3 s args RX1 R ev D H0 0 0) (hr : meth.sig.returnType = none)  {σ : Mm} {x0 : Nat} {x1 : Int32} (h : b_X1_turns_0  fu ev σ x0 x1 = some res) : GG p l e R s m args below meth c D H0 ev 3 (MQx D H0 ev below args s none res.2) σ 0 [(0, .ref x0), (1, .int x1)] [] := by
  intro H locs ls hH hL hl
  unfold b_X1_turns_0 at h
  refine lv_iconst (v := 0) C.x C.b dX1_turns_0 ki_0 ?_
  refine lv_istore_n (i := 2) (lv' := [(2, .int (0 : Int32)), (0, .ref x0), (1, .int x1)]) C.x C.b dX1_turns_1 rfl hl (by decide) rfl (fun ls_1 hl_1 => ?_)
  exact L_X1_turns_2_ok C hr  fu h H locs ls_1 hH hL (lv_sub hl_1 [1, 2, 0] rfl)
def f_X1_turns (fu : Nat) (ev : Ev) (σ : Mm) (x0 : Nat) (x1 : Int32) : Option (Unit × Mm) := b_X1_turns_0  fu ev σ x0 x1
set_option maxRecDepth 20000 in
theorem ct_X1_turns (l : Launch) (D : Dx) (H0 : Heap) {σ : Mm} {x0 : Nat} {x1 : Int32} (h : f_X1_turns fu ev σ x0 x1 = some res) : Ct l D H0 ev yX1_turns (ws_ yX1_turns cX1_turns 3 none) 0 0 [.ref x0, .int x1] σ none res.2 := by
  refine Ct_of (by decide) ?_
  intro p e R s m below meth c C hr hnm hH
  have hl := lv_entry [.ref x0, .int x1] (n := 3) (Nat.le_of_ble_eq_true rfl)
  rw [lg_entry_eq]
  exact b_X1_turns_0_ok C hr  h s.heap [] _ hH (by simp) (lv_sub hl [0, 1] rfl)
end M_X1_turns
/-! java/lang/Long.signum(J)I -/
section M_J31_signum
variable {p : Program} {l : Launch} {e : Env} {R : Room} {s : State} {m : MethodId} {args : Array Value} {below : List Frame} {meth : Method} {c : Code} {D : Dx} {H0 : Heap} {ev : Ev} {fu : Nat} {res : Int32 × Mm}
def b_J31_signum_0  (fu : Nat) (ev : Ev) (σ : Mm) (x0 : Int64) : Option (Int32 × Mm) :=
  some (((x0 >>> (((63 : Int32)).toInt64 &&& 63)) ||| (((-x0).toUInt64 >>> ((63 : Int32).toInt64.toUInt64 &&& Int64.toUInt64 63)).toInt64)).toInt32, σ)
set_option maxRecDepth 20000 in
theorem b_J31_signum_0_ok (C : Cx p m meth c cJ31_signum 2 s args RJ31 R ev D H0 0 0) (hr : meth.sig.returnType = (some .int))  {σ : Mm} {x0 : Int64} (h : b_J31_signum_0  fu ev σ x0 = some res) : GG p l e R s m args below meth c D H0 ev 2 (MQx D H0 ev below args s (some (.int res.1)) res.2) σ 0 [(0, .long x0)] [] := by
  intro H locs ls hH hL hl
  unfold b_J31_signum_0 at h
  refine lv_lload_n C.x C.b dJ31_signum_0 rfl (lv_at hl 0 rfl) ?_
  refine lv_bipush (v := 63) C.x C.b dJ31_signum_1 kb_63 ?_
  refine lv_lshr C.x C.b dJ31_signum_3 rfl ?_
  refine lv_lload_n C.x C.b dJ31_signum_4 rfl (lv_at hl 0 rfl) ?_
  refine lv_lneg C.x C.b dJ31_signum_5 ?_
  refine lv_bipush (v := 63) C.x C.b dJ31_signum_6 kb_63 ?_
  refine lv_lushr C.x C.b dJ31_signum_8 rfl ?_
  refine lv_lor C.x C.b dJ31_signum_9 ?_
  refine lv_l2i C.x C.b dJ31_signum_10 rfl ?_
  have hz_ := Option.some.inj h; subst hz_
  exact m_iret C hH hL hr dJ31_signum_11
def f_J31_signum (fu : Nat) (ev : Ev) (σ : Mm) (x0 : Int64) : Option (Int32 × Mm) := b_J31_signum_0  fu ev σ x0
set_option maxRecDepth 20000 in
theorem ct_J31_signum (l : Launch) (D : Dx) (H0 : Heap) {σ : Mm} {x0 : Int64} (h : f_J31_signum fu ev σ x0 = some res) : Ct l D H0 ev yJ31_signum (ws_ yJ31_signum cJ31_signum 2 (some .int)) 0 0 [.long x0] σ (some (.int res.1)) res.2 := by
  refine Ct_of (by decide) ?_
  intro p e R s m below meth c C hr hnm hH
  have hl := lv_entry [.long x0] (n := 2) (Nat.le_of_ble_eq_true rfl)
  rw [lg_entry_eq]
  exact b_J31_signum_0_ok C hr  h s.heap [] _ hH (by simp) (lv_sub hl [0] rfl)
end M_J31_signum
theorem cs_X1_63 : CS RX1 63 yJ31_signum cJ31_signum 2 (some .int) 1 := ⟨lw_S q474 q475 q138 q476, by decide, by decide, by decide +kernel⟩
/-! CellReducer$Cell.sign()J -/
section M_X1_sign
variable {p : Program} {l : Launch} {e : Env} {R : Room} {s : State} {m : MethodId} {args : Array Value} {below : List Frame} {meth : Method} {c : Code} {D : Dx} {H0 : Heap} {ev : Ev} {fu : Nat} {res : Int64 × Mm}
def b_X1_sign_0  (fu : Nat) (ev : Ev) (σ : Mm) (x0 : Nat) : Option (Int64 × Mm) :=
  (gfA σ x0 1 1).bind fun v1 =>
  v1.bind fun a2 =>
  (aldJ σ a2 (0 : Int32)).bind fun v3 =>
  bd2 (f_J31_signum fu ev σ v3) fun v4 s5 =>
  (gfA s5 x0 1 1).bind fun v6 =>
  v6.bind fun a7 =>
  (aldJ s5 a7 (1 : Int32)).bind fun v8 =>
  bd2 (f_J31_signum fu ev s5 v8) fun v9 s10 =>
  (gfA s10 x0 1 1).bind fun v11 =>
  v11.bind fun a12 =>
  (aldJ s10 a12 (2 : Int32)).bind fun v13 =>
  bd2 (f_J31_signum fu ev s10 v13) fun v14 s15 =>
  some (((v4 * v9) * v14).toInt64, s15)
set_option maxRecDepth 20000 in
theorem b_X1_sign_0_ok (C : Cx p m meth c cX1_sign 1 s args RX1 R ev D H0 1 21) (hr : meth.sig.returnType = (some .long))  {σ : Mm} {x0 : Nat} (h : b_X1_sign_0  fu ev σ x0 = some res) : GG p l e R s m args below meth c D H0 ev 1 (MQx D H0 ev below args s (some (.long res.1)) res.2) σ 0 [(0, .ref x0)] [] := by
  intro H locs ls hH hL hl
  unfold b_X1_sign_0 at h
  refine lv_aload_n C.x C.b dX1_sign_0 rfl (lv_at hl 0 rfl) ?_
  obtain ⟨v1, hv1, h_1⟩ := ob h
  refine m_getA C hH fl_X1_15 hv1 dX1_sign_1 ?_
  refine lv_iconst (v := 0) C.x C.b dX1_sign_4 ki_0 ?_
  obtain ⟨a2, e_, h_2⟩ := ob h_1; subst e_
  obtain ⟨v3, hv3, h_3⟩ := ob h_2
  refine m_lald C hH hv3 dX1_sign_5 ?_
  obtain ⟨v4, s5, hs5, h_4⟩ := ob2 h_3
  refine m_callSI (As := [.long v3]) (rest := []) (v := v4) C hH hL cs_X1_63 (ct_J31_signum l D H0 hs5) ⟨Nat.le_of_ble_eq_true rfl, Nat.le_of_ble_eq_true rfl⟩ rfl hl.1 rfl (Nat.le_of_ble_eq_true rfl) dX1_sign_6 (fun H_5 locs_5 hH_5 hL_5 => ?_)
  refine lv_aload_n C.x C.b dX1_sign_9 rfl (lv_at hl 0 rfl) ?_
  obtain ⟨v6, hv6, h_6⟩ := ob h_4
  refine m_getA C hH_5 fl_X1_15 hv6 dX1_sign_10 ?_
  refine lv_iconst (v := 1) C.x C.b dX1_sign_13 ki_1 ?_
  obtain ⟨a7, e_, h_7⟩ := ob h_6; subst e_
  obtain ⟨v8, hv8, h_8⟩ := ob h_7
  refine m_lald C hH_5 hv8 dX1_sign_14 ?_
  obtain ⟨v9, s10, hs10, h_9⟩ := ob2 h_8
  refine m_callSI (As := [.long v8]) (rest := [.int v4]) (v := v9) C hH_5 hL_5 cs_X1_63 (ct_J31_signum l D H0 hs10) ⟨Nat.le_of_ble_eq_true rfl, Nat.le_of_ble_eq_true rfl⟩ rfl hl.1 rfl (Nat.le_of_ble_eq_true rfl) dX1_sign_15 (fun H_10 locs_10 hH_10 hL_10 => ?_)
  refine lv_imul C.x C.b dX1_sign_18 ?_
  refine lv_aload_n C.x C.b dX1_sign_19 rfl (lv_at hl 0 rfl) ?_
  obtain ⟨v11, hv11, h_11⟩ := ob h_9
  refine m_getA C hH_10 fl_X1_15 hv11 dX1_sign_20 ?_
  refine lv_iconst (v := 2) C.x C.b dX1_sign_23 ki_2 ?_
  obtain ⟨a12, e_, h_12⟩ := ob h_11; subst e_
  obtain ⟨v13, hv13, h_13⟩ := ob h_12
  refine m_lald C hH_10 hv13 dX1_sign_24 ?_
  obtain ⟨v14, s15, hs15, h_14⟩ := ob2 h_13
  refine m_callSI (As := [.long v13]) (rest := [.int (v4 * v9)]) (v := v14) C hH_10 hL_10 cs_X1_63 (ct_J31_signum l D H0 hs15) ⟨Nat.le_of_ble_eq_true rfl, Nat.le_of_ble_eq_true rfl⟩ rfl hl.1 rfl (Nat.le_of_ble_eq_true rfl) dX1_sign_25 (fun H_15 locs_15 hH_15 hL_15 => ?_)
  refine lv_imul C.x C.b dX1_sign_28 ?_
  refine lv_i2l C.x C.b dX1_sign_29 rfl ?_
  have hz_ := Option.some.inj h_14; subst hz_
  exact m_lret C hH_15 hL_15 hr dX1_sign_30
def f_X1_sign (fu : Nat) (ev : Ev) (σ : Mm) (x0 : Nat) : Option (Int64 × Mm) := b_X1_sign_0  fu ev σ x0
set_option maxRecDepth 20000 in
theorem ct_X1_sign (l : Launch) (D : Dx) (H0 : Heap) {σ : Mm} {x0 : Nat} (h : f_X1_sign fu ev σ x0 = some res) : Ct l D H0 ev yX1_sign (ws_ yX1_sign cX1_sign 1 (some .long)) 1 21 [.ref x0] σ (some (.long res.1)) res.2 := by
  refine Ct_of (by decide) ?_
  intro p e R s m below meth c C hr hnm hH
  have hl := lv_entry [.ref x0] (n := 1) (Nat.le_of_ble_eq_true rfl)
  rw [lg_entry_eq]
  exact b_X1_sign_0_ok C hr  h s.heap [] _ hH (by simp) (lv_sub hl [0] rfl)
end M_X1_sign
/-! CellReducer$Cell.areAbove(I)Z -/
section M_X1_areAbove
variable {p : Program} {l : Launch} {e : Env} {R : Room} {s : State} {m : MethodId} {args : Array Value} {below : List Frame} {meth : Method} {c : Code} {D : Dx} {H0 : Heap} {ev : Ev} {fu : Nat} {res : Int32 × Mm}
def b_X1_areAbove_44  (fu : Nat) (ev : Ev) (σ : Mm) (t0 : Int32) : Option (Int32 × Mm) :=
  (zbI t0).bind fun _ =>
  some (t0, σ)
set_option maxRecDepth 20000 in
theorem b_X1_areAbove_44_ok (C : Cx p m meth c cX1_areAbove 4 s args RX1 R ev D H0 0 0) (hr : meth.sig.returnType = (some .boolean))  {σ : Mm} {t0 : Int32} (h : b_X1_areAbove_44  fu ev σ t0 = some res) : GG p l e R s m args below meth c D H0 ev 4 (MQx D H0 ev below args s (some (.int res.1)) res.2) σ 44 [] [.int t0] := by
  intro H locs ls hH hL hl
  unfold b_X1_areAbove_44 at h
  obtain ⟨_, u1, h_1⟩ := ob h
  have hz_ := Option.some.inj h_1; subst hz_
  exact m_zret C hH hL hr (zbI_is u1) dX1_areAbove_44
def b_X1_areAbove_43  (fu : Nat) (ev : Ev) (σ : Mm)  : Option (Int32 × Mm) :=
  b_X1_areAbove_44  fu ev σ (0 : Int32)
set_option maxRecDepth 20000 in
theorem b_X1_areAbove_43_ok (C : Cx p m meth c cX1_areAbove 4 s args RX1 R ev D H0 0 0) (hr : meth.sig.returnType = (some .boolean))  {σ : Mm}  (h : b_X1_areAbove_43  fu ev σ  = some res) : GG p l e R s m args below meth c D H0 ev 4 (MQx D H0 ev below args s (some (.int res.1)) res.2) σ 43 [] [] := by
  intro H locs ls hH hL hl
  unfold b_X1_areAbove_43 at h
  refine lv_iconst (v := 0) C.x C.b dX1_areAbove_43 ki_0 ?_
  exact b_X1_areAbove_44_ok C hr  h H locs ls hH hL (lv_sub hl [] rfl)
def b_X1_areAbove_39  (fu : Nat) (ev : Ev) (σ : Mm)  : Option (Int32 × Mm) :=
  b_X1_areAbove_44  fu ev σ (1 : Int32)
set_option maxRecDepth 20000 in
theorem b_X1_areAbove_39_ok (C : Cx p m meth c cX1_areAbove 4 s args RX1 R ev D H0 0 0) (hr : meth.sig.returnType = (some .boolean))  {σ : Mm}  (h : b_X1_areAbove_39  fu ev σ  = some res) : GG p l e R s m args below meth c D H0 ev 4 (MQx D H0 ev below args s (some (.int res.1)) res.2) σ 39 [] [] := by
  intro H locs ls hH hL hl
  unfold b_X1_areAbove_39 at h
  refine lv_iconst (v := 1) C.x C.b dX1_areAbove_39 ki_1 ?_
  refine lv_goto (tgt := 44) C.x C.b dX1_areAbove_40 (by decide) ?_
  exact b_X1_areAbove_44_ok C hr  h H locs ls hH hL (lv_sub hl [] rfl)
def b_X1_areAbove_34  (fu : Nat) (ev : Ev) (σ : Mm) (x1 : Int32) (x2 : Int32) : Option (Int32 × Mm) :=
  if x2 < x1 then b_X1_areAbove_43  fu ev σ  else b_X1_areAbove_39  fu ev σ 
set_option maxRecDepth 20000 in
theorem b_X1_areAbove_34_ok (C : Cx p m meth c cX1_areAbove 4 s args RX1 R ev D H0 0 0) (hr : meth.sig.returnType = (some .boolean))  {σ : Mm} {x1 : Int32} {x2 : Int32} (h : b_X1_areAbove_34  fu ev σ x1 x2 = some res) : GG p l e R s m args below meth c D H0 ev 4 (MQx D H0 ev below args s (some (.int res.1)) res.2) σ 34 [(1, .int x1), (2, .int x2)] [] := by
  intro H locs ls hH hL hl
  unfold b_X1_areAbove_34 at h
  refine lv_iload_n C.x C.b dX1_areAbove_34 rfl (lv_at hl 1 rfl) ?_
  refine lv_iload_n C.x C.b dX1_areAbove_35 rfl (lv_at hl 0 rfl) ?_
  refine lv_icmp_lt (tgt := 43) C.x C.b dX1_areAbove_36 (by decide) (fun q => ?_) (fun q => ?_)
  · exact b_X1_areAbove_43_ok C hr  (cp h q) H locs ls hH hL (lv_sub hl [] rfl)
  · exact b_X1_areAbove_39_ok C hr  (cn h q) H locs ls hH hL (lv_sub hl [] rfl)
def b_X1_areAbove_26 (R4 : Mm → Nat → Int32 → Int32 → Int32 → Option (Int32 × Mm)) (fu : Nat) (ev : Ev) (σ : Mm) (x0 : Nat) (x1 : Int32) (x3 : Int32) (t0 : Int32) (t1 : Int32) : Option (Int32 × Mm) :=
  R4 σ x0 x1 (t0 + t1) (x3 + (1 : Int32))
set_option maxRecDepth 20000 in
theorem b_X1_areAbove_26_ok (C : Cx p m meth c cX1_areAbove 4 s args RX1 R ev D H0 0 0) (hr : meth.sig.returnType = (some .boolean)) {R4 : Mm → Nat → Int32 → Int32 → Int32 → Option (Int32 × Mm)} (HR4 : ∀ (σ : Mm) (x0 : Nat) (x1 : Int32) (x2 : Int32) (x3 : Int32), R4 σ x0 x1 x2 x3 = some res → GG p l e R s m args below meth c D H0 ev 4 (MQx D H0 ev below args s (some (.int res.1)) res.2) σ 4 [(0, .ref x0), (1, .int x1), (2, .int x2), (3, .int x3)] []) {σ : Mm} {x0 : Nat} {x1 : Int32} {x3 : Int32} {t0 : Int32} {t1 : Int32} (h : b_X1_areAbove_26 R4 fu ev σ x0 x1 x3 t0 t1 = some res) : GG p l e R s m args below meth c D H0 ev 4 (MQx D H0 ev below args s (some (.int res.1)) res.2) σ 26 [(0, .ref x0), (1, .int x1), (3, .int x3)] [.int t1, .int t0] := by
  intro H locs ls hH hL hl
  unfold b_X1_areAbove_26 at h
  refine lv_iadd C.x C.b dX1_areAbove_26 ?_
  refine lv_istore_n (i := 2) (lv' := [(2, .int (t0 + t1)), (0, .ref x0), (1, .int x1), (3, .int x3)]) C.x C.b dX1_areAbove_27 rfl hl (by decide) rfl (fun ls_1 hl_1 => ?_)
  refine lv_iinc (v := x3 + (1 : Int32)) (lv' := [(3, .int (x3 + (1 : Int32))), (2, .int (t0 + t1)), (0, .ref x0), (1, .int x1)]) C.x C.b dX1_areAbove_28 hl_1 (k := 3) rfl (by rw [ki_1]) (by decide) rfl (fun ls_2 hl_2 => ?_)
  refine lv_goto (tgt := 4) C.x C.b dX1_areAbove_31 (by decide) ?_
  exact HR4 _ _ _ _ _ h H locs ls_2 hH hL (lv_sub hl_2 [2, 3, 1, 0] rfl)
def b_X1_areAbove_25 (R4 : Mm → Nat → Int32 → Int32 → Int32 → Option (Int32 × Mm)) (fu : Nat) (ev : Ev) (σ : Mm) (x0 : Nat) (x1 : Int32) (x3 : Int32) (t0 : Int32) : Option (Int32 × Mm) :=
  b_X1_areAbove_26 R4 fu ev σ x0 x1 x3 t0 (0 : Int32)
set_option maxRecDepth 20000 in
theorem b_X1_areAbove_25_ok (C : Cx p m meth c cX1_areAbove 4 s args RX1 R ev D H0 0 0) (hr : meth.sig.returnType = (some .boolean)) {R4 : Mm → Nat → Int32 → Int32 → Int32 → Option (Int32 × Mm)} (HR4 : ∀ (σ : Mm) (x0 : Nat) (x1 : Int32) (x2 : Int32) (x3 : Int32), R4 σ x0 x1 x2 x3 = some res → GG p l e R s m args below meth c D H0 ev 4 (MQx D H0 ev below args s (some (.int res.1)) res.2) σ 4 [(0, .ref x0), (1, .int x1), (2, .int x2), (3, .int x3)] []) {σ : Mm} {x0 : Nat} {x1 : Int32} {x3 : Int32} {t0 : Int32} (h : b_X1_areAbove_25 R4 fu ev σ x0 x1 x3 t0 = some res) : GG p l e R s m args below meth c D H0 ev 4 (MQx D H0 ev below args s (some (.int res.1)) res.2) σ 25 [(0, .ref x0), (1, .int x1), (3, .int x3)] [.int t0] := by
  intro H locs ls hH hL hl
  unfold b_X1_areAbove_25 at h
  refine lv_iconst (v := 0) C.x C.b dX1_areAbove_25 ki_0 ?_
  exact b_X1_areAbove_26_ok C hr HR4 h H locs ls hH hL (lv_sub hl [0, 1, 2] rfl)
def b_X1_areAbove_21 (R4 : Mm → Nat → Int32 → Int32 → Int32 → Option (Int32 × Mm)) (fu : Nat) (ev : Ev) (σ : Mm) (x0 : Nat) (x1 : Int32) (x3 : Int32) (t0 : Int32) : Option (Int32 × Mm) :=
  b_X1_areAbove_26 R4 fu ev σ x0 x1 x3 t0 (1 : Int32)
set_option maxRecDepth 20000 in
theorem b_X1_areAbove_21_ok (C : Cx p m meth c cX1_areAbove 4 s args RX1 R ev D H0 0 0) (hr : meth.sig.returnType = (some .boolean)) {R4 : Mm → Nat → Int32 → Int32 → Int32 → Option (Int32 × Mm)} (HR4 : ∀ (σ : Mm) (x0 : Nat) (x1 : Int32) (x2 : Int32) (x3 : Int32), R4 σ x0 x1 x2 x3 = some res → GG p l e R s m args below meth c D H0 ev 4 (MQx D H0 ev below args s (some (.int res.1)) res.2) σ 4 [(0, .ref x0), (1, .int x1), (2, .int x2), (3, .int x3)] []) {σ : Mm} {x0 : Nat} {x1 : Int32} {x3 : Int32} {t0 : Int32} (h : b_X1_areAbove_21 R4 fu ev σ x0 x1 x3 t0 = some res) : GG p l e R s m args below meth c D H0 ev 4 (MQx D H0 ev below args s (some (.int res.1)) res.2) σ 21 [(0, .ref x0), (1, .int x1), (3, .int x3)] [.int t0] := by
  intro H locs ls hH hL hl
  unfold b_X1_areAbove_21 at h
  refine lv_iconst (v := 1) C.x C.b dX1_areAbove_21 ki_1 ?_
  refine lv_goto (tgt := 26) C.x C.b dX1_areAbove_22 (by decide) ?_
  exact b_X1_areAbove_26_ok C hr HR4 h H locs ls hH hL (lv_sub hl [0, 1, 2] rfl)
def b_X1_areAbove_9 (R4 : Mm → Nat → Int32 → Int32 → Int32 → Option (Int32 × Mm)) (fu : Nat) (ev : Ev) (σ : Mm) (x0 : Nat) (x1 : Int32) (x2 : Int32) (x3 : Int32) : Option (Int32 × Mm) :=
  (gfA σ x0 1 1).bind fun v1 =>
  v1.bind fun a2 =>
  (aldJ σ a2 x3).bind fun v3 =>
  if v3 ≤ (0 : Int64) then b_X1_areAbove_25 R4 fu ev σ x0 x1 x3 x2 else b_X1_areAbove_21 R4 fu ev σ x0 x1 x3 x2
set_option maxRecDepth 20000 in
theorem b_X1_areAbove_9_ok (C : Cx p m meth c cX1_areAbove 4 s args RX1 R ev D H0 0 0) (hr : meth.sig.returnType = (some .boolean)) {R4 : Mm → Nat → Int32 → Int32 → Int32 → Option (Int32 × Mm)} (HR4 : ∀ (σ : Mm) (x0 : Nat) (x1 : Int32) (x2 : Int32) (x3 : Int32), R4 σ x0 x1 x2 x3 = some res → GG p l e R s m args below meth c D H0 ev 4 (MQx D H0 ev below args s (some (.int res.1)) res.2) σ 4 [(0, .ref x0), (1, .int x1), (2, .int x2), (3, .int x3)] []) {σ : Mm} {x0 : Nat} {x1 : Int32} {x2 : Int32} {x3 : Int32} (h : b_X1_areAbove_9 R4 fu ev σ x0 x1 x2 x3 = some res) : GG p l e R s m args below meth c D H0 ev 4 (MQx D H0 ev below args s (some (.int res.1)) res.2) σ 9 [(0, .ref x0), (1, .int x1), (2, .int x2), (3, .int x3)] [] := by
  intro H locs ls hH hL hl
  unfold b_X1_areAbove_9 at h
  refine lv_iload_n C.x C.b dX1_areAbove_9 rfl (lv_at hl 2 rfl) ?_
  refine lv_aload_n C.x C.b dX1_areAbove_10 rfl (lv_at hl 0 rfl) ?_
  obtain ⟨v1, hv1, h_1⟩ := ob h
  refine m_getA C hH fl_X1_15 hv1 dX1_areAbove_11 ?_
  refine lv_iload_n C.x C.b dX1_areAbove_14 rfl (lv_at hl 3 rfl) ?_
  obtain ⟨a2, e_, h_2⟩ := ob h_1; subst e_
  obtain ⟨v3, hv3, h_3⟩ := ob h_2
  refine m_lald C hH hv3 dX1_areAbove_15 ?_
  refine lv_lconst (v := 0) C.x C.b dX1_areAbove_16 rfl ?_
  refine r_lc_le (tgt := 25) C.x C.b dX1_areAbove_17 dX1_areAbove_18 (by decide) (fun q => ?_) (fun q => ?_)
  · exact b_X1_areAbove_25_ok C hr HR4 (cp h_3 q) H locs ls hH hL (lv_sub hl [0, 1, 3] rfl)
  · exact b_X1_areAbove_21_ok C hr HR4 (cn h_3 q) H locs ls hH hL (lv_sub hl [0, 1, 3] rfl)
def b_X1_areAbove_4 (R4 : Mm → Nat → Int32 → Int32 → Int32 → Option (Int32 × Mm)) (fu : Nat) (ev : Ev) (σ : Mm) (x0 : Nat) (x1 : Int32) (x2 : Int32) (x3 : Int32) : Option (Int32 × Mm) :=
  if (3 : Int32) ≤ x3 then b_X1_areAbove_34  fu ev σ x1 x2 else b_X1_areAbove_9 R4 fu ev σ x0 x1 x2 x3
set_option maxRecDepth 20000 in
theorem b_X1_areAbove_4_ok (C : Cx p m meth c cX1_areAbove 4 s args RX1 R ev D H0 0 0) (hr : meth.sig.returnType = (some .boolean)) {R4 : Mm → Nat → Int32 → Int32 → Int32 → Option (Int32 × Mm)} (HR4 : ∀ (σ : Mm) (x0 : Nat) (x1 : Int32) (x2 : Int32) (x3 : Int32), R4 σ x0 x1 x2 x3 = some res → GG p l e R s m args below meth c D H0 ev 4 (MQx D H0 ev below args s (some (.int res.1)) res.2) σ 4 [(0, .ref x0), (1, .int x1), (2, .int x2), (3, .int x3)] []) {σ : Mm} {x0 : Nat} {x1 : Int32} {x2 : Int32} {x3 : Int32} (h : b_X1_areAbove_4 R4 fu ev σ x0 x1 x2 x3 = some res) : GG p l e R s m args below meth c D H0 ev 4 (MQx D H0 ev below args s (some (.int res.1)) res.2) σ 4 [(0, .ref x0), (1, .int x1), (2, .int x2), (3, .int x3)] [] := by
  intro H locs ls hH hL hl
  unfold b_X1_areAbove_4 at h
  refine lv_iload_n C.x C.b dX1_areAbove_4 rfl (lv_at hl 3 rfl) ?_
  refine lv_iconst (v := 3) C.x C.b dX1_areAbove_5 ki_3 ?_
  refine lv_icmp_ge (tgt := 34) C.x C.b dX1_areAbove_6 (by decide) (fun q => ?_) (fun q => ?_)
  · exact b_X1_areAbove_34_ok C hr  (cp h q) H locs ls hH hL (lv_sub hl [1, 2] rfl)
  · exact b_X1_areAbove_9_ok C hr HR4 (cn h q) H locs ls hH hL (lv_sub hl [0, 1, 2, 3] rfl)
def L_X1_areAbove_4  (fu : Nat) (ev : Ev) : Nat → Mm → Nat → Int32 → Int32 → Int32 → Option (Int32 × Mm)
  | 0, _, _, _, _, _ => none
  | n + 1, σ, x0, x1, x2, x3 => b_X1_areAbove_4  (L_X1_areAbove_4  fu ev n) fu ev σ x0 x1 x2 x3
theorem L_X1_areAbove_4_ok (C : Cx p m meth c cX1_areAbove 4 s args RX1 R ev D H0 0 0) (hr : meth.sig.returnType = (some .boolean))  : ∀ (n : Nat) {σ : Mm} {x0 : Nat} {x1 : Int32} {x2 : Int32} {x3 : Int32}, L_X1_areAbove_4  fu ev n σ x0 x1 x2 x3 = some res → GG p l e R s m args below meth c D H0 ev 4 (MQx D H0 ev below args s (some (.int res.1)) res.2) σ 4 [(0, .ref x0), (1, .int x1), (2, .int x2), (3, .int x3)] [] := by
  intro n
  induction n with
  | zero => intro σ x0 x1 x2 x3 h; exact (Option.some_ne_none _ (Eq.symm h)).elim
  | succ n ih => intro σ x0 x1 x2 x3 h; exact b_X1_areAbove_4_ok C hr  (fun σ _ _ _ _ h => ih h) h
def b_X1_areAbove_0  (fu : Nat) (ev : Ev) (σ : Mm) (x0 : Nat) (x1 : Int32) : Option (Int32 × Mm) :=
  L_X1_areAbove_4  fu ev fu σ x0 x1 (0 : Int32) (0 : Int32)
set_option maxRecDepth 20000 in
theorem b_X1_areAbove_0_ok (C : Cx p m meth c cX1_areAbove 4 s args RX1 R ev D H0 0 0) (hr : meth.sig.returnType = (some .boolean))  {σ : Mm} {x0 : Nat} {x1 : Int32} (h : b_X1_areAbove_0  fu ev σ x0 x1 = some res) : GG p l e R s m args below meth c D H0 ev 4 (MQx D H0 ev below args s (some (.int res.1)) res.2) σ 0 [(0, .ref x0), (1, .int x1)] [] := by
  intro H locs ls hH hL hl
  unfold b_X1_areAbove_0 at h
  refine lv_iconst (v := 0) C.x C.b dX1_areAbove_0 ki_0 ?_
  refine lv_istore_n (i := 2) (lv' := [(2, .int (0 : Int32)), (0, .ref x0), (1, .int x1)]) C.x C.b dX1_areAbove_1 rfl hl (by decide) rfl (fun ls_1 hl_1 => ?_)
  refine lv_iconst (v := 0) C.x C.b dX1_areAbove_2 ki_0 ?_
  refine lv_istore_n (i := 3) (lv' := [(3, .int (0 : Int32)), (2, .int (0 : Int32)), (0, .ref x0), (1, .int x1)]) C.x C.b dX1_areAbove_3 rfl hl_1 (by decide) rfl (fun ls_2 hl_2 => ?_)
  exact L_X1_areAbove_4_ok C hr  fu h H locs ls_2 hH hL (lv_sub hl_2 [2, 3, 1, 0] rfl)
def f_X1_areAbove (fu : Nat) (ev : Ev) (σ : Mm) (x0 : Nat) (x1 : Int32) : Option (Int32 × Mm) := b_X1_areAbove_0  fu ev σ x0 x1
set_option maxRecDepth 20000 in
theorem ct_X1_areAbove (l : Launch) (D : Dx) (H0 : Heap) {σ : Mm} {x0 : Nat} {x1 : Int32} (h : f_X1_areAbove fu ev σ x0 x1 = some res) : Ct l D H0 ev yX1_areAbove (ws_ yX1_areAbove cX1_areAbove 4 (some .boolean)) 0 0 [.ref x0, .int x1] σ (some (.int res.1)) res.2 := by
  refine Ct_of (by decide) ?_
  intro p e R s m below meth c C hr hnm hH
  have hl := lv_entry [.ref x0, .int x1] (n := 4) (Nat.le_of_ble_eq_true rfl)
  rw [lg_entry_eq]
  exact b_X1_areAbove_0_ok C hr  h s.heap [] _ hH (by simp) (lv_sub hl [0, 1] rfl)
end M_X1_areAbove
/-! CellReducer$Cell.isOver(JJJJ)Z -/
section M_X1_isOver
variable {p : Program} {l : Launch} {e : Env} {R : Room} {s : State} {m : MethodId} {args : Array Value} {below : List Frame} {meth : Method} {c : Code} {D : Dx} {H0 : Heap} {ev : Ev} {fu : Nat} {res : Int32 × Mm}
def b_X1_isOver_46  (fu : Nat) (ev : Ev) (σ : Mm) (t0 : Int32) : Option (Int32 × Mm) :=
  (zbI t0).bind fun _ =>
  some (t0, σ)
set_option maxRecDepth 20000 in
theorem b_X1_isOver_46_ok (C : Cx p m meth c cX1_isOver 9 s args RX1 R ev D H0 1 21) (hr : meth.sig.returnType = (some .boolean))  {σ : Mm} {t0 : Int32} (h : b_X1_isOver_46  fu ev σ t0 = some res) : GG p l e R s m args below meth c D H0 ev 9 (MQx D H0 ev below args s (some (.int res.1)) res.2) σ 46 [] [.int t0] := by
  intro H locs ls hH hL hl
  unfold b_X1_isOver_46 at h
  obtain ⟨_, u1, h_1⟩ := ob h
  have hz_ := Option.some.inj h_1; subst hz_
  exact m_zret C hH hL hr (zbI_is u1) dX1_isOver_46
def b_X1_isOver_41  (fu : Nat) (ev : Ev) (σ : Mm)  : Option (Int32 × Mm) :=
  b_X1_isOver_46  fu ev σ (1 : Int32)
set_option maxRecDepth 20000 in
theorem b_X1_isOver_41_ok (C : Cx p m meth c cX1_isOver 9 s args RX1 R ev D H0 1 21) (hr : meth.sig.returnType = (some .boolean))  {σ : Mm}  (h : b_X1_isOver_41  fu ev σ  = some res) : GG p l e R s m args below meth c D H0 ev 9 (MQx D H0 ev below args s (some (.int res.1)) res.2) σ 41 [] [] := by
  intro H locs ls hH hL hl
  unfold b_X1_isOver_41 at h
  refine lv_iconst (v := 1) C.x C.b dX1_isOver_41 ki_1 ?_
  refine lv_goto (tgt := 46) C.x C.b dX1_isOver_42 (by decide) ?_
  exact b_X1_isOver_46_ok C hr  h H locs ls hH hL (lv_sub hl [] rfl)
def b_X1_isOver_45  (fu : Nat) (ev : Ev) (σ : Mm)  : Option (Int32 × Mm) :=
  b_X1_isOver_46  fu ev σ (0 : Int32)
set_option maxRecDepth 20000 in
theorem b_X1_isOver_45_ok (C : Cx p m meth c cX1_isOver 9 s args RX1 R ev D H0 1 21) (hr : meth.sig.returnType = (some .boolean))  {σ : Mm}  (h : b_X1_isOver_45  fu ev σ  = some res) : GG p l e R s m args below meth c D H0 ev 9 (MQx D H0 ev below args s (some (.int res.1)) res.2) σ 45 [] [] := by
  intro H locs ls hH hL hl
  unfold b_X1_isOver_45 at h
  refine lv_iconst (v := 0) C.x C.b dX1_isOver_45 ki_0 ?_
  exact b_X1_isOver_46_ok C hr  h H locs ls hH hL (lv_sub hl [] rfl)
def b_X1_isOver_34  (fu : Nat) (ev : Ev) (σ : Mm) (x7 : Int64) : Option (Int32 × Mm) :=
  if (0 : Int64) ≤ x7 then b_X1_isOver_45  fu ev σ  else b_X1_isOver_41  fu ev σ 
set_option maxRecDepth 20000 in
theorem b_X1_isOver_34_ok (C : Cx p m meth c cX1_isOver 9 s args RX1 R ev D H0 1 21) (hr : meth.sig.returnType = (some .boolean))  {σ : Mm} {x7 : Int64} (h : b_X1_isOver_34  fu ev σ x7 = some res) : GG p l e R s m args below meth c D H0 ev 9 (MQx D H0 ev below args s (some (.int res.1)) res.2) σ 34 [(7, .long x7)] [] := by
  intro H locs ls hH hL hl
  unfold b_X1_isOver_34 at h
  refine lv_lload C.x C.b dX1_isOver_34 (lv_at hl 0 rfl) ?_
  refine lv_lconst (v := 0) C.x C.b dX1_isOver_36 rfl ?_
  refine r_lc_ge (tgt := 45) C.x C.b dX1_isOver_37 dX1_isOver_38 (by decide) (fun q => ?_) (fun q => ?_)
  · exact b_X1_isOver_45_ok C hr  (cp h q) H locs ls hH hL (lv_sub hl [] rfl)
  · exact b_X1_isOver_41_ok C hr  (cn h q) H locs ls hH hL (lv_sub hl [] rfl)
def b_X1_isOver_27  (fu : Nat) (ev : Ev) (σ : Mm) (x1 : Int64) (x3 : Int64) (x7 : Int64) : Option (Int32 × Mm) :=
  if x1 = (-x3) then b_X1_isOver_34  fu ev σ x7 else b_X1_isOver_45  fu ev σ 
set_option maxRecDepth 20000 in
theorem b_X1_isOver_27_ok (C : Cx p m meth c cX1_isOver 9 s args RX1 R ev D H0 1 21) (hr : meth.sig.returnType = (some .boolean))  {σ : Mm} {x1 : Int64} {x3 : Int64} {x7 : Int64} (h : b_X1_isOver_27  fu ev σ x1 x3 x7 = some res) : GG p l e R s m args below meth c D H0 ev 9 (MQx D H0 ev below args s (some (.int res.1)) res.2) σ 27 [(1, .long x1), (3, .long x3), (7, .long x7)] [] := by
  intro H locs ls hH hL hl
  unfold b_X1_isOver_27 at h
  refine lv_lload_n C.x C.b dX1_isOver_27 rfl (lv_at hl 0 rfl) ?_
  refine lv_lload_n C.x C.b dX1_isOver_28 rfl (lv_at hl 1 rfl) ?_
  refine lv_lneg C.x C.b dX1_isOver_29 ?_
  refine r_lc_ne (tgt := 45) C.x C.b dX1_isOver_30 dX1_isOver_31 (by decide) (fun q => ?_) (fun q => ?_)
  · exact b_X1_isOver_45_ok C hr  (cn h q) H locs ls hH hL (lv_sub hl [] rfl)
  · exact b_X1_isOver_34_ok C hr  (cp h q) H locs ls hH hL (lv_sub hl [2] rfl)
def b_X1_isOver_15  (fu : Nat) (ev : Ev) (σ : Mm) (x1 : Int64) (x3 : Int64) (x5 : Int64) (x7 : Int64) : Option (Int32 × Mm) :=
  if ((2 : Int64) * x5) < x7 then b_X1_isOver_41  fu ev σ  else b_X1_isOver_27  fu ev σ x1 x3 x7
set_option maxRecDepth 20000 in
theorem b_X1_isOver_15_ok (C : Cx p m meth c cX1_isOver 9 s args RX1 R ev D H0 1 21) (hr : meth.sig.returnType = (some .boolean))  {σ : Mm} {x1 : Int64} {x3 : Int64} {x5 : Int64} {x7 : Int64} (h : b_X1_isOver_15  fu ev σ x1 x3 x5 x7 = some res) : GG p l e R s m args below meth c D H0 ev 9 (MQx D H0 ev below args s (some (.int res.1)) res.2) σ 15 [(1, .long x1), (3, .long x3), (5, .long x5), (7, .long x7)] [] := by
  intro H locs ls hH hL hl
  unfold b_X1_isOver_15 at h
  refine lv_ldc2 C.x C.b C.1.2.2.2.1 (C.w q446) dX1_isOver_15 ?_
  refine lv_lload C.x C.b dX1_isOver_18 (lv_at hl 2 rfl) ?_
  refine lv_lmul C.x C.b dX1_isOver_20 ?_
  refine lv_lload C.x C.b dX1_isOver_21 (lv_at hl 3 rfl) ?_
  refine r_lc_lt (tgt := 41) C.x C.b dX1_isOver_23 dX1_isOver_24 (by decide) (fun q => ?_) (fun q => ?_)
  · exact b_X1_isOver_41_ok C hr  (cp h q) H locs ls hH hL (lv_sub hl [] rfl)
  · exact b_X1_isOver_27_ok C hr  (cn h q) H locs ls hH hL (lv_sub hl [0, 1, 3] rfl)
def b_X1_isOver_9  (fu : Nat) (ev : Ev) (σ : Mm) (x1 : Int64) (x3 : Int64) (x5 : Int64) (x7 : Int64) : Option (Int32 × Mm) :=
  if x1 = x3 then b_X1_isOver_15  fu ev σ x1 x3 x5 x7 else b_X1_isOver_27  fu ev σ x1 x3 x7
set_option maxRecDepth 20000 in
theorem b_X1_isOver_9_ok (C : Cx p m meth c cX1_isOver 9 s args RX1 R ev D H0 1 21) (hr : meth.sig.returnType = (some .boolean))  {σ : Mm} {x1 : Int64} {x3 : Int64} {x5 : Int64} {x7 : Int64} (h : b_X1_isOver_9  fu ev σ x1 x3 x5 x7 = some res) : GG p l e R s m args below meth c D H0 ev 9 (MQx D H0 ev below args s (some (.int res.1)) res.2) σ 9 [(1, .long x1), (3, .long x3), (5, .long x5), (7, .long x7)] [] := by
  intro H locs ls hH hL hl
  unfold b_X1_isOver_9 at h
  refine lv_lload_n C.x C.b dX1_isOver_9 rfl (lv_at hl 0 rfl) ?_
  refine lv_lload_n C.x C.b dX1_isOver_10 rfl (lv_at hl 1 rfl) ?_
  refine r_lc_ne (tgt := 27) C.x C.b dX1_isOver_11 dX1_isOver_12 (by decide) (fun q => ?_) (fun q => ?_)
  · exact b_X1_isOver_27_ok C hr  (cn h q) H locs ls hH hL (lv_sub hl [0, 1, 3] rfl)
  · exact b_X1_isOver_15_ok C hr  (cp h q) H locs ls hH hL (lv_sub hl [0, 1, 2, 3] rfl)
def b_X1_isOver_0  (fu : Nat) (ev : Ev) (σ : Mm) (x1 : Int64) (x3 : Int64) (x5 : Int64) (x7 : Int64) : Option (Int32 × Mm) :=
  if x3 < (if 0 < x1 then x1 else -x1) then b_X1_isOver_41  fu ev σ  else b_X1_isOver_9  fu ev σ x1 x3 x5 x7
set_option maxRecDepth 20000 in
theorem b_X1_isOver_0_ok (C : Cx p m meth c cX1_isOver 9 s args RX1 R ev D H0 1 21) (hr : meth.sig.returnType = (some .boolean))  {σ : Mm} {x1 : Int64} {x3 : Int64} {x5 : Int64} {x7 : Int64} (h : b_X1_isOver_0  fu ev σ x1 x3 x5 x7 = some res) : GG p l e R s m args below meth c D H0 ev 9 (MQx D H0 ev below args s (some (.int res.1)) res.2) σ 0 [(1, .long x1), (3, .long x3), (5, .long x5), (7, .long x7)] [] := by
  intro H locs ls hH hL hl
  unfold b_X1_isOver_0 at h
  refine lv_lload_n C.x C.b dX1_isOver_0 rfl (lv_at hl 0 rfl) ?_
  refine m_absJ (rest := []) C hH q467 q468 q126 q469 (Nat.le_of_ble_eq_true rfl) (Nat.le_of_ble_eq_true rfl) hl.1 dX1_isOver_1 ?_
  refine lv_lload_n C.x C.b dX1_isOver_4 rfl (lv_at hl 1 rfl) ?_
  refine r_lc_gt (tgt := 41) C.x C.b dX1_isOver_5 dX1_isOver_6 (by decide) (fun q => ?_) (fun q => ?_)
  · exact b_X1_isOver_41_ok C hr  (cp h q) H locs ls hH hL (lv_sub hl [] rfl)
  · exact b_X1_isOver_9_ok C hr  (cn h q) H locs ls hH hL (lv_sub hl [0, 1, 2, 3] rfl)
def f_X1_isOver (fu : Nat) (ev : Ev) (σ : Mm) (x0 : Nat) (x1 : Int64) (x3 : Int64) (x5 : Int64) (x7 : Int64) : Option (Int32 × Mm) := b_X1_isOver_0  fu ev σ x1 x3 x5 x7
set_option maxRecDepth 20000 in
theorem ct_X1_isOver (l : Launch) (D : Dx) (H0 : Heap) {σ : Mm} {x0 : Nat} {x1 : Int64} {x3 : Int64} {x5 : Int64} {x7 : Int64} (h : f_X1_isOver fu ev σ x0 x1 x3 x5 x7 = some res) : Ct l D H0 ev yX1_isOver (ws_ yX1_isOver cX1_isOver 9 (some .boolean)) 1 21 [.ref x0, .long x1, .long x3, .long x5, .long x7] σ (some (.int res.1)) res.2 := by
  refine Ct_of (by decide) ?_
  intro p e R s m below meth c C hr hnm hH
  have hl := lv_entry [.ref x0, .long x1, .long x3, .long x5, .long x7] (n := 9) (Nat.le_of_ble_eq_true rfl)
  rw [lg_entry_eq]
  exact b_X1_isOver_0_ok C hr  h s.heap [] _ hH (by simp) (lv_sub hl [1, 2, 3, 4] rfl)
end M_X1_isOver
/-! CellReducer$Cell.sum()J -/
section M_X1_sum
variable {p : Program} {l : Launch} {e : Env} {R : Room} {s : State} {m : MethodId} {args : Array Value} {below : List Frame} {meth : Method} {c : Code} {D : Dx} {H0 : Heap} {ev : Ev} {fu : Nat} {res : Int64 × Mm}
def b_X1_sum_0  (fu : Nat) (ev : Ev) (σ : Mm) (x0 : Nat) : Option (Int64 × Mm) :=
  (gfA σ x0 1 1).bind fun v1 =>
  v1.bind fun a2 =>
  (aldJ σ a2 (0 : Int32)).bind fun v3 =>
  (gfA σ x0 1 1).bind fun v4 =>
  v4.bind fun a5 =>
  (aldJ σ a5 (1 : Int32)).bind fun v6 =>
  (gfA σ x0 1 1).bind fun v7 =>
  v7.bind fun a8 =>
  (aldJ σ a8 (2 : Int32)).bind fun v9 =>
  (gfA σ x0 1 0).bind fun v10 =>
  v10.bind fun a11 =>
  (aldJ σ a11 (0 : Int32)).bind fun v12 =>
  (gfA σ x0 1 0).bind fun v13 =>
  v13.bind fun a14 =>
  (aldJ σ a14 (1 : Int32)).bind fun v15 =>
  some ((((v3 + v6) + v9) + v12) + v15, σ)
set_option maxRecDepth 20000 in
theorem b_X1_sum_0_ok (C : Cx p m meth c cX1_sum 1 s args RX1 R ev D H0 0 0) (hr : meth.sig.returnType = (some .long))  {σ : Mm} {x0 : Nat} (h : b_X1_sum_0  fu ev σ x0 = some res) : GG p l e R s m args below meth c D H0 ev 1 (MQx D H0 ev below args s (some (.long res.1)) res.2) σ 0 [(0, .ref x0)] [] := by
  intro H locs ls hH hL hl
  unfold b_X1_sum_0 at h
  refine lv_aload_n C.x C.b dX1_sum_0 rfl (lv_at hl 0 rfl) ?_
  obtain ⟨v1, hv1, h_1⟩ := ob h
  refine m_getA C hH fl_X1_15 hv1 dX1_sum_1 ?_
  refine lv_iconst (v := 0) C.x C.b dX1_sum_4 ki_0 ?_
  obtain ⟨a2, e_, h_2⟩ := ob h_1; subst e_
  obtain ⟨v3, hv3, h_3⟩ := ob h_2
  refine m_lald C hH hv3 dX1_sum_5 ?_
  refine lv_aload_n C.x C.b dX1_sum_6 rfl (lv_at hl 0 rfl) ?_
  obtain ⟨v4, hv4, h_4⟩ := ob h_3
  refine m_getA C hH fl_X1_15 hv4 dX1_sum_7 ?_
  refine lv_iconst (v := 1) C.x C.b dX1_sum_10 ki_1 ?_
  obtain ⟨a5, e_, h_5⟩ := ob h_4; subst e_
  obtain ⟨v6, hv6, h_6⟩ := ob h_5
  refine m_lald C hH hv6 dX1_sum_11 ?_
  refine lv_ladd C.x C.b dX1_sum_12 ?_
  refine lv_aload_n C.x C.b dX1_sum_13 rfl (lv_at hl 0 rfl) ?_
  obtain ⟨v7, hv7, h_7⟩ := ob h_6
  refine m_getA C hH fl_X1_15 hv7 dX1_sum_14 ?_
  refine lv_iconst (v := 2) C.x C.b dX1_sum_17 ki_2 ?_
  obtain ⟨a8, e_, h_8⟩ := ob h_7; subst e_
  obtain ⟨v9, hv9, h_9⟩ := ob h_8
  refine m_lald C hH hv9 dX1_sum_18 ?_
  refine lv_ladd C.x C.b dX1_sum_19 ?_
  refine lv_aload_n C.x C.b dX1_sum_20 rfl (lv_at hl 0 rfl) ?_
  obtain ⟨v10, hv10, h_10⟩ := ob h_9
  refine m_getA C hH fl_X1_9 hv10 dX1_sum_21 ?_
  refine lv_iconst (v := 0) C.x C.b dX1_sum_24 ki_0 ?_
  obtain ⟨a11, e_, h_11⟩ := ob h_10; subst e_
  obtain ⟨v12, hv12, h_12⟩ := ob h_11
  refine m_lald C hH hv12 dX1_sum_25 ?_
  refine lv_ladd C.x C.b dX1_sum_26 ?_
  refine lv_aload_n C.x C.b dX1_sum_27 rfl (lv_at hl 0 rfl) ?_
  obtain ⟨v13, hv13, h_13⟩ := ob h_12
  refine m_getA C hH fl_X1_9 hv13 dX1_sum_28 ?_
  refine lv_iconst (v := 1) C.x C.b dX1_sum_31 ki_1 ?_
  obtain ⟨a14, e_, h_14⟩ := ob h_13; subst e_
  obtain ⟨v15, hv15, h_15⟩ := ob h_14
  refine m_lald C hH hv15 dX1_sum_32 ?_
  refine lv_ladd C.x C.b dX1_sum_33 ?_
  have hz_ := Option.some.inj h_15; subst hz_
  exact m_lret C hH hL hr dX1_sum_34
def f_X1_sum (fu : Nat) (ev : Ev) (σ : Mm) (x0 : Nat) : Option (Int64 × Mm) := b_X1_sum_0  fu ev σ x0
set_option maxRecDepth 20000 in
theorem ct_X1_sum (l : Launch) (D : Dx) (H0 : Heap) {σ : Mm} {x0 : Nat} (h : f_X1_sum fu ev σ x0 = some res) : Ct l D H0 ev yX1_sum (ws_ yX1_sum cX1_sum 1 (some .long)) 0 0 [.ref x0] σ (some (.long res.1)) res.2 := by
  refine Ct_of (by decide) ?_
  intro p e R s m below meth c C hr hnm hH
  have hl := lv_entry [.ref x0] (n := 1) (Nat.le_of_ble_eq_true rfl)
  rw [lg_entry_eq]
  exact b_X1_sum_0_ok C hr  h s.heap [] _ hH (by simp) (lv_sub hl [0] rfl)
end M_X1_sum
theorem cv_X1_78 : CV RX1 78 1 yX1_areAbove cX1_areAbove 4 (some .boolean) 1 := ⟨_, rfl, lw_V q477 q479 qs5 q104 q480, rfl, by decide, by decide, by decide +kernel⟩
theorem cv_X1_75 : CV RX1 75 1 yX1_sign cX1_sign 1 (some .long) 0 := ⟨_, rfl, lw_V q470 q472 qs4 q104 q473, rfl, by decide, by decide, by decide +kernel⟩
theorem cv_X1_82 : CV RX1 82 1 yX1_isOver cX1_isOver 9 (some .boolean) 4 := ⟨_, rfl, lw_V q481 q483 qs6 q104 q484, rfl, by decide, by decide, by decide +kernel⟩
theorem cv_X1_86 : CV RX1 86 1 yX1_sum cX1_sum 1 (some .long) 0 := ⟨_, rfl, lw_V q485 q487 qs7 q104 q488, rfl, by decide, by decide, by decide +kernel⟩
/-! CellReducer$Cell.applies(I)Z -/
section M_X1_applies
variable {p : Program} {l : Launch} {e : Env} {R : Room} {s : State} {m : MethodId} {args : Array Value} {below : List Frame} {meth : Method} {c : Code} {D : Dx} {H0 : Heap} {ev : Ev} {fu : Nat} {res : Int32 × Mm}
def b_X1_applies_103  (fu : Nat) (ev : Ev) (σ : Mm) (t0 : Int32) : Option (Int32 × Mm) :=
  (zbI t0).bind fun _ =>
  some (t0, σ)
set_option maxRecDepth 20000 in
theorem b_X1_applies_103_ok (C : Cx p m meth c cX1_applies 2 s args RX1 R ev D H0 2 49) (hr : meth.sig.returnType = (some .boolean))  {σ : Mm} {t0 : Int32} (h : b_X1_applies_103  fu ev σ t0 = some res) : GG p l e R s m args below meth c D H0 ev 2 (MQx D H0 ev below args s (some (.int res.1)) res.2) σ 103 [] [.int t0] := by
  intro H locs ls hH hL hl
  unfold b_X1_applies_103 at h
  obtain ⟨_, u1, h_1⟩ := ob h
  have hz_ := Option.some.inj h_1; subst hz_
  exact m_zret C hH hL hr (zbI_is u1) dX1_applies_103
def b_X1_applies_98  (fu : Nat) (ev : Ev) (σ : Mm)  : Option (Int32 × Mm) :=
  b_X1_applies_103  fu ev σ (1 : Int32)
set_option maxRecDepth 20000 in
theorem b_X1_applies_98_ok (C : Cx p m meth c cX1_applies 2 s args RX1 R ev D H0 2 49) (hr : meth.sig.returnType = (some .boolean))  {σ : Mm}  (h : b_X1_applies_98  fu ev σ  = some res) : GG p l e R s m args below meth c D H0 ev 2 (MQx D H0 ev below args s (some (.int res.1)) res.2) σ 98 [] [] := by
  intro H locs ls hH hL hl
  unfold b_X1_applies_98 at h
  refine lv_iconst (v := 1) C.x C.b dX1_applies_98 ki_1 ?_
  refine lv_goto (tgt := 103) C.x C.b dX1_applies_99 (by decide) ?_
  exact b_X1_applies_103_ok C hr  h H locs ls hH hL (lv_sub hl [] rfl)
def b_X1_applies_102  (fu : Nat) (ev : Ev) (σ : Mm)  : Option (Int32 × Mm) :=
  b_X1_applies_103  fu ev σ (0 : Int32)
set_option maxRecDepth 20000 in
theorem b_X1_applies_102_ok (C : Cx p m meth c cX1_applies 2 s args RX1 R ev D H0 2 49) (hr : meth.sig.returnType = (some .boolean))  {σ : Mm}  (h : b_X1_applies_102  fu ev σ  = some res) : GG p l e R s m args below meth c D H0 ev 2 (MQx D H0 ev below args s (some (.int res.1)) res.2) σ 102 [] [] := by
  intro H locs ls hH hL hl
  unfold b_X1_applies_102 at h
  refine lv_iconst (v := 0) C.x C.b dX1_applies_102 ki_0 ?_
  exact b_X1_applies_103_ok C hr  h H locs ls hH hL (lv_sub hl [] rfl)
def b_X1_applies_76  (fu : Nat) (ev : Ev) (σ : Mm) (x0 : Nat) : Option (Int32 × Mm) :=
  (gfA σ x0 1 1).bind fun v1 =>
  v1.bind fun a2 =>
  (aldJ σ a2 (0 : Int32)).bind fun v3 =>
  (gfA σ x0 1 1).bind fun v4 =>
  v4.bind fun a5 =>
  (aldJ σ a5 (1 : Int32)).bind fun v6 =>
  if (if 0 < v3 then v3 else -v3) ≤ (if 0 < v6 then v6 else -v6) then b_X1_applies_102  fu ev σ  else b_X1_applies_98  fu ev σ 
set_option maxRecDepth 20000 in
theorem b_X1_applies_76_ok (C : Cx p m meth c cX1_applies 2 s args RX1 R ev D H0 2 49) (hr : meth.sig.returnType = (some .boolean))  {σ : Mm} {x0 : Nat} (h : b_X1_applies_76  fu ev σ x0 = some res) : GG p l e R s m args below meth c D H0 ev 2 (MQx D H0 ev below args s (some (.int res.1)) res.2) σ 76 [(0, .ref x0)] [] := by
  intro H locs ls hH hL hl
  unfold b_X1_applies_76 at h
  refine lv_aload_n C.x C.b dX1_applies_76 rfl (lv_at hl 0 rfl) ?_
  obtain ⟨v1, hv1, h_1⟩ := ob h
  refine m_getA C hH fl_X1_15 hv1 dX1_applies_77 ?_
  refine lv_iconst (v := 0) C.x C.b dX1_applies_80 ki_0 ?_
  obtain ⟨a2, e_, h_2⟩ := ob h_1; subst e_
  obtain ⟨v3, hv3, h_3⟩ := ob h_2
  refine m_lald C hH hv3 dX1_applies_81 ?_
  refine m_absJ (rest := []) C hH q467 q468 q126 q469 (Nat.le_of_ble_eq_true rfl) (Nat.le_of_ble_eq_true rfl) hl.1 dX1_applies_82 ?_
  refine lv_aload_n C.x C.b dX1_applies_85 rfl (lv_at hl 0 rfl) ?_
  obtain ⟨v4, hv4, h_4⟩ := ob h_3
  refine m_getA C hH fl_X1_15 hv4 dX1_applies_86 ?_
  refine lv_iconst (v := 1) C.x C.b dX1_applies_89 ki_1 ?_
  obtain ⟨a5, e_, h_5⟩ := ob h_4; subst e_
  obtain ⟨v6, hv6, h_6⟩ := ob h_5
  refine m_lald C hH hv6 dX1_applies_90 ?_
  refine m_absJ (rest := [.long (if 0 < v3 then v3 else -v3)]) C hH q467 q468 q126 q469 (Nat.le_of_ble_eq_true rfl) (Nat.le_of_ble_eq_true rfl) hl.1 dX1_applies_91 ?_
  refine r_lc_le (tgt := 102) C.x C.b dX1_applies_94 dX1_applies_95 (by decide) (fun q => ?_) (fun q => ?_)
  · exact b_X1_applies_102_ok C hr  (cp h_6 q) H locs ls hH hL (lv_sub hl [] rfl)
  · exact b_X1_applies_98_ok C hr  (cn h_6 q) H locs ls hH hL (lv_sub hl [] rfl)
def b_X1_applies_60  (fu : Nat) (ev : Ev) (σ : Mm) (x0 : Nat) : Option (Int32 × Mm) :=
  (gfA σ x0 1 0).bind fun v1 =>
  v1.bind fun a2 =>
  (aldJ σ a2 (0 : Int32)).bind fun v3 =>
  (gfA σ x0 1 0).bind fun v4 =>
  v4.bind fun a5 =>
  (aldJ σ a5 (1 : Int32)).bind fun v6 =>
  if v3 = v6 then b_X1_applies_76  fu ev σ x0 else b_X1_applies_102  fu ev σ 
set_option maxRecDepth 20000 in
theorem b_X1_applies_60_ok (C : Cx p m meth c cX1_applies 2 s args RX1 R ev D H0 2 49) (hr : meth.sig.returnType = (some .boolean))  {σ : Mm} {x0 : Nat} (h : b_X1_applies_60  fu ev σ x0 = some res) : GG p l e R s m args below meth c D H0 ev 2 (MQx D H0 ev below args s (some (.int res.1)) res.2) σ 60 [(0, .ref x0)] [] := by
  intro H locs ls hH hL hl
  unfold b_X1_applies_60 at h
  refine lv_aload_n C.x C.b dX1_applies_60 rfl (lv_at hl 0 rfl) ?_
  obtain ⟨v1, hv1, h_1⟩ := ob h
  refine m_getA C hH fl_X1_9 hv1 dX1_applies_61 ?_
  refine lv_iconst (v := 0) C.x C.b dX1_applies_64 ki_0 ?_
  obtain ⟨a2, e_, h_2⟩ := ob h_1; subst e_
  obtain ⟨v3, hv3, h_3⟩ := ob h_2
  refine m_lald C hH hv3 dX1_applies_65 ?_
  refine lv_aload_n C.x C.b dX1_applies_66 rfl (lv_at hl 0 rfl) ?_
  obtain ⟨v4, hv4, h_4⟩ := ob h_3
  refine m_getA C hH fl_X1_9 hv4 dX1_applies_67 ?_
  refine lv_iconst (v := 1) C.x C.b dX1_applies_70 ki_1 ?_
  obtain ⟨a5, e_, h_5⟩ := ob h_4; subst e_
  obtain ⟨v6, hv6, h_6⟩ := ob h_5
  refine m_lald C hH hv6 dX1_applies_71 ?_
  refine r_lc_ne (tgt := 102) C.x C.b dX1_applies_72 dX1_applies_73 (by decide) (fun q => ?_) (fun q => ?_)
  · exact b_X1_applies_102_ok C hr  (cn h_6 q) H locs ls hH hL (lv_sub hl [] rfl)
  · exact b_X1_applies_76_ok C hr  (cp h_6 q) H locs ls hH hL (lv_sub hl [0] rfl)
def b_X1_applies_44  (fu : Nat) (ev : Ev) (σ : Mm) (x0 : Nat) : Option (Int32 × Mm) :=
  (gfA σ x0 1 0).bind fun v1 =>
  v1.bind fun a2 =>
  (aldJ σ a2 (0 : Int32)).bind fun v3 =>
  (gfA σ x0 1 0).bind fun v4 =>
  v4.bind fun a5 =>
  (aldJ σ a5 (1 : Int32)).bind fun v6 =>
  if v6 < v3 then b_X1_applies_98  fu ev σ  else b_X1_applies_60  fu ev σ x0
set_option maxRecDepth 20000 in
theorem b_X1_applies_44_ok (C : Cx p m meth c cX1_applies 2 s args RX1 R ev D H0 2 49) (hr : meth.sig.returnType = (some .boolean))  {σ : Mm} {x0 : Nat} (h : b_X1_applies_44  fu ev σ x0 = some res) : GG p l e R s m args below meth c D H0 ev 2 (MQx D H0 ev below args s (some (.int res.1)) res.2) σ 44 [(0, .ref x0)] [] := by
  intro H locs ls hH hL hl
  unfold b_X1_applies_44 at h
  refine lv_aload_n C.x C.b dX1_applies_44 rfl (lv_at hl 0 rfl) ?_
  obtain ⟨v1, hv1, h_1⟩ := ob h
  refine m_getA C hH fl_X1_9 hv1 dX1_applies_45 ?_
  refine lv_iconst (v := 0) C.x C.b dX1_applies_48 ki_0 ?_
  obtain ⟨a2, e_, h_2⟩ := ob h_1; subst e_
  obtain ⟨v3, hv3, h_3⟩ := ob h_2
  refine m_lald C hH hv3 dX1_applies_49 ?_
  refine lv_aload_n C.x C.b dX1_applies_50 rfl (lv_at hl 0 rfl) ?_
  obtain ⟨v4, hv4, h_4⟩ := ob h_3
  refine m_getA C hH fl_X1_9 hv4 dX1_applies_51 ?_
  refine lv_iconst (v := 1) C.x C.b dX1_applies_54 ki_1 ?_
  obtain ⟨a5, e_, h_5⟩ := ob h_4; subst e_
  obtain ⟨v6, hv6, h_6⟩ := ob h_5
  refine m_lald C hH hv6 dX1_applies_55 ?_
  refine r_lc_gt (tgt := 98) C.x C.b dX1_applies_56 dX1_applies_57 (by decide) (fun q => ?_) (fun q => ?_)
  · exact b_X1_applies_98_ok C hr  (cp h_6 q) H locs ls hH hL (lv_sub hl [] rfl)
  · exact b_X1_applies_60_ok C hr  (cn h_6 q) H locs ls hH hL (lv_sub hl [0] rfl)
def b_X1_applies_163  (fu : Nat) (ev : Ev) (σ : Mm) (t0 : Int32) : Option (Int32 × Mm) :=
  (zbI t0).bind fun _ =>
  some (t0, σ)
set_option maxRecDepth 20000 in
theorem b_X1_applies_163_ok (C : Cx p m meth c cX1_applies 2 s args RX1 R ev D H0 2 49) (hr : meth.sig.returnType = (some .boolean))  {σ : Mm} {t0 : Int32} (h : b_X1_applies_163  fu ev σ t0 = some res) : GG p l e R s m args below meth c D H0 ev 2 (MQx D H0 ev below args s (some (.int res.1)) res.2) σ 163 [] [.int t0] := by
  intro H locs ls hH hL hl
  unfold b_X1_applies_163 at h
  obtain ⟨_, u1, h_1⟩ := ob h
  have hz_ := Option.some.inj h_1; subst hz_
  exact m_zret C hH hL hr (zbI_is u1) dX1_applies_163
def b_X1_applies_158  (fu : Nat) (ev : Ev) (σ : Mm)  : Option (Int32 × Mm) :=
  b_X1_applies_163  fu ev σ (1 : Int32)
set_option maxRecDepth 20000 in
theorem b_X1_applies_158_ok (C : Cx p m meth c cX1_applies 2 s args RX1 R ev D H0 2 49) (hr : meth.sig.returnType = (some .boolean))  {σ : Mm}  (h : b_X1_applies_158  fu ev σ  = some res) : GG p l e R s m args below meth c D H0 ev 2 (MQx D H0 ev below args s (some (.int res.1)) res.2) σ 158 [] [] := by
  intro H locs ls hH hL hl
  unfold b_X1_applies_158 at h
  refine lv_iconst (v := 1) C.x C.b dX1_applies_158 ki_1 ?_
  refine lv_goto (tgt := 163) C.x C.b dX1_applies_159 (by decide) ?_
  exact b_X1_applies_163_ok C hr  h H locs ls hH hL (lv_sub hl [] rfl)
def b_X1_applies_162  (fu : Nat) (ev : Ev) (σ : Mm)  : Option (Int32 × Mm) :=
  b_X1_applies_163  fu ev σ (0 : Int32)
set_option maxRecDepth 20000 in
theorem b_X1_applies_162_ok (C : Cx p m meth c cX1_applies 2 s args RX1 R ev D H0 2 49) (hr : meth.sig.returnType = (some .boolean))  {σ : Mm}  (h : b_X1_applies_162  fu ev σ  = some res) : GG p l e R s m args below meth c D H0 ev 2 (MQx D H0 ev below args s (some (.int res.1)) res.2) σ 162 [] [] := by
  intro H locs ls hH hL hl
  unfold b_X1_applies_162 at h
  refine lv_iconst (v := 0) C.x C.b dX1_applies_162 ki_0 ?_
  exact b_X1_applies_163_ok C hr  h H locs ls hH hL (lv_sub hl [] rfl)
def b_X1_applies_136  (fu : Nat) (ev : Ev) (σ : Mm) (x0 : Nat) : Option (Int32 × Mm) :=
  (gfA σ x0 1 1).bind fun v1 =>
  v1.bind fun a2 =>
  (aldJ σ a2 (1 : Int32)).bind fun v3 =>
  (gfA σ x0 1 1).bind fun v4 =>
  v4.bind fun a5 =>
  (aldJ σ a5 (2 : Int32)).bind fun v6 =>
  if (if 0 < v3 then v3 else -v3) ≤ (if 0 < v6 then v6 else -v6) then b_X1_applies_162  fu ev σ  else b_X1_applies_158  fu ev σ 
set_option maxRecDepth 20000 in
theorem b_X1_applies_136_ok (C : Cx p m meth c cX1_applies 2 s args RX1 R ev D H0 2 49) (hr : meth.sig.returnType = (some .boolean))  {σ : Mm} {x0 : Nat} (h : b_X1_applies_136  fu ev σ x0 = some res) : GG p l e R s m args below meth c D H0 ev 2 (MQx D H0 ev below args s (some (.int res.1)) res.2) σ 136 [(0, .ref x0)] [] := by
  intro H locs ls hH hL hl
  unfold b_X1_applies_136 at h
  refine lv_aload_n C.x C.b dX1_applies_136 rfl (lv_at hl 0 rfl) ?_
  obtain ⟨v1, hv1, h_1⟩ := ob h
  refine m_getA C hH fl_X1_15 hv1 dX1_applies_137 ?_
  refine lv_iconst (v := 1) C.x C.b dX1_applies_140 ki_1 ?_
  obtain ⟨a2, e_, h_2⟩ := ob h_1; subst e_
  obtain ⟨v3, hv3, h_3⟩ := ob h_2
  refine m_lald C hH hv3 dX1_applies_141 ?_
  refine m_absJ (rest := []) C hH q467 q468 q126 q469 (Nat.le_of_ble_eq_true rfl) (Nat.le_of_ble_eq_true rfl) hl.1 dX1_applies_142 ?_
  refine lv_aload_n C.x C.b dX1_applies_145 rfl (lv_at hl 0 rfl) ?_
  obtain ⟨v4, hv4, h_4⟩ := ob h_3
  refine m_getA C hH fl_X1_15 hv4 dX1_applies_146 ?_
  refine lv_iconst (v := 2) C.x C.b dX1_applies_149 ki_2 ?_
  obtain ⟨a5, e_, h_5⟩ := ob h_4; subst e_
  obtain ⟨v6, hv6, h_6⟩ := ob h_5
  refine m_lald C hH hv6 dX1_applies_150 ?_
  refine m_absJ (rest := [.long (if 0 < v3 then v3 else -v3)]) C hH q467 q468 q126 q469 (Nat.le_of_ble_eq_true rfl) (Nat.le_of_ble_eq_true rfl) hl.1 dX1_applies_151 ?_
  refine r_lc_le (tgt := 162) C.x C.b dX1_applies_154 dX1_applies_155 (by decide) (fun q => ?_) (fun q => ?_)
  · exact b_X1_applies_162_ok C hr  (cp h_6 q) H locs ls hH hL (lv_sub hl [] rfl)
  · exact b_X1_applies_158_ok C hr  (cn h_6 q) H locs ls hH hL (lv_sub hl [] rfl)
def b_X1_applies_120  (fu : Nat) (ev : Ev) (σ : Mm) (x0 : Nat) : Option (Int32 × Mm) :=
  (gfA σ x0 1 0).bind fun v1 =>
  v1.bind fun a2 =>
  (aldJ σ a2 (1 : Int32)).bind fun v3 =>
  (gfA σ x0 1 0).bind fun v4 =>
  v4.bind fun a5 =>
  (aldJ σ a5 (2 : Int32)).bind fun v6 =>
  if v3 = v6 then b_X1_applies_136  fu ev σ x0 else b_X1_applies_162  fu ev σ 
set_option maxRecDepth 20000 in
theorem b_X1_applies_120_ok (C : Cx p m meth c cX1_applies 2 s args RX1 R ev D H0 2 49) (hr : meth.sig.returnType = (some .boolean))  {σ : Mm} {x0 : Nat} (h : b_X1_applies_120  fu ev σ x0 = some res) : GG p l e R s m args below meth c D H0 ev 2 (MQx D H0 ev below args s (some (.int res.1)) res.2) σ 120 [(0, .ref x0)] [] := by
  intro H locs ls hH hL hl
  unfold b_X1_applies_120 at h
  refine lv_aload_n C.x C.b dX1_applies_120 rfl (lv_at hl 0 rfl) ?_
  obtain ⟨v1, hv1, h_1⟩ := ob h
  refine m_getA C hH fl_X1_9 hv1 dX1_applies_121 ?_
  refine lv_iconst (v := 1) C.x C.b dX1_applies_124 ki_1 ?_
  obtain ⟨a2, e_, h_2⟩ := ob h_1; subst e_
  obtain ⟨v3, hv3, h_3⟩ := ob h_2
  refine m_lald C hH hv3 dX1_applies_125 ?_
  refine lv_aload_n C.x C.b dX1_applies_126 rfl (lv_at hl 0 rfl) ?_
  obtain ⟨v4, hv4, h_4⟩ := ob h_3
  refine m_getA C hH fl_X1_9 hv4 dX1_applies_127 ?_
  refine lv_iconst (v := 2) C.x C.b dX1_applies_130 ki_2 ?_
  obtain ⟨a5, e_, h_5⟩ := ob h_4; subst e_
  obtain ⟨v6, hv6, h_6⟩ := ob h_5
  refine m_lald C hH hv6 dX1_applies_131 ?_
  refine r_lc_ne (tgt := 162) C.x C.b dX1_applies_132 dX1_applies_133 (by decide) (fun q => ?_) (fun q => ?_)
  · exact b_X1_applies_162_ok C hr  (cn h_6 q) H locs ls hH hL (lv_sub hl [] rfl)
  · exact b_X1_applies_136_ok C hr  (cp h_6 q) H locs ls hH hL (lv_sub hl [0] rfl)
def b_X1_applies_104  (fu : Nat) (ev : Ev) (σ : Mm) (x0 : Nat) : Option (Int32 × Mm) :=
  (gfA σ x0 1 0).bind fun v1 =>
  v1.bind fun a2 =>
  (aldJ σ a2 (1 : Int32)).bind fun v3 =>
  (gfA σ x0 1 0).bind fun v4 =>
  v4.bind fun a5 =>
  (aldJ σ a5 (2 : Int32)).bind fun v6 =>
  if v6 < v3 then b_X1_applies_158  fu ev σ  else b_X1_applies_120  fu ev σ x0
set_option maxRecDepth 20000 in
theorem b_X1_applies_104_ok (C : Cx p m meth c cX1_applies 2 s args RX1 R ev D H0 2 49) (hr : meth.sig.returnType = (some .boolean))  {σ : Mm} {x0 : Nat} (h : b_X1_applies_104  fu ev σ x0 = some res) : GG p l e R s m args below meth c D H0 ev 2 (MQx D H0 ev below args s (some (.int res.1)) res.2) σ 104 [(0, .ref x0)] [] := by
  intro H locs ls hH hL hl
  unfold b_X1_applies_104 at h
  refine lv_aload_n C.x C.b dX1_applies_104 rfl (lv_at hl 0 rfl) ?_
  obtain ⟨v1, hv1, h_1⟩ := ob h
  refine m_getA C hH fl_X1_9 hv1 dX1_applies_105 ?_
  refine lv_iconst (v := 1) C.x C.b dX1_applies_108 ki_1 ?_
  obtain ⟨a2, e_, h_2⟩ := ob h_1; subst e_
  obtain ⟨v3, hv3, h_3⟩ := ob h_2
  refine m_lald C hH hv3 dX1_applies_109 ?_
  refine lv_aload_n C.x C.b dX1_applies_110 rfl (lv_at hl 0 rfl) ?_
  obtain ⟨v4, hv4, h_4⟩ := ob h_3
  refine m_getA C hH fl_X1_9 hv4 dX1_applies_111 ?_
  refine lv_iconst (v := 2) C.x C.b dX1_applies_114 ki_2 ?_
  obtain ⟨a5, e_, h_5⟩ := ob h_4; subst e_
  obtain ⟨v6, hv6, h_6⟩ := ob h_5
  refine m_lald C hH hv6 dX1_applies_115 ?_
  refine r_lc_gt (tgt := 158) C.x C.b dX1_applies_116 dX1_applies_117 (by decide) (fun q => ?_) (fun q => ?_)
  · exact b_X1_applies_158_ok C hr  (cp h_6 q) H locs ls hH hL (lv_sub hl [] rfl)
  · exact b_X1_applies_120_ok C hr  (cn h_6 q) H locs ls hH hL (lv_sub hl [0] rfl)
def b_X1_applies_186  (fu : Nat) (ev : Ev) (σ : Mm) (t0 : Int32) : Option (Int32 × Mm) :=
  (zbI t0).bind fun _ =>
  some (t0, σ)
set_option maxRecDepth 20000 in
theorem b_X1_applies_186_ok (C : Cx p m meth c cX1_applies 2 s args RX1 R ev D H0 2 49) (hr : meth.sig.returnType = (some .boolean))  {σ : Mm} {t0 : Int32} (h : b_X1_applies_186  fu ev σ t0 = some res) : GG p l e R s m args below meth c D H0 ev 2 (MQx D H0 ev below args s (some (.int res.1)) res.2) σ 186 [] [.int t0] := by
  intro H locs ls hH hL hl
  unfold b_X1_applies_186 at h
  obtain ⟨_, u1, h_1⟩ := ob h
  have hz_ := Option.some.inj h_1; subst hz_
  exact m_zret C hH hL hr (zbI_is u1) dX1_applies_186
def b_X1_applies_185  (fu : Nat) (ev : Ev) (σ : Mm)  : Option (Int32 × Mm) :=
  b_X1_applies_186  fu ev σ (0 : Int32)
set_option maxRecDepth 20000 in
theorem b_X1_applies_185_ok (C : Cx p m meth c cX1_applies 2 s args RX1 R ev D H0 2 49) (hr : meth.sig.returnType = (some .boolean))  {σ : Mm}  (h : b_X1_applies_185  fu ev σ  = some res) : GG p l e R s m args below meth c D H0 ev 2 (MQx D H0 ev below args s (some (.int res.1)) res.2) σ 185 [] [] := by
  intro H locs ls hH hL hl
  unfold b_X1_applies_185 at h
  refine lv_iconst (v := 0) C.x C.b dX1_applies_185 ki_0 ?_
  exact b_X1_applies_186_ok C hr  h H locs ls hH hL (lv_sub hl [] rfl)
def b_X1_applies_181  (fu : Nat) (ev : Ev) (σ : Mm)  : Option (Int32 × Mm) :=
  b_X1_applies_186  fu ev σ (1 : Int32)
set_option maxRecDepth 20000 in
theorem b_X1_applies_181_ok (C : Cx p m meth c cX1_applies 2 s args RX1 R ev D H0 2 49) (hr : meth.sig.returnType = (some .boolean))  {σ : Mm}  (h : b_X1_applies_181  fu ev σ  = some res) : GG p l e R s m args below meth c D H0 ev 2 (MQx D H0 ev below args s (some (.int res.1)) res.2) σ 181 [] [] := by
  intro H locs ls hH hL hl
  unfold b_X1_applies_181 at h
  refine lv_iconst (v := 1) C.x C.b dX1_applies_181 ki_1 ?_
  refine lv_goto (tgt := 186) C.x C.b dX1_applies_182 (by decide) ?_
  exact b_X1_applies_186_ok C hr  h H locs ls hH hL (lv_sub hl [] rfl)
def b_X1_applies_173  (fu : Nat) (ev : Ev) (σ : Mm) (x0 : Nat) : Option (Int32 × Mm) :=
  (isC σ x0 1).bind fun _ =>
  bd2 (f_X1_areAbove fu ev σ x0 (3 : Int32)) fun v2 s3 =>
  if v2 = 0 then b_X1_applies_181  fu ev s3  else b_X1_applies_185  fu ev s3 
set_option maxRecDepth 20000 in
theorem b_X1_applies_173_ok (C : Cx p m meth c cX1_applies 2 s args RX1 R ev D H0 2 49) (hr : meth.sig.returnType = (some .boolean))  {σ : Mm} {x0 : Nat} (h : b_X1_applies_173  fu ev σ x0 = some res) : GG p l e R s m args below meth c D H0 ev 2 (MQx D H0 ev below args s (some (.int res.1)) res.2) σ 173 [(0, .ref x0)] [] := by
  intro H locs ls hH hL hl
  unfold b_X1_applies_173 at h
  refine lv_aload_n C.x C.b dX1_applies_173 rfl (lv_at hl 0 rfl) ?_
  refine lv_iconst (v := 3) C.x C.b dX1_applies_174 ki_3 ?_
  obtain ⟨_, u1, h_1⟩ := ob h
  obtain ⟨v2, s3, hs3, h_2⟩ := ob2 h_1
  refine m_callVI (As := [.int (3 : Int32)]) (rest := []) (v := v2) C hH hL cv_X1_78 (ct_X1_areAbove l D H0 hs3) u1 ⟨Nat.le_of_ble_eq_true rfl, Nat.le_of_ble_eq_true rfl⟩ rfl hl.1 rfl (Nat.le_of_ble_eq_true rfl) dX1_applies_175 (fun H_3 locs_3 hH_3 hL_3 => ?_)
  refine lv_if_ne (tgt := 185) C.x C.b dX1_applies_178 (by decide) (fun q => ?_) (fun q => ?_)
  · exact b_X1_applies_185_ok C hr  (cn h_2 q) H_3 locs_3 ls hH_3 hL_3 (lv_sub hl [] rfl)
  · exact b_X1_applies_181_ok C hr  (cp h_2 q) H_3 locs_3 ls hH_3 hL_3 (lv_sub hl [] rfl)
def b_X1_applies_164  (fu : Nat) (ev : Ev) (σ : Mm) (x0 : Nat) : Option (Int32 × Mm) :=
  (isC σ x0 1).bind fun _ =>
  bd2 (f_X1_sign fu ev σ x0) fun v2 s3 =>
  if v2 ≤ (0 : Int64) then b_X1_applies_185  fu ev s3  else b_X1_applies_173  fu ev s3 x0
set_option maxRecDepth 20000 in
theorem b_X1_applies_164_ok (C : Cx p m meth c cX1_applies 2 s args RX1 R ev D H0 2 49) (hr : meth.sig.returnType = (some .boolean))  {σ : Mm} {x0 : Nat} (h : b_X1_applies_164  fu ev σ x0 = some res) : GG p l e R s m args below meth c D H0 ev 2 (MQx D H0 ev below args s (some (.int res.1)) res.2) σ 164 [(0, .ref x0)] [] := by
  intro H locs ls hH hL hl
  unfold b_X1_applies_164 at h
  refine lv_aload_n C.x C.b dX1_applies_164 rfl (lv_at hl 0 rfl) ?_
  obtain ⟨_, u1, h_1⟩ := ob h
  obtain ⟨v2, s3, hs3, h_2⟩ := ob2 h_1
  refine m_callVJ (As := []) (rest := []) (v := v2) C hH hL cv_X1_75 (ct_X1_sign l D H0 hs3) u1 ⟨Nat.le_of_ble_eq_true rfl, Nat.le_of_ble_eq_true rfl⟩ rfl hl.1 rfl (Nat.le_of_ble_eq_true rfl) dX1_applies_165 (fun H_3 locs_3 hH_3 hL_3 => ?_)
  refine lv_lconst (v := 0) C.x C.b dX1_applies_168 rfl ?_
  refine r_lc_le (tgt := 185) C.x C.b dX1_applies_169 dX1_applies_170 (by decide) (fun q => ?_) (fun q => ?_)
  · exact b_X1_applies_185_ok C hr  (cp h_2 q) H_3 locs_3 ls hH_3 hL_3 (lv_sub hl [] rfl)
  · exact b_X1_applies_173_ok C hr  (cn h_2 q) H_3 locs_3 ls hH_3 hL_3 (lv_sub hl [0] rfl)
def b_X1_applies_209  (fu : Nat) (ev : Ev) (σ : Mm) (t0 : Int32) : Option (Int32 × Mm) :=
  (zbI t0).bind fun _ =>
  some (t0, σ)
set_option maxRecDepth 20000 in
theorem b_X1_applies_209_ok (C : Cx p m meth c cX1_applies 2 s args RX1 R ev D H0 2 49) (hr : meth.sig.returnType = (some .boolean))  {σ : Mm} {t0 : Int32} (h : b_X1_applies_209  fu ev σ t0 = some res) : GG p l e R s m args below meth c D H0 ev 2 (MQx D H0 ev below args s (some (.int res.1)) res.2) σ 209 [] [.int t0] := by
  intro H locs ls hH hL hl
  unfold b_X1_applies_209 at h
  obtain ⟨_, u1, h_1⟩ := ob h
  have hz_ := Option.some.inj h_1; subst hz_
  exact m_zret C hH hL hr (zbI_is u1) dX1_applies_209
def b_X1_applies_208  (fu : Nat) (ev : Ev) (σ : Mm)  : Option (Int32 × Mm) :=
  b_X1_applies_209  fu ev σ (0 : Int32)
set_option maxRecDepth 20000 in
theorem b_X1_applies_208_ok (C : Cx p m meth c cX1_applies 2 s args RX1 R ev D H0 2 49) (hr : meth.sig.returnType = (some .boolean))  {σ : Mm}  (h : b_X1_applies_208  fu ev σ  = some res) : GG p l e R s m args below meth c D H0 ev 2 (MQx D H0 ev below args s (some (.int res.1)) res.2) σ 208 [] [] := by
  intro H locs ls hH hL hl
  unfold b_X1_applies_208 at h
  refine lv_iconst (v := 0) C.x C.b dX1_applies_208 ki_0 ?_
  exact b_X1_applies_209_ok C hr  h H locs ls hH hL (lv_sub hl [] rfl)
def b_X1_applies_204  (fu : Nat) (ev : Ev) (σ : Mm)  : Option (Int32 × Mm) :=
  b_X1_applies_209  fu ev σ (1 : Int32)
set_option maxRecDepth 20000 in
theorem b_X1_applies_204_ok (C : Cx p m meth c cX1_applies 2 s args RX1 R ev D H0 2 49) (hr : meth.sig.returnType = (some .boolean))  {σ : Mm}  (h : b_X1_applies_204  fu ev σ  = some res) : GG p l e R s m args below meth c D H0 ev 2 (MQx D H0 ev below args s (some (.int res.1)) res.2) σ 204 [] [] := by
  intro H locs ls hH hL hl
  unfold b_X1_applies_204 at h
  refine lv_iconst (v := 1) C.x C.b dX1_applies_204 ki_1 ?_
  refine lv_goto (tgt := 209) C.x C.b dX1_applies_205 (by decide) ?_
  exact b_X1_applies_209_ok C hr  h H locs ls hH hL (lv_sub hl [] rfl)
def b_X1_applies_196  (fu : Nat) (ev : Ev) (σ : Mm) (x0 : Nat) : Option (Int32 × Mm) :=
  (isC σ x0 1).bind fun _ =>
  bd2 (f_X1_areAbove fu ev σ x0 (1 : Int32)) fun v2 s3 =>
  if v2 = 0 then b_X1_applies_208  fu ev s3  else b_X1_applies_204  fu ev s3 
set_option maxRecDepth 20000 in
theorem b_X1_applies_196_ok (C : Cx p m meth c cX1_applies 2 s args RX1 R ev D H0 2 49) (hr : meth.sig.returnType = (some .boolean))  {σ : Mm} {x0 : Nat} (h : b_X1_applies_196  fu ev σ x0 = some res) : GG p l e R s m args below meth c D H0 ev 2 (MQx D H0 ev below args s (some (.int res.1)) res.2) σ 196 [(0, .ref x0)] [] := by
  intro H locs ls hH hL hl
  unfold b_X1_applies_196 at h
  refine lv_aload_n C.x C.b dX1_applies_196 rfl (lv_at hl 0 rfl) ?_
  refine lv_iconst (v := 1) C.x C.b dX1_applies_197 ki_1 ?_
  obtain ⟨_, u1, h_1⟩ := ob h
  obtain ⟨v2, s3, hs3, h_2⟩ := ob2 h_1
  refine m_callVI (As := [.int (1 : Int32)]) (rest := []) (v := v2) C hH hL cv_X1_78 (ct_X1_areAbove l D H0 hs3) u1 ⟨Nat.le_of_ble_eq_true rfl, Nat.le_of_ble_eq_true rfl⟩ rfl hl.1 rfl (Nat.le_of_ble_eq_true rfl) dX1_applies_198 (fun H_3 locs_3 hH_3 hL_3 => ?_)
  refine lv_if_eq (tgt := 208) C.x C.b dX1_applies_201 (by decide) (fun q => ?_) (fun q => ?_)
  · exact b_X1_applies_208_ok C hr  (cp h_2 q) H_3 locs_3 ls hH_3 hL_3 (lv_sub hl [] rfl)
  · exact b_X1_applies_204_ok C hr  (cn h_2 q) H_3 locs_3 ls hH_3 hL_3 (lv_sub hl [] rfl)
def b_X1_applies_187  (fu : Nat) (ev : Ev) (σ : Mm) (x0 : Nat) : Option (Int32 × Mm) :=
  (isC σ x0 1).bind fun _ =>
  bd2 (f_X1_sign fu ev σ x0) fun v2 s3 =>
  if (0 : Int64) < v2 then b_X1_applies_208  fu ev s3  else b_X1_applies_196  fu ev s3 x0
set_option maxRecDepth 20000 in
theorem b_X1_applies_187_ok (C : Cx p m meth c cX1_applies 2 s args RX1 R ev D H0 2 49) (hr : meth.sig.returnType = (some .boolean))  {σ : Mm} {x0 : Nat} (h : b_X1_applies_187  fu ev σ x0 = some res) : GG p l e R s m args below meth c D H0 ev 2 (MQx D H0 ev below args s (some (.int res.1)) res.2) σ 187 [(0, .ref x0)] [] := by
  intro H locs ls hH hL hl
  unfold b_X1_applies_187 at h
  refine lv_aload_n C.x C.b dX1_applies_187 rfl (lv_at hl 0 rfl) ?_
  obtain ⟨_, u1, h_1⟩ := ob h
  obtain ⟨v2, s3, hs3, h_2⟩ := ob2 h_1
  refine m_callVJ (As := []) (rest := []) (v := v2) C hH hL cv_X1_75 (ct_X1_sign l D H0 hs3) u1 ⟨Nat.le_of_ble_eq_true rfl, Nat.le_of_ble_eq_true rfl⟩ rfl hl.1 rfl (Nat.le_of_ble_eq_true rfl) dX1_applies_188 (fun H_3 locs_3 hH_3 hL_3 => ?_)
  refine lv_lconst (v := 0) C.x C.b dX1_applies_191 rfl ?_
  refine r_lc_gt (tgt := 208) C.x C.b dX1_applies_192 dX1_applies_193 (by decide) (fun q => ?_) (fun q => ?_)
  · exact b_X1_applies_208_ok C hr  (cp h_2 q) H_3 locs_3 ls hH_3 hL_3 (lv_sub hl [] rfl)
  · exact b_X1_applies_196_ok C hr  (cn h_2 q) H_3 locs_3 ls hH_3 hL_3 (lv_sub hl [0] rfl)
def b_X1_applies_210  (fu : Nat) (ev : Ev) (σ : Mm) (x0 : Nat) : Option (Int32 × Mm) :=
  (gfA σ x0 1 1).bind fun v1 =>
  v1.bind fun a2 =>
  (aldJ σ a2 (0 : Int32)).bind fun v3 =>
  (gfA σ x0 1 0).bind fun v4 =>
  v4.bind fun a5 =>
  (aldJ σ a5 (1 : Int32)).bind fun v6 =>
  (gfA σ x0 1 1).bind fun v7 =>
  v7.bind fun a8 =>
  (aldJ σ a8 (1 : Int32)).bind fun v9 =>
  (gfA σ x0 1 1).bind fun v10 =>
  v10.bind fun a11 =>
  (aldJ σ a11 (2 : Int32)).bind fun v12 =>
  (isC σ x0 1).bind fun _ =>
  bd2 (f_X1_isOver fu ev σ x0 v3 v6 v9 v12) fun v14 s15 =>
  (zbI v14).bind fun _ =>
  some (v14, s15)
set_option maxRecDepth 20000 in
theorem b_X1_applies_210_ok (C : Cx p m meth c cX1_applies 2 s args RX1 R ev D H0 2 49) (hr : meth.sig.returnType = (some .boolean))  {σ : Mm} {x0 : Nat} (h : b_X1_applies_210  fu ev σ x0 = some res) : GG p l e R s m args below meth c D H0 ev 2 (MQx D H0 ev below args s (some (.int res.1)) res.2) σ 210 [(0, .ref x0)] [] := by
  intro H locs ls hH hL hl
  unfold b_X1_applies_210 at h
  refine lv_aload_n C.x C.b dX1_applies_210 rfl (lv_at hl 0 rfl) ?_
  refine lv_aload_n C.x C.b dX1_applies_211 rfl (lv_at hl 0 rfl) ?_
  obtain ⟨v1, hv1, h_1⟩ := ob h
  refine m_getA C hH fl_X1_15 hv1 dX1_applies_212 ?_
  refine lv_iconst (v := 0) C.x C.b dX1_applies_215 ki_0 ?_
  obtain ⟨a2, e_, h_2⟩ := ob h_1; subst e_
  obtain ⟨v3, hv3, h_3⟩ := ob h_2
  refine m_lald C hH hv3 dX1_applies_216 ?_
  refine lv_aload_n C.x C.b dX1_applies_217 rfl (lv_at hl 0 rfl) ?_
  obtain ⟨v4, hv4, h_4⟩ := ob h_3
  refine m_getA C hH fl_X1_9 hv4 dX1_applies_218 ?_
  refine lv_iconst (v := 1) C.x C.b dX1_applies_221 ki_1 ?_
  obtain ⟨a5, e_, h_5⟩ := ob h_4; subst e_
  obtain ⟨v6, hv6, h_6⟩ := ob h_5
  refine m_lald C hH hv6 dX1_applies_222 ?_
  refine lv_aload_n C.x C.b dX1_applies_223 rfl (lv_at hl 0 rfl) ?_
  obtain ⟨v7, hv7, h_7⟩ := ob h_6
  refine m_getA C hH fl_X1_15 hv7 dX1_applies_224 ?_
  refine lv_iconst (v := 1) C.x C.b dX1_applies_227 ki_1 ?_
  obtain ⟨a8, e_, h_8⟩ := ob h_7; subst e_
  obtain ⟨v9, hv9, h_9⟩ := ob h_8
  refine m_lald C hH hv9 dX1_applies_228 ?_
  refine lv_aload_n C.x C.b dX1_applies_229 rfl (lv_at hl 0 rfl) ?_
  obtain ⟨v10, hv10, h_10⟩ := ob h_9
  refine m_getA C hH fl_X1_15 hv10 dX1_applies_230 ?_
  refine lv_iconst (v := 2) C.x C.b dX1_applies_233 ki_2 ?_
  obtain ⟨a11, e_, h_11⟩ := ob h_10; subst e_
  obtain ⟨v12, hv12, h_12⟩ := ob h_11
  refine m_lald C hH hv12 dX1_applies_234 ?_
  obtain ⟨_, u13, h_13⟩ := ob h_12
  obtain ⟨v14, s15, hs15, h_14⟩ := ob2 h_13
  refine m_callVI (As := [.long v3, .long v6, .long v9, .long v12]) (rest := []) (v := v14) C hH hL cv_X1_82 (ct_X1_isOver l D H0 hs15) u13 ⟨Nat.le_of_ble_eq_true rfl, Nat.le_of_ble_eq_true rfl⟩ rfl hl.1 rfl (Nat.le_of_ble_eq_true rfl) dX1_applies_235 (fun H_15 locs_15 hH_15 hL_15 => ?_)
  obtain ⟨_, u16, h_16⟩ := ob h_14
  have hz_ := Option.some.inj h_16; subst hz_
  exact m_zret C hH_15 hL_15 hr (zbI_is u16) dX1_applies_238
def b_X1_applies_239  (fu : Nat) (ev : Ev) (σ : Mm) (x0 : Nat) : Option (Int32 × Mm) :=
  (gfA σ x0 1 1).bind fun v1 =>
  v1.bind fun a2 =>
  (aldJ σ a2 (1 : Int32)).bind fun v3 =>
  (gfA σ x0 1 0).bind fun v4 =>
  v4.bind fun a5 =>
  (aldJ σ a5 (0 : Int32)).bind fun v6 =>
  (gfA σ x0 1 1).bind fun v7 =>
  v7.bind fun a8 =>
  (aldJ σ a8 (0 : Int32)).bind fun v9 =>
  (gfA σ x0 1 1).bind fun v10 =>
  v10.bind fun a11 =>
  (aldJ σ a11 (2 : Int32)).bind fun v12 =>
  (isC σ x0 1).bind fun _ =>
  bd2 (f_X1_isOver fu ev σ x0 v3 v6 v9 v12) fun v14 s15 =>
  (zbI v14).bind fun _ =>
  some (v14, s15)
set_option maxRecDepth 20000 in
theorem b_X1_applies_239_ok (C : Cx p m meth c cX1_applies 2 s args RX1 R ev D H0 2 49) (hr : meth.sig.returnType = (some .boolean))  {σ : Mm} {x0 : Nat} (h : b_X1_applies_239  fu ev σ x0 = some res) : GG p l e R s m args below meth c D H0 ev 2 (MQx D H0 ev below args s (some (.int res.1)) res.2) σ 239 [(0, .ref x0)] [] := by
  intro H locs ls hH hL hl
  unfold b_X1_applies_239 at h
  refine lv_aload_n C.x C.b dX1_applies_239 rfl (lv_at hl 0 rfl) ?_
  refine lv_aload_n C.x C.b dX1_applies_240 rfl (lv_at hl 0 rfl) ?_
  obtain ⟨v1, hv1, h_1⟩ := ob h
  refine m_getA C hH fl_X1_15 hv1 dX1_applies_241 ?_
  refine lv_iconst (v := 1) C.x C.b dX1_applies_244 ki_1 ?_
  obtain ⟨a2, e_, h_2⟩ := ob h_1; subst e_
  obtain ⟨v3, hv3, h_3⟩ := ob h_2
  refine m_lald C hH hv3 dX1_applies_245 ?_
  refine lv_aload_n C.x C.b dX1_applies_246 rfl (lv_at hl 0 rfl) ?_
  obtain ⟨v4, hv4, h_4⟩ := ob h_3
  refine m_getA C hH fl_X1_9 hv4 dX1_applies_247 ?_
  refine lv_iconst (v := 0) C.x C.b dX1_applies_250 ki_0 ?_
  obtain ⟨a5, e_, h_5⟩ := ob h_4; subst e_
  obtain ⟨v6, hv6, h_6⟩ := ob h_5
  refine m_lald C hH hv6 dX1_applies_251 ?_
  refine lv_aload_n C.x C.b dX1_applies_252 rfl (lv_at hl 0 rfl) ?_
  obtain ⟨v7, hv7, h_7⟩ := ob h_6
  refine m_getA C hH fl_X1_15 hv7 dX1_applies_253 ?_
  refine lv_iconst (v := 0) C.x C.b dX1_applies_256 ki_0 ?_
  obtain ⟨a8, e_, h_8⟩ := ob h_7; subst e_
  obtain ⟨v9, hv9, h_9⟩ := ob h_8
  refine m_lald C hH hv9 dX1_applies_257 ?_
  refine lv_aload_n C.x C.b dX1_applies_258 rfl (lv_at hl 0 rfl) ?_
  obtain ⟨v10, hv10, h_10⟩ := ob h_9
  refine m_getA C hH fl_X1_15 hv10 dX1_applies_259 ?_
  refine lv_iconst (v := 2) C.x C.b dX1_applies_262 ki_2 ?_
  obtain ⟨a11, e_, h_11⟩ := ob h_10; subst e_
  obtain ⟨v12, hv12, h_12⟩ := ob h_11
  refine m_lald C hH hv12 dX1_applies_263 ?_
  obtain ⟨_, u13, h_13⟩ := ob h_12
  obtain ⟨v14, s15, hs15, h_14⟩ := ob2 h_13
  refine m_callVI (As := [.long v3, .long v6, .long v9, .long v12]) (rest := []) (v := v14) C hH hL cv_X1_82 (ct_X1_isOver l D H0 hs15) u13 ⟨Nat.le_of_ble_eq_true rfl, Nat.le_of_ble_eq_true rfl⟩ rfl hl.1 rfl (Nat.le_of_ble_eq_true rfl) dX1_applies_264 (fun H_15 locs_15 hH_15 hL_15 => ?_)
  obtain ⟨_, u16, h_16⟩ := ob h_14
  have hz_ := Option.some.inj h_16; subst hz_
  exact m_zret C hH_15 hL_15 hr (zbI_is u16) dX1_applies_267
def b_X1_applies_268  (fu : Nat) (ev : Ev) (σ : Mm) (x0 : Nat) : Option (Int32 × Mm) :=
  (gfA σ x0 1 1).bind fun v1 =>
  v1.bind fun a2 =>
  (aldJ σ a2 (2 : Int32)).bind fun v3 =>
  (gfA σ x0 1 0).bind fun v4 =>
  v4.bind fun a5 =>
  (aldJ σ a5 (0 : Int32)).bind fun v6 =>
  (gfA σ x0 1 1).bind fun v7 =>
  v7.bind fun a8 =>
  (aldJ σ a8 (0 : Int32)).bind fun v9 =>
  (gfA σ x0 1 1).bind fun v10 =>
  v10.bind fun a11 =>
  (aldJ σ a11 (1 : Int32)).bind fun v12 =>
  (isC σ x0 1).bind fun _ =>
  bd2 (f_X1_isOver fu ev σ x0 v3 v6 v9 v12) fun v14 s15 =>
  (zbI v14).bind fun _ =>
  some (v14, s15)
set_option maxRecDepth 20000 in
theorem b_X1_applies_268_ok (C : Cx p m meth c cX1_applies 2 s args RX1 R ev D H0 2 49) (hr : meth.sig.returnType = (some .boolean))  {σ : Mm} {x0 : Nat} (h : b_X1_applies_268  fu ev σ x0 = some res) : GG p l e R s m args below meth c D H0 ev 2 (MQx D H0 ev below args s (some (.int res.1)) res.2) σ 268 [(0, .ref x0)] [] := by
  intro H locs ls hH hL hl
  unfold b_X1_applies_268 at h
  refine lv_aload_n C.x C.b dX1_applies_268 rfl (lv_at hl 0 rfl) ?_
  refine lv_aload_n C.x C.b dX1_applies_269 rfl (lv_at hl 0 rfl) ?_
  obtain ⟨v1, hv1, h_1⟩ := ob h
  refine m_getA C hH fl_X1_15 hv1 dX1_applies_270 ?_
  refine lv_iconst (v := 2) C.x C.b dX1_applies_273 ki_2 ?_
  obtain ⟨a2, e_, h_2⟩ := ob h_1; subst e_
  obtain ⟨v3, hv3, h_3⟩ := ob h_2
  refine m_lald C hH hv3 dX1_applies_274 ?_
  refine lv_aload_n C.x C.b dX1_applies_275 rfl (lv_at hl 0 rfl) ?_
  obtain ⟨v4, hv4, h_4⟩ := ob h_3
  refine m_getA C hH fl_X1_9 hv4 dX1_applies_276 ?_
  refine lv_iconst (v := 0) C.x C.b dX1_applies_279 ki_0 ?_
  obtain ⟨a5, e_, h_5⟩ := ob h_4; subst e_
  obtain ⟨v6, hv6, h_6⟩ := ob h_5
  refine m_lald C hH hv6 dX1_applies_280 ?_
  refine lv_aload_n C.x C.b dX1_applies_281 rfl (lv_at hl 0 rfl) ?_
  obtain ⟨v7, hv7, h_7⟩ := ob h_6
  refine m_getA C hH fl_X1_15 hv7 dX1_applies_282 ?_
  refine lv_iconst (v := 0) C.x C.b dX1_applies_285 ki_0 ?_
  obtain ⟨a8, e_, h_8⟩ := ob h_7; subst e_
  obtain ⟨v9, hv9, h_9⟩ := ob h_8
  refine m_lald C hH hv9 dX1_applies_286 ?_
  refine lv_aload_n C.x C.b dX1_applies_287 rfl (lv_at hl 0 rfl) ?_
  obtain ⟨v10, hv10, h_10⟩ := ob h_9
  refine m_getA C hH fl_X1_15 hv10 dX1_applies_288 ?_
  refine lv_iconst (v := 1) C.x C.b dX1_applies_291 ki_1 ?_
  obtain ⟨a11, e_, h_11⟩ := ob h_10; subst e_
  obtain ⟨v12, hv12, h_12⟩ := ob h_11
  refine m_lald C hH hv12 dX1_applies_292 ?_
  obtain ⟨_, u13, h_13⟩ := ob h_12
  obtain ⟨v14, s15, hs15, h_14⟩ := ob2 h_13
  refine m_callVI (As := [.long v3, .long v6, .long v9, .long v12]) (rest := []) (v := v14) C hH hL cv_X1_82 (ct_X1_isOver l D H0 hs15) u13 ⟨Nat.le_of_ble_eq_true rfl, Nat.le_of_ble_eq_true rfl⟩ rfl hl.1 rfl (Nat.le_of_ble_eq_true rfl) dX1_applies_293 (fun H_15 locs_15 hH_15 hL_15 => ?_)
  obtain ⟨_, u16, h_16⟩ := ob h_14
  have hz_ := Option.some.inj h_16; subst hz_
  exact m_zret C hH_15 hL_15 hr (zbI_is u16) dX1_applies_296
def b_X1_applies_349  (fu : Nat) (ev : Ev) (σ : Mm) (t0 : Int32) : Option (Int32 × Mm) :=
  (zbI t0).bind fun _ =>
  some (t0, σ)
set_option maxRecDepth 20000 in
theorem b_X1_applies_349_ok (C : Cx p m meth c cX1_applies 2 s args RX1 R ev D H0 2 49) (hr : meth.sig.returnType = (some .boolean))  {σ : Mm} {t0 : Int32} (h : b_X1_applies_349  fu ev σ t0 = some res) : GG p l e R s m args below meth c D H0 ev 2 (MQx D H0 ev below args s (some (.int res.1)) res.2) σ 349 [] [.int t0] := by
  intro H locs ls hH hL hl
  unfold b_X1_applies_349 at h
  obtain ⟨_, u1, h_1⟩ := ob h
  have hz_ := Option.some.inj h_1; subst hz_
  exact m_zret C hH hL hr (zbI_is u1) dX1_applies_349
def b_X1_applies_344  (fu : Nat) (ev : Ev) (σ : Mm)  : Option (Int32 × Mm) :=
  b_X1_applies_349  fu ev σ (1 : Int32)
set_option maxRecDepth 20000 in
theorem b_X1_applies_344_ok (C : Cx p m meth c cX1_applies 2 s args RX1 R ev D H0 2 49) (hr : meth.sig.returnType = (some .boolean))  {σ : Mm}  (h : b_X1_applies_344  fu ev σ  = some res) : GG p l e R s m args below meth c D H0 ev 2 (MQx D H0 ev below args s (some (.int res.1)) res.2) σ 344 [] [] := by
  intro H locs ls hH hL hl
  unfold b_X1_applies_344 at h
  refine lv_iconst (v := 1) C.x C.b dX1_applies_344 ki_1 ?_
  refine lv_goto (tgt := 349) C.x C.b dX1_applies_345 (by decide) ?_
  exact b_X1_applies_349_ok C hr  h H locs ls hH hL (lv_sub hl [] rfl)
def b_X1_applies_348  (fu : Nat) (ev : Ev) (σ : Mm)  : Option (Int32 × Mm) :=
  b_X1_applies_349  fu ev σ (0 : Int32)
set_option maxRecDepth 20000 in
theorem b_X1_applies_348_ok (C : Cx p m meth c cX1_applies 2 s args RX1 R ev D H0 2 49) (hr : meth.sig.returnType = (some .boolean))  {σ : Mm}  (h : b_X1_applies_348  fu ev σ  = some res) : GG p l e R s m args below meth c D H0 ev 2 (MQx D H0 ev below args s (some (.int res.1)) res.2) σ 348 [] [] := by
  intro H locs ls hH hL hl
  unfold b_X1_applies_348 at h
  refine lv_iconst (v := 0) C.x C.b dX1_applies_348 ki_0 ?_
  exact b_X1_applies_349_ok C hr  h H locs ls hH hL (lv_sub hl [] rfl)
def b_X1_applies_315  (fu : Nat) (ev : Ev) (σ : Mm) (x0 : Nat) : Option (Int32 × Mm) :=
  (gfA σ x0 1 0).bind fun v1 =>
  v1.bind fun a2 =>
  (aldJ σ a2 (0 : Int32)).bind fun v3 =>
  (gfA σ x0 1 1).bind fun v4 =>
  v4.bind fun a5 =>
  (aldJ σ a5 (1 : Int32)).bind fun v6 =>
  (gfA σ x0 1 1).bind fun v7 =>
  v7.bind fun a8 =>
  (aldJ σ a8 (2 : Int32)).bind fun v9 =>
  if (((2 : Int64) * (v3 + v6)) + v9) ≤ (0 : Int64) then b_X1_applies_348  fu ev σ  else b_X1_applies_344  fu ev σ 
set_option maxRecDepth 20000 in
theorem b_X1_applies_315_ok (C : Cx p m meth c cX1_applies 2 s args RX1 R ev D H0 2 49) (hr : meth.sig.returnType = (some .boolean))  {σ : Mm} {x0 : Nat} (h : b_X1_applies_315  fu ev σ x0 = some res) : GG p l e R s m args below meth c D H0 ev 2 (MQx D H0 ev below args s (some (.int res.1)) res.2) σ 315 [(0, .ref x0)] [] := by
  intro H locs ls hH hL hl
  unfold b_X1_applies_315 at h
  refine lv_ldc2 C.x C.b C.1.2.2.2.1 (C.w q446) dX1_applies_315 ?_
  refine lv_aload_n C.x C.b dX1_applies_318 rfl (lv_at hl 0 rfl) ?_
  obtain ⟨v1, hv1, h_1⟩ := ob h
  refine m_getA C hH fl_X1_9 hv1 dX1_applies_319 ?_
  refine lv_iconst (v := 0) C.x C.b dX1_applies_322 ki_0 ?_
  obtain ⟨a2, e_, h_2⟩ := ob h_1; subst e_
  obtain ⟨v3, hv3, h_3⟩ := ob h_2
  refine m_lald C hH hv3 dX1_applies_323 ?_
  refine lv_aload_n C.x C.b dX1_applies_324 rfl (lv_at hl 0 rfl) ?_
  obtain ⟨v4, hv4, h_4⟩ := ob h_3
  refine m_getA C hH fl_X1_15 hv4 dX1_applies_325 ?_
  refine lv_iconst (v := 1) C.x C.b dX1_applies_328 ki_1 ?_
  obtain ⟨a5, e_, h_5⟩ := ob h_4; subst e_
  obtain ⟨v6, hv6, h_6⟩ := ob h_5
  refine m_lald C hH hv6 dX1_applies_329 ?_
  refine lv_ladd C.x C.b dX1_applies_330 ?_
  refine lv_lmul C.x C.b dX1_applies_331 ?_
  refine lv_aload_n C.x C.b dX1_applies_332 rfl (lv_at hl 0 rfl) ?_
  obtain ⟨v7, hv7, h_7⟩ := ob h_6
  refine m_getA C hH fl_X1_15 hv7 dX1_applies_333 ?_
  refine lv_iconst (v := 2) C.x C.b dX1_applies_336 ki_2 ?_
  obtain ⟨a8, e_, h_8⟩ := ob h_7; subst e_
  obtain ⟨v9, hv9, h_9⟩ := ob h_8
  refine m_lald C hH hv9 dX1_applies_337 ?_
  refine lv_ladd C.x C.b dX1_applies_338 ?_
  refine lv_lconst (v := 0) C.x C.b dX1_applies_339 rfl ?_
  refine r_lc_le (tgt := 348) C.x C.b dX1_applies_340 dX1_applies_341 (by decide) (fun q => ?_) (fun q => ?_)
  · exact b_X1_applies_348_ok C hr  (cp h_9 q) H locs ls hH hL (lv_sub hl [] rfl)
  · exact b_X1_applies_344_ok C hr  (cn h_9 q) H locs ls hH hL (lv_sub hl [] rfl)
def b_X1_applies_306  (fu : Nat) (ev : Ev) (σ : Mm) (x0 : Nat) : Option (Int32 × Mm) :=
  (isC σ x0 1).bind fun _ =>
  bd2 (f_X1_sum fu ev σ x0) fun v2 s3 =>
  if v2 = (0 : Int64) then b_X1_applies_315  fu ev s3 x0 else b_X1_applies_348  fu ev s3 
set_option maxRecDepth 20000 in
theorem b_X1_applies_306_ok (C : Cx p m meth c cX1_applies 2 s args RX1 R ev D H0 2 49) (hr : meth.sig.returnType = (some .boolean))  {σ : Mm} {x0 : Nat} (h : b_X1_applies_306  fu ev σ x0 = some res) : GG p l e R s m args below meth c D H0 ev 2 (MQx D H0 ev below args s (some (.int res.1)) res.2) σ 306 [(0, .ref x0)] [] := by
  intro H locs ls hH hL hl
  unfold b_X1_applies_306 at h
  refine lv_aload_n C.x C.b dX1_applies_306 rfl (lv_at hl 0 rfl) ?_
  obtain ⟨_, u1, h_1⟩ := ob h
  obtain ⟨v2, s3, hs3, h_2⟩ := ob2 h_1
  refine m_callVJ (As := []) (rest := []) (v := v2) C hH hL cv_X1_86 (ct_X1_sum l D H0 hs3) u1 ⟨Nat.le_of_ble_eq_true rfl, Nat.le_of_ble_eq_true rfl⟩ rfl hl.1 rfl (Nat.le_of_ble_eq_true rfl) dX1_applies_307 (fun H_3 locs_3 hH_3 hL_3 => ?_)
  refine lv_lconst (v := 0) C.x C.b dX1_applies_310 rfl ?_
  refine r_lc_ne (tgt := 348) C.x C.b dX1_applies_311 dX1_applies_312 (by decide) (fun q => ?_) (fun q => ?_)
  · exact b_X1_applies_348_ok C hr  (cn h_2 q) H_3 locs_3 ls hH_3 hL_3 (lv_sub hl [] rfl)
  · exact b_X1_applies_315_ok C hr  (cp h_2 q) H_3 locs_3 ls hH_3 hL_3 (lv_sub hl [0] rfl)
def b_X1_applies_297  (fu : Nat) (ev : Ev) (σ : Mm) (x0 : Nat) : Option (Int32 × Mm) :=
  (isC σ x0 1).bind fun _ =>
  bd2 (f_X1_sum fu ev σ x0) fun v2 s3 =>
  if v2 < (0 : Int64) then b_X1_applies_344  fu ev s3  else b_X1_applies_306  fu ev s3 x0
set_option maxRecDepth 20000 in
theorem b_X1_applies_297_ok (C : Cx p m meth c cX1_applies 2 s args RX1 R ev D H0 2 49) (hr : meth.sig.returnType = (some .boolean))  {σ : Mm} {x0 : Nat} (h : b_X1_applies_297  fu ev σ x0 = some res) : GG p l e R s m args below meth c D H0 ev 2 (MQx D H0 ev below args s (some (.int res.1)) res.2) σ 297 [(0, .ref x0)] [] := by
  intro H locs ls hH hL hl
  unfold b_X1_applies_297 at h
  refine lv_aload_n C.x C.b dX1_applies_297 rfl (lv_at hl 0 rfl) ?_
  obtain ⟨_, u1, h_1⟩ := ob h
  obtain ⟨v2, s3, hs3, h_2⟩ := ob2 h_1
  refine m_callVJ (As := []) (rest := []) (v := v2) C hH hL cv_X1_86 (ct_X1_sum l D H0 hs3) u1 ⟨Nat.le_of_ble_eq_true rfl, Nat.le_of_ble_eq_true rfl⟩ rfl hl.1 rfl (Nat.le_of_ble_eq_true rfl) dX1_applies_298 (fun H_3 locs_3 hH_3 hL_3 => ?_)
  refine lv_lconst (v := 0) C.x C.b dX1_applies_301 rfl ?_
  refine r_lc_lt (tgt := 344) C.x C.b dX1_applies_302 dX1_applies_303 (by decide) (fun q => ?_) (fun q => ?_)
  · exact b_X1_applies_344_ok C hr  (cp h_2 q) H_3 locs_3 ls hH_3 hL_3 (lv_sub hl [] rfl)
  · exact b_X1_applies_306_ok C hr  (cn h_2 q) H_3 locs_3 ls hH_3 hL_3 (lv_sub hl [0] rfl)
def b_X1_applies_0  (fu : Nat) (ev : Ev) (σ : Mm) (x0 : Nat) (x1 : Int32) : Option (Int32 × Mm) :=
  if x1 = (1 : Int32) then b_X1_applies_44  fu ev σ x0 else if x1 = (2 : Int32) then b_X1_applies_104  fu ev σ x0 else if x1 = (3 : Int32) then b_X1_applies_164  fu ev σ x0 else if x1 = (4 : Int32) then b_X1_applies_187  fu ev σ x0 else if x1 = (5 : Int32) then b_X1_applies_210  fu ev σ x0 else if x1 = (6 : Int32) then b_X1_applies_239  fu ev σ x0 else if x1 = (7 : Int32) then b_X1_applies_268  fu ev σ x0 else b_X1_applies_297  fu ev σ x0
set_option maxRecDepth 20000 in
theorem b_X1_applies_0_ok (C : Cx p m meth c cX1_applies 2 s args RX1 R ev D H0 2 49) (hr : meth.sig.returnType = (some .boolean))  {σ : Mm} {x0 : Nat} {x1 : Int32} (h : b_X1_applies_0  fu ev σ x0 x1 = some res) : GG p l e R s m args below meth c D H0 ev 2 (MQx D H0 ev below args s (some (.int res.1)) res.2) σ 0 [(0, .ref x0), (1, .int x1)] [] := by
  intro H locs ls hH hL hl
  unfold b_X1_applies_0 at h
  refine lv_iload_n C.x C.b dX1_applies_0 rfl (lv_at hl 1 rfl) ?_
  by_cases q1 : x1 = (1 : Int32)
  · refine lv_tableIn (off := 43) (tgt := 44) C.x C.b dX1_applies_1 (by rw [q1]; decide) (by rw [q1]; decide) (by rw [q1]; rfl) (by decide) ?_
    exact b_X1_applies_44_ok C hr  (cp h q1) H locs ls hH hL (lv_sub hl [0] rfl)
  have h_1 := cn h q1
  by_cases q2 : x1 = (2 : Int32)
  · refine lv_tableIn (off := 103) (tgt := 104) C.x C.b dX1_applies_1 (by rw [q2]; decide) (by rw [q2]; decide) (by rw [q2]; rfl) (by decide) ?_
    exact b_X1_applies_104_ok C hr  (cp h_1 q2) H locs ls hH hL (lv_sub hl [0] rfl)
  have h_2 := cn h_1 q2
  by_cases q3 : x1 = (3 : Int32)
  · refine lv_tableIn (off := 163) (tgt := 164) C.x C.b dX1_applies_1 (by rw [q3]; decide) (by rw [q3]; decide) (by rw [q3]; rfl) (by decide) ?_
    exact b_X1_applies_164_ok C hr  (cp h_2 q3) H locs ls hH hL (lv_sub hl [0] rfl)
  have h_3 := cn h_2 q3
  by_cases q4 : x1 = (4 : Int32)
  · refine lv_tableIn (off := 186) (tgt := 187) C.x C.b dX1_applies_1 (by rw [q4]; decide) (by rw [q4]; decide) (by rw [q4]; rfl) (by decide) ?_
    exact b_X1_applies_187_ok C hr  (cp h_3 q4) H locs ls hH hL (lv_sub hl [0] rfl)
  have h_4 := cn h_3 q4
  by_cases q5 : x1 = (5 : Int32)
  · refine lv_tableIn (off := 209) (tgt := 210) C.x C.b dX1_applies_1 (by rw [q5]; decide) (by rw [q5]; decide) (by rw [q5]; rfl) (by decide) ?_
    exact b_X1_applies_210_ok C hr  (cp h_4 q5) H locs ls hH hL (lv_sub hl [0] rfl)
  have h_5 := cn h_4 q5
  by_cases q6 : x1 = (6 : Int32)
  · refine lv_tableIn (off := 238) (tgt := 239) C.x C.b dX1_applies_1 (by rw [q6]; decide) (by rw [q6]; decide) (by rw [q6]; rfl) (by decide) ?_
    exact b_X1_applies_239_ok C hr  (cp h_5 q6) H locs ls hH hL (lv_sub hl [0] rfl)
  have h_6 := cn h_5 q6
  by_cases q7 : x1 = (7 : Int32)
  · refine lv_tableIn (off := 267) (tgt := 268) C.x C.b dX1_applies_1 (by rw [q7]; decide) (by rw [q7]; decide) (by rw [q7]; rfl) (by decide) ?_
    exact b_X1_applies_268_ok C hr  (cp h_6 q7) H locs ls hH hL (lv_sub hl [0] rfl)
  have h_7 := cn h_6 q7
  have n0 := lv_neT q1 (a := 1) (by decide)
  have n1 := lv_neT q2 (a := 2) (by decide)
  have n2 := lv_neT q3 (a := 3) (by decide)
  have n3 := lv_neT q4 (a := 4) (by decide)
  have n4 := lv_neT q5 (a := 5) (by decide)
  have n5 := lv_neT q6 (a := 6) (by decide)
  have n6 := lv_neT q7 (a := 7) (by decide)
  refine lv_tableOut (tgt := 297) C.x C.b dX1_applies_1 (by omega) (by decide) ?_
  exact b_X1_applies_297_ok C hr  h_7 H locs ls hH hL (lv_sub hl [0] rfl)
def f_X1_applies (fu : Nat) (ev : Ev) (σ : Mm) (x0 : Nat) (x1 : Int32) : Option (Int32 × Mm) := b_X1_applies_0  fu ev σ x0 x1
set_option maxRecDepth 20000 in
theorem ct_X1_applies (l : Launch) (D : Dx) (H0 : Heap) {σ : Mm} {x0 : Nat} {x1 : Int32} (h : f_X1_applies fu ev σ x0 x1 = some res) : Ct l D H0 ev yX1_applies (ws_ yX1_applies cX1_applies 2 (some .boolean)) 2 49 [.ref x0, .int x1] σ (some (.int res.1)) res.2 := by
  refine Ct_of (by decide) ?_
  intro p e R s m below meth c C hr hnm hH
  have hl := lv_entry [.ref x0, .int x1] (n := 2) (Nat.le_of_ble_eq_true rfl)
  rw [lg_entry_eq]
  exact b_X1_applies_0_ok C hr  h s.heap [] _ hH (by simp) (lv_sub hl [0, 1] rfl)
end M_X1_applies
theorem cv_X1_89 : CV RX1 89 1 yX1_turns cX1_turns 3 none 1 := ⟨_, rfl, lw_V q507 q456 q457 q104 q458, rfl, by decide, by decide, by decide +kernel⟩
/-! CellReducer$Cell.turnsAll()V -/
section M_X1_turnsAll
variable {p : Program} {l : Launch} {e : Env} {R : Room} {s : State} {m : MethodId} {args : Array Value} {below : List Frame} {meth : Method} {c : Code} {D : Dx} {H0 : Heap} {ev : Ev} {fu : Nat} {res : Unit × Mm}
def b_X1_turnsAll_0  (fu : Nat) (ev : Ev) (σ : Mm) (x0 : Nat) : Option (Unit × Mm) :=
  (isC σ x0 1).bind fun _ =>
  bd2 (f_X1_turns fu ev σ x0 (0 : Int32)) fun v2 s3 =>
  (isC s3 x0 1).bind fun _ =>
  bd2 (f_X1_turns fu ev s3 x0 (1 : Int32)) fun v5 s6 =>
  (isC s6 x0 1).bind fun _ =>
  bd2 (f_X1_turns fu ev s6 x0 (2 : Int32)) fun v8 s9 =>
  some ((), s9)
set_option maxRecDepth 20000 in
theorem b_X1_turnsAll_0_ok (C : Cx p m meth c cX1_turnsAll 1 s args RX1 R ev D H0 1 22) (hr : meth.sig.returnType = none)  {σ : Mm} {x0 : Nat} (h : b_X1_turnsAll_0  fu ev σ x0 = some res) : GG p l e R s m args below meth c D H0 ev 1 (MQx D H0 ev below args s none res.2) σ 0 [(0, .ref x0)] [] := by
  intro H locs ls hH hL hl
  unfold b_X1_turnsAll_0 at h
  refine lv_aload_n C.x C.b dX1_turnsAll_0 rfl (lv_at hl 0 rfl) ?_
  refine lv_iconst (v := 0) C.x C.b dX1_turnsAll_1 ki_0 ?_
  obtain ⟨_, u1, h_1⟩ := ob h
  obtain ⟨v2, s3, hs3, h_2⟩ := ob2 h_1
  refine m_callVN (As := [.int (0 : Int32)]) (rest := []) C hH hL cv_X1_89 (ct_X1_turns l D H0 hs3) u1 ⟨Nat.le_of_ble_eq_true rfl, Nat.le_of_ble_eq_true rfl⟩ rfl hl.1 rfl (Nat.le_of_ble_eq_true rfl) dX1_turnsAll_2 (fun H_3 locs_3 hH_3 hL_3 => ?_)
  refine lv_aload_n C.x C.b dX1_turnsAll_5 rfl (lv_at hl 0 rfl) ?_
  refine lv_iconst (v := 1) C.x C.b dX1_turnsAll_6 ki_1 ?_
  obtain ⟨_, u4, h_4⟩ := ob h_2
  obtain ⟨v5, s6, hs6, h_5⟩ := ob2 h_4
  refine m_callVN (As := [.int (1 : Int32)]) (rest := []) C hH_3 hL_3 cv_X1_89 (ct_X1_turns l D H0 hs6) u4 ⟨Nat.le_of_ble_eq_true rfl, Nat.le_of_ble_eq_true rfl⟩ rfl hl.1 rfl (Nat.le_of_ble_eq_true rfl) dX1_turnsAll_7 (fun H_6 locs_6 hH_6 hL_6 => ?_)
  refine lv_aload_n C.x C.b dX1_turnsAll_10 rfl (lv_at hl 0 rfl) ?_
  refine lv_iconst (v := 2) C.x C.b dX1_turnsAll_11 ki_2 ?_
  obtain ⟨_, u7, h_7⟩ := ob h_5
  obtain ⟨v8, s9, hs9, h_8⟩ := ob2 h_7
  refine m_callVN (As := [.int (2 : Int32)]) (rest := []) C hH_6 hL_6 cv_X1_89 (ct_X1_turns l D H0 hs9) u7 ⟨Nat.le_of_ble_eq_true rfl, Nat.le_of_ble_eq_true rfl⟩ rfl hl.1 rfl (Nat.le_of_ble_eq_true rfl) dX1_turnsAll_12 (fun H_9 locs_9 hH_9 hL_9 => ?_)
  have hz_ := Option.some.inj h_8; subst hz_
  exact m_vret C hH_9 hL_9 hr dX1_turnsAll_15
def f_X1_turnsAll (fu : Nat) (ev : Ev) (σ : Mm) (x0 : Nat) : Option (Unit × Mm) := b_X1_turnsAll_0  fu ev σ x0
set_option maxRecDepth 20000 in
theorem ct_X1_turnsAll (l : Launch) (D : Dx) (H0 : Heap) {σ : Mm} {x0 : Nat} (h : f_X1_turnsAll fu ev σ x0 = some res) : Ct l D H0 ev yX1_turnsAll (ws_ yX1_turnsAll cX1_turnsAll 1 none) 1 22 [.ref x0] σ none res.2 := by
  refine Ct_of (by decide) ?_
  intro p e R s m below meth c C hr hnm hH
  have hl := lv_entry [.ref x0] (n := 1) (Nat.le_of_ble_eq_true rfl)
  rw [lg_entry_eq]
  exact b_X1_turnsAll_0_ok C hr  h s.heap [] _ hH (by simp) (lv_sub hl [0] rfl)
end M_X1_turnsAll
theorem fl_X1_23 : FL RX1 23 1 3 := ⟨_, _, _, _, rfl, in_X1, by decide, q184, Or.inl rfl⟩
/-! CellReducer$Cell.turnsBy(Z)V -/
section M_X1_turnsBy
variable {p : Program} {l : Launch} {e : Env} {R : Room} {s : State} {m : MethodId} {args : Array Value} {below : List Frame} {meth : Method} {c : Code} {D : Dx} {H0 : Heap} {ev : Ev} {fu : Nat} {res : Unit × Mm}
def b_X1_turnsBy_147  (fu : Nat) (ev : Ev) (σ : Mm)  : Option (Unit × Mm) :=
  some ((), σ)
set_option maxRecDepth 20000 in
theorem b_X1_turnsBy_147_ok (C : Cx p m meth c cX1_turnsBy 5 s args RX1 R ev D H0 1 22) (hr : meth.sig.returnType = none)  {σ : Mm}  (h : b_X1_turnsBy_147  fu ev σ  = some res) : GG p l e R s m args below meth c D H0 ev 5 (MQx D H0 ev below args s none res.2) σ 147 [] [] := by
  intro H locs ls hH hL hl
  unfold b_X1_turnsBy_147 at h
  have hz_ := Option.some.inj h; subst hz_
  exact m_vret C hH hL hr dX1_turnsBy_147
def b_X1_turnsBy_141 (R119 : Mm → Nat → Int32 → Option (Unit × Mm)) (fu : Nat) (ev : Ev) (σ : Mm) (x0 : Nat) (x4 : Int32) : Option (Unit × Mm) :=
  R119 σ x0 (x4 + (1 : Int32))
set_option maxRecDepth 20000 in
theorem b_X1_turnsBy_141_ok (C : Cx p m meth c cX1_turnsBy 5 s args RX1 R ev D H0 1 22) (hr : meth.sig.returnType = none) {R119 : Mm → Nat → Int32 → Option (Unit × Mm)} (HR119 : ∀ (σ : Mm) (x0 : Nat) (x4 : Int32), R119 σ x0 x4 = some res → GG p l e R s m args below meth c D H0 ev 5 (MQx D H0 ev below args s none res.2) σ 119 [(0, .ref x0), (4, .int x4)] []) {σ : Mm} {x0 : Nat} {x4 : Int32} (h : b_X1_turnsBy_141 R119 fu ev σ x0 x4 = some res) : GG p l e R s m args below meth c D H0 ev 5 (MQx D H0 ev below args s none res.2) σ 141 [(0, .ref x0), (4, .int x4)] [] := by
  intro H locs ls hH hL hl
  unfold b_X1_turnsBy_141 at h
  refine lv_iinc (v := x4 + (1 : Int32)) (lv' := [(4, .int (x4 + (1 : Int32))), (0, .ref x0)]) C.x C.b dX1_turnsBy_141 hl (k := 1) rfl (by rw [ki_1]) (by decide) rfl (fun ls_1 hl_1 => ?_)
  refine lv_goto (tgt := 119) C.x C.b dX1_turnsBy_144 (by decide) ?_
  exact HR119 _ _ _ h H locs ls_1 hH hL (lv_sub hl_1 [1, 0] rfl)
def b_X1_turnsBy_135 (R119 : Mm → Nat → Int32 → Option (Unit × Mm)) (fu : Nat) (ev : Ev) (σ : Mm) (x0 : Nat) (x4 : Int32) : Option (Unit × Mm) :=
  (isC σ x0 1).bind fun _ =>
  bd2 (f_X1_turns fu ev σ x0 x4) fun v2 s3 =>
  b_X1_turnsBy_141 R119 fu ev s3 x0 x4
set_option maxRecDepth 20000 in
theorem b_X1_turnsBy_135_ok (C : Cx p m meth c cX1_turnsBy 5 s args RX1 R ev D H0 1 22) (hr : meth.sig.returnType = none) {R119 : Mm → Nat → Int32 → Option (Unit × Mm)} (HR119 : ∀ (σ : Mm) (x0 : Nat) (x4 : Int32), R119 σ x0 x4 = some res → GG p l e R s m args below meth c D H0 ev 5 (MQx D H0 ev below args s none res.2) σ 119 [(0, .ref x0), (4, .int x4)] []) {σ : Mm} {x0 : Nat} {x4 : Int32} (h : b_X1_turnsBy_135 R119 fu ev σ x0 x4 = some res) : GG p l e R s m args below meth c D H0 ev 5 (MQx D H0 ev below args s none res.2) σ 135 [(0, .ref x0), (4, .int x4)] [] := by
  intro H locs ls hH hL hl
  unfold b_X1_turnsBy_135 at h
  refine lv_aload_n C.x C.b dX1_turnsBy_135 rfl (lv_at hl 0 rfl) ?_
  refine lv_iload C.x C.b dX1_turnsBy_136 (lv_at hl 1 rfl) ?_
  obtain ⟨_, u1, h_1⟩ := ob h
  obtain ⟨v2, s3, hs3, h_2⟩ := ob2 h_1
  refine m_callVN (As := [.int x4]) (rest := []) C hH hL cv_X1_89 (ct_X1_turns l D H0 hs3) u1 ⟨Nat.le_of_ble_eq_true rfl, Nat.le_of_ble_eq_true rfl⟩ rfl hl.1 rfl (Nat.le_of_ble_eq_true rfl) dX1_turnsBy_138 (fun H_3 locs_3 hH_3 hL_3 => ?_)
  exact b_X1_turnsBy_141_ok C hr HR119 h_2 H_3 locs_3 ls hH_3 hL_3 (lv_sub hl [0, 1] rfl)
def b_X1_turnsBy_125 (R119 : Mm → Nat → Int32 → Option (Unit × Mm)) (fu : Nat) (ev : Ev) (σ : Mm) (x0 : Nat) (x4 : Int32) : Option (Unit × Mm) :=
  (gfA σ x0 1 3).bind fun v1 =>
  v1.bind fun a2 =>
  (aldI 2 σ a2 x4).bind fun v3 =>
  if v3 = 0 then b_X1_turnsBy_141 R119 fu ev σ x0 x4 else b_X1_turnsBy_135 R119 fu ev σ x0 x4
set_option maxRecDepth 20000 in
theorem b_X1_turnsBy_125_ok (C : Cx p m meth c cX1_turnsBy 5 s args RX1 R ev D H0 1 22) (hr : meth.sig.returnType = none) {R119 : Mm → Nat → Int32 → Option (Unit × Mm)} (HR119 : ∀ (σ : Mm) (x0 : Nat) (x4 : Int32), R119 σ x0 x4 = some res → GG p l e R s m args below meth c D H0 ev 5 (MQx D H0 ev below args s none res.2) σ 119 [(0, .ref x0), (4, .int x4)] []) {σ : Mm} {x0 : Nat} {x4 : Int32} (h : b_X1_turnsBy_125 R119 fu ev σ x0 x4 = some res) : GG p l e R s m args below meth c D H0 ev 5 (MQx D H0 ev below args s none res.2) σ 125 [(0, .ref x0), (4, .int x4)] [] := by
  intro H locs ls hH hL hl
  unfold b_X1_turnsBy_125 at h
  refine lv_aload_n C.x C.b dX1_turnsBy_125 rfl (lv_at hl 0 rfl) ?_
  obtain ⟨v1, hv1, h_1⟩ := ob h
  refine m_getA C hH fl_X1_23 hv1 dX1_turnsBy_126 ?_
  refine lv_iload C.x C.b dX1_turnsBy_129 (lv_at hl 1 rfl) ?_
  obtain ⟨a2, e_, h_2⟩ := ob h_1; subst e_
  obtain ⟨v3, hv3, h_3⟩ := ob h_2
  refine m_zald C hH hv3 dX1_turnsBy_131 ?_
  refine lv_if_eq (tgt := 141) C.x C.b dX1_turnsBy_132 (by decide) (fun q => ?_) (fun q => ?_)
  · exact b_X1_turnsBy_141_ok C hr HR119 (cp h_3 q) H locs ls hH hL (lv_sub hl [0, 1] rfl)
  · exact b_X1_turnsBy_135_ok C hr HR119 (cn h_3 q) H locs ls hH hL (lv_sub hl [0, 1] rfl)
def b_X1_turnsBy_119 (R119 : Mm → Nat → Int32 → Option (Unit × Mm)) (fu : Nat) (ev : Ev) (σ : Mm) (x0 : Nat) (x4 : Int32) : Option (Unit × Mm) :=
  if (3 : Int32) ≤ x4 then b_X1_turnsBy_147  fu ev σ  else b_X1_turnsBy_125 R119 fu ev σ x0 x4
set_option maxRecDepth 20000 in
theorem b_X1_turnsBy_119_ok (C : Cx p m meth c cX1_turnsBy 5 s args RX1 R ev D H0 1 22) (hr : meth.sig.returnType = none) {R119 : Mm → Nat → Int32 → Option (Unit × Mm)} (HR119 : ∀ (σ : Mm) (x0 : Nat) (x4 : Int32), R119 σ x0 x4 = some res → GG p l e R s m args below meth c D H0 ev 5 (MQx D H0 ev below args s none res.2) σ 119 [(0, .ref x0), (4, .int x4)] []) {σ : Mm} {x0 : Nat} {x4 : Int32} (h : b_X1_turnsBy_119 R119 fu ev σ x0 x4 = some res) : GG p l e R s m args below meth c D H0 ev 5 (MQx D H0 ev below args s none res.2) σ 119 [(0, .ref x0), (4, .int x4)] [] := by
  intro H locs ls hH hL hl
  unfold b_X1_turnsBy_119 at h
  refine lv_iload C.x C.b dX1_turnsBy_119 (lv_at hl 1 rfl) ?_
  refine lv_iconst (v := 3) C.x C.b dX1_turnsBy_121 ki_3 ?_
  refine lv_icmp_ge (tgt := 147) C.x C.b dX1_turnsBy_122 (by decide) (fun q => ?_) (fun q => ?_)
  · exact b_X1_turnsBy_147_ok C hr  (cp h q) H locs ls hH hL (lv_sub hl [] rfl)
  · exact b_X1_turnsBy_125_ok C hr HR119 (cn h q) H locs ls hH hL (lv_sub hl [0, 1] rfl)
def L_X1_turnsBy_119  (fu : Nat) (ev : Ev) : Nat → Mm → Nat → Int32 → Option (Unit × Mm)
  | 0, _, _, _ => none
  | n + 1, σ, x0, x4 => b_X1_turnsBy_119  (L_X1_turnsBy_119  fu ev n) fu ev σ x0 x4
theorem L_X1_turnsBy_119_ok (C : Cx p m meth c cX1_turnsBy 5 s args RX1 R ev D H0 1 22) (hr : meth.sig.returnType = none)  : ∀ (n : Nat) {σ : Mm} {x0 : Nat} {x4 : Int32}, L_X1_turnsBy_119  fu ev n σ x0 x4 = some res → GG p l e R s m args below meth c D H0 ev 5 (MQx D H0 ev below args s none res.2) σ 119 [(0, .ref x0), (4, .int x4)] [] := by
  intro n
  induction n with
  | zero => intro σ x0 x4 h; exact (Option.some_ne_none _ (Eq.symm h)).elim
  | succ n ih => intro σ x0 x4 h; exact b_X1_turnsBy_119_ok C hr  (fun σ _ _ h => ih h) h
def b_X1_turnsBy_116  (fu : Nat) (ev : Ev) (σ : Mm) (x0 : Nat) : Option (Unit × Mm) :=
  L_X1_turnsBy_119  fu ev fu σ x0 (0 : Int32)
set_option maxRecDepth 20000 in
theorem b_X1_turnsBy_116_ok (C : Cx p m meth c cX1_turnsBy 5 s args RX1 R ev D H0 1 22) (hr : meth.sig.returnType = none)  {σ : Mm} {x0 : Nat} (h : b_X1_turnsBy_116  fu ev σ x0 = some res) : GG p l e R s m args below meth c D H0 ev 5 (MQx D H0 ev below args s none res.2) σ 116 [(0, .ref x0)] [] := by
  intro H locs ls hH hL hl
  unfold b_X1_turnsBy_116 at h
  refine lv_iconst (v := 0) C.x C.b dX1_turnsBy_116 ki_0 ?_
  refine lv_istore (i := 4) (lv' := [(4, .int (0 : Int32)), (0, .ref x0)]) C.x C.b dX1_turnsBy_117 hl (by decide) rfl (fun ls_1 hl_1 => ?_)
  exact L_X1_turnsBy_119_ok C hr  fu h H locs ls_1 hH hL (lv_sub hl_1 [1, 0] rfl)
def b_X1_turnsBy_109  (fu : Nat) (ev : Ev) (σ : Mm) (x0 : Nat) (x3 : Int32) : Option (Unit × Mm) :=
  (gfA σ x0 1 3).bind fun v1 =>
  v1.bind fun a2 =>
  (astI ev 2 σ a2 x3 (1 : Int32)).bind fun s3 =>
  b_X1_turnsBy_116  fu ev s3 x0
set_option maxRecDepth 20000 in
theorem b_X1_turnsBy_109_ok (C : Cx p m meth c cX1_turnsBy 5 s args RX1 R ev D H0 1 22) (hr : meth.sig.returnType = none)  {σ : Mm} {x0 : Nat} {x3 : Int32} (h : b_X1_turnsBy_109  fu ev σ x0 x3 = some res) : GG p l e R s m args below meth c D H0 ev 5 (MQx D H0 ev below args s none res.2) σ 109 [(0, .ref x0), (3, .int x3)] [] := by
  intro H locs ls hH hL hl
  unfold b_X1_turnsBy_109 at h
  refine lv_aload_n C.x C.b dX1_turnsBy_109 rfl (lv_at hl 0 rfl) ?_
  obtain ⟨v1, hv1, h_1⟩ := ob h
  refine m_getA C hH fl_X1_23 hv1 dX1_turnsBy_110 ?_
  refine lv_iload_n C.x C.b dX1_turnsBy_113 rfl (lv_at hl 1 rfl) ?_
  refine lv_iconst (v := 1) C.x C.b dX1_turnsBy_114 ki_1 ?_
  obtain ⟨a2, e_, h_2⟩ := ob h_1; subst e_
  obtain ⟨s3, hs3, h_3⟩ := ob h_2
  refine m_zast C hH hL hs3 dX1_turnsBy_115 (fun H_4 locs_4 hH_4 hL_4 => ?_)
  exact b_X1_turnsBy_116_ok C hr  h_3 H_4 locs_4 ls hH_4 hL_4 (lv_sub hl [0] rfl)
def b_X1_turnsBy_104  (fu : Nat) (ev : Ev) (σ : Mm) (x0 : Nat) (x2 : Int32) (x3 : Int32) : Option (Unit × Mm) :=
  if x2 = (1 : Int32) then b_X1_turnsBy_109  fu ev σ x0 x3 else b_X1_turnsBy_116  fu ev σ x0
set_option maxRecDepth 20000 in
theorem b_X1_turnsBy_104_ok (C : Cx p m meth c cX1_turnsBy 5 s args RX1 R ev D H0 1 22) (hr : meth.sig.returnType = none)  {σ : Mm} {x0 : Nat} {x2 : Int32} {x3 : Int32} (h : b_X1_turnsBy_104  fu ev σ x0 x2 x3 = some res) : GG p l e R s m args below meth c D H0 ev 5 (MQx D H0 ev below args s none res.2) σ 104 [(0, .ref x0), (2, .int x2), (3, .int x3)] [] := by
  intro H locs ls hH hL hl
  unfold b_X1_turnsBy_104 at h
  refine lv_iload_n C.x C.b dX1_turnsBy_104 rfl (lv_at hl 1 rfl) ?_
  refine lv_iconst (v := 1) C.x C.b dX1_turnsBy_105 ki_1 ?_
  refine lv_icmp_ne (tgt := 116) C.x C.b dX1_turnsBy_106 (by decide) (fun q => ?_) (fun q => ?_)
  · exact b_X1_turnsBy_116_ok C hr  (cn h q) H locs ls hH hL (lv_sub hl [0] rfl)
  · exact b_X1_turnsBy_109_ok C hr  (cp h q) H locs ls hH hL (lv_sub hl [0, 2] rfl)
def b_X1_turnsBy_97 (R7 : Mm → Nat → Int32 → Int32 → Int32 → Int32 → Option (Unit × Mm)) (fu : Nat) (ev : Ev) (σ : Mm) (x0 : Nat) (x1 : Int32) (x2 : Int32) (x4 : Int32) (t0 : Int32) : Option (Unit × Mm) :=
  R7 σ x0 x1 x2 t0 (x4 + (1 : Int32))
set_option maxRecDepth 20000 in
theorem b_X1_turnsBy_97_ok (C : Cx p m meth c cX1_turnsBy 5 s args RX1 R ev D H0 1 22) (hr : meth.sig.returnType = none) {R7 : Mm → Nat → Int32 → Int32 → Int32 → Int32 → Option (Unit × Mm)} (HR7 : ∀ (σ : Mm) (x0 : Nat) (x1 : Int32) (x2 : Int32) (x3 : Int32) (x4 : Int32), R7 σ x0 x1 x2 x3 x4 = some res → GG p l e R s m args below meth c D H0 ev 5 (MQx D H0 ev below args s none res.2) σ 7 [(0, .ref x0), (1, .int x1), (2, .int x2), (3, .int x3), (4, .int x4)] []) {σ : Mm} {x0 : Nat} {x1 : Int32} {x2 : Int32} {x4 : Int32} {t0 : Int32} (h : b_X1_turnsBy_97 R7 fu ev σ x0 x1 x2 x4 t0 = some res) : GG p l e R s m args below meth c D H0 ev 5 (MQx D H0 ev below args s none res.2) σ 97 [(0, .ref x0), (1, .int x1), (2, .int x2), (4, .int x4)] [.int t0] := by
  intro H locs ls hH hL hl
  unfold b_X1_turnsBy_97 at h
  refine lv_istore_n (i := 3) (lv' := [(3, .int t0), (0, .ref x0), (1, .int x1), (2, .int x2), (4, .int x4)]) C.x C.b dX1_turnsBy_97 rfl hl (by decide) rfl (fun ls_1 hl_1 => ?_)
  refine lv_iinc (v := x4 + (1 : Int32)) (lv' := [(4, .int (x4 + (1 : Int32))), (3, .int t0), (0, .ref x0), (1, .int x1), (2, .int x2)]) C.x C.b dX1_turnsBy_98 hl_1 (k := 4) rfl (by rw [ki_1]) (by decide) rfl (fun ls_2 hl_2 => ?_)
  refine lv_goto (tgt := 7) C.x C.b dX1_turnsBy_101 (by decide) ?_
  exact HR7 _ _ _ _ _ _ h H locs ls_2 hH hL (lv_sub hl_2 [2, 3, 4, 1, 0] rfl)
def b_X1_turnsBy_96 (R7 : Mm → Nat → Int32 → Int32 → Int32 → Int32 → Option (Unit × Mm)) (fu : Nat) (ev : Ev) (σ : Mm) (x0 : Nat) (x1 : Int32) (x2 : Int32) (x3 : Int32) (x4 : Int32) : Option (Unit × Mm) :=
  b_X1_turnsBy_97 R7 fu ev σ x0 x1 x2 x4 x3
set_option maxRecDepth 20000 in
theorem b_X1_turnsBy_96_ok (C : Cx p m meth c cX1_turnsBy 5 s args RX1 R ev D H0 1 22) (hr : meth.sig.returnType = none) {R7 : Mm → Nat → Int32 → Int32 → Int32 → Int32 → Option (Unit × Mm)} (HR7 : ∀ (σ : Mm) (x0 : Nat) (x1 : Int32) (x2 : Int32) (x3 : Int32) (x4 : Int32), R7 σ x0 x1 x2 x3 x4 = some res → GG p l e R s m args below meth c D H0 ev 5 (MQx D H0 ev below args s none res.2) σ 7 [(0, .ref x0), (1, .int x1), (2, .int x2), (3, .int x3), (4, .int x4)] []) {σ : Mm} {x0 : Nat} {x1 : Int32} {x2 : Int32} {x3 : Int32} {x4 : Int32} (h : b_X1_turnsBy_96 R7 fu ev σ x0 x1 x2 x3 x4 = some res) : GG p l e R s m args below meth c D H0 ev 5 (MQx D H0 ev below args s none res.2) σ 96 [(0, .ref x0), (1, .int x1), (2, .int x2), (3, .int x3), (4, .int x4)] [] := by
  intro H locs ls hH hL hl
  unfold b_X1_turnsBy_96 at h
  refine lv_iload_n C.x C.b dX1_turnsBy_96 rfl (lv_at hl 3 rfl) ?_
  exact b_X1_turnsBy_97_ok C hr HR7 h H locs ls hH hL (lv_sub hl [0, 1, 2, 4] rfl)
def b_X1_turnsBy_91 (R7 : Mm → Nat → Int32 → Int32 → Int32 → Int32 → Option (Unit × Mm)) (fu : Nat) (ev : Ev) (σ : Mm) (x0 : Nat) (x1 : Int32) (x2 : Int32) (x4 : Int32) : Option (Unit × Mm) :=
  b_X1_turnsBy_97 R7 fu ev σ x0 x1 x2 x4 x4
set_option maxRecDepth 20000 in
theorem b_X1_turnsBy_91_ok (C : Cx p m meth c cX1_turnsBy 5 s args RX1 R ev D H0 1 22) (hr : meth.sig.returnType = none) {R7 : Mm → Nat → Int32 → Int32 → Int32 → Int32 → Option (Unit × Mm)} (HR7 : ∀ (σ : Mm) (x0 : Nat) (x1 : Int32) (x2 : Int32) (x3 : Int32) (x4 : Int32), R7 σ x0 x1 x2 x3 x4 = some res → GG p l e R s m args below meth c D H0 ev 5 (MQx D H0 ev below args s none res.2) σ 7 [(0, .ref x0), (1, .int x1), (2, .int x2), (3, .int x3), (4, .int x4)] []) {σ : Mm} {x0 : Nat} {x1 : Int32} {x2 : Int32} {x4 : Int32} (h : b_X1_turnsBy_91 R7 fu ev σ x0 x1 x2 x4 = some res) : GG p l e R s m args below meth c D H0 ev 5 (MQx D H0 ev below args s none res.2) σ 91 [(0, .ref x0), (1, .int x1), (2, .int x2), (4, .int x4)] [] := by
  intro H locs ls hH hL hl
  unfold b_X1_turnsBy_91 at h
  refine lv_iload C.x C.b dX1_turnsBy_91 (lv_at hl 3 rfl) ?_
  refine lv_goto (tgt := 97) C.x C.b dX1_turnsBy_93 (by decide) ?_
  exact b_X1_turnsBy_97_ok C hr HR7 h H locs ls hH hL (lv_sub hl [0, 1, 2, 3] rfl)
def b_X1_turnsBy_77 (R7 : Mm → Nat → Int32 → Int32 → Int32 → Int32 → Option (Unit × Mm)) (fu : Nat) (ev : Ev) (σ : Mm) (x0 : Nat) (x1 : Int32) (x3 : Int32) (x4 : Int32) (t0 : Int32) (t1 : Int32) : Option (Unit × Mm) :=
  (gfA σ x0 1 1).bind fun v1 =>
  v1.bind fun a2 =>
  (aldJ σ a2 x4).bind fun v3 =>
  if v3 = (0 : Int64) then b_X1_turnsBy_91 R7 fu ev σ x0 x1 (t0 + t1) x4 else b_X1_turnsBy_96 R7 fu ev σ x0 x1 (t0 + t1) x3 x4
set_option maxRecDepth 20000 in
theorem b_X1_turnsBy_77_ok (C : Cx p m meth c cX1_turnsBy 5 s args RX1 R ev D H0 1 22) (hr : meth.sig.returnType = none) {R7 : Mm → Nat → Int32 → Int32 → Int32 → Int32 → Option (Unit × Mm)} (HR7 : ∀ (σ : Mm) (x0 : Nat) (x1 : Int32) (x2 : Int32) (x3 : Int32) (x4 : Int32), R7 σ x0 x1 x2 x3 x4 = some res → GG p l e R s m args below meth c D H0 ev 5 (MQx D H0 ev below args s none res.2) σ 7 [(0, .ref x0), (1, .int x1), (2, .int x2), (3, .int x3), (4, .int x4)] []) {σ : Mm} {x0 : Nat} {x1 : Int32} {x3 : Int32} {x4 : Int32} {t0 : Int32} {t1 : Int32} (h : b_X1_turnsBy_77 R7 fu ev σ x0 x1 x3 x4 t0 t1 = some res) : GG p l e R s m args below meth c D H0 ev 5 (MQx D H0 ev below args s none res.2) σ 77 [(0, .ref x0), (1, .int x1), (3, .int x3), (4, .int x4)] [.int t1, .int t0] := by
  intro H locs ls hH hL hl
  unfold b_X1_turnsBy_77 at h
  refine lv_iadd C.x C.b dX1_turnsBy_77 ?_
  refine lv_istore_n (i := 2) (lv' := [(2, .int (t0 + t1)), (0, .ref x0), (1, .int x1), (3, .int x3), (4, .int x4)]) C.x C.b dX1_turnsBy_78 rfl hl (by decide) rfl (fun ls_1 hl_1 => ?_)
  refine lv_aload_n C.x C.b dX1_turnsBy_79 rfl (lv_at hl_1 1 rfl) ?_
  obtain ⟨v1, hv1, h_2⟩ := ob h
  refine m_getA C hH fl_X1_15 hv1 dX1_turnsBy_80 ?_
  refine lv_iload C.x C.b dX1_turnsBy_83 (lv_at hl_1 4 rfl) ?_
  obtain ⟨a2, e_, h_3⟩ := ob h_2; subst e_
  obtain ⟨v3, hv3, h_4⟩ := ob h_3
  refine m_lald C hH hv3 dX1_turnsBy_85 ?_
  refine lv_lconst (v := 0) C.x C.b dX1_turnsBy_86 rfl ?_
  refine r_lc_ne (tgt := 96) C.x C.b dX1_turnsBy_87 dX1_turnsBy_88 (by decide) (fun q => ?_) (fun q => ?_)
  · exact b_X1_turnsBy_96_ok C hr HR7 (cn h_4 q) H locs ls_1 hH hL (lv_sub hl_1 [1, 2, 0, 3, 4] rfl)
  · exact b_X1_turnsBy_91_ok C hr HR7 (cp h_4 q) H locs ls_1 hH hL (lv_sub hl_1 [1, 2, 0, 4] rfl)
def b_X1_turnsBy_76 (R7 : Mm → Nat → Int32 → Int32 → Int32 → Int32 → Option (Unit × Mm)) (fu : Nat) (ev : Ev) (σ : Mm) (x0 : Nat) (x1 : Int32) (x3 : Int32) (x4 : Int32) (t0 : Int32) : Option (Unit × Mm) :=
  b_X1_turnsBy_77 R7 fu ev σ x0 x1 x3 x4 t0 (0 : Int32)
set_option maxRecDepth 20000 in
theorem b_X1_turnsBy_76_ok (C : Cx p m meth c cX1_turnsBy 5 s args RX1 R ev D H0 1 22) (hr : meth.sig.returnType = none) {R7 : Mm → Nat → Int32 → Int32 → Int32 → Int32 → Option (Unit × Mm)} (HR7 : ∀ (σ : Mm) (x0 : Nat) (x1 : Int32) (x2 : Int32) (x3 : Int32) (x4 : Int32), R7 σ x0 x1 x2 x3 x4 = some res → GG p l e R s m args below meth c D H0 ev 5 (MQx D H0 ev below args s none res.2) σ 7 [(0, .ref x0), (1, .int x1), (2, .int x2), (3, .int x3), (4, .int x4)] []) {σ : Mm} {x0 : Nat} {x1 : Int32} {x3 : Int32} {x4 : Int32} {t0 : Int32} (h : b_X1_turnsBy_76 R7 fu ev σ x0 x1 x3 x4 t0 = some res) : GG p l e R s m args below meth c D H0 ev 5 (MQx D H0 ev below args s none res.2) σ 76 [(0, .ref x0), (1, .int x1), (3, .int x3), (4, .int x4)] [.int t0] := by
  intro H locs ls hH hL hl
  unfold b_X1_turnsBy_76 at h
  refine lv_iconst (v := 0) C.x C.b dX1_turnsBy_76 ki_0 ?_
  exact b_X1_turnsBy_77_ok C hr HR7 h H locs ls hH hL (lv_sub hl [0, 1, 2, 3] rfl)
def b_X1_turnsBy_72 (R7 : Mm → Nat → Int32 → Int32 → Int32 → Int32 → Option (Unit × Mm)) (fu : Nat) (ev : Ev) (σ : Mm) (x0 : Nat) (x1 : Int32) (x3 : Int32) (x4 : Int32) (t0 : Int32) : Option (Unit × Mm) :=
  b_X1_turnsBy_77 R7 fu ev σ x0 x1 x3 x4 t0 (1 : Int32)
set_option maxRecDepth 20000 in
theorem b_X1_turnsBy_72_ok (C : Cx p m meth c cX1_turnsBy 5 s args RX1 R ev D H0 1 22) (hr : meth.sig.returnType = none) {R7 : Mm → Nat → Int32 → Int32 → Int32 → Int32 → Option (Unit × Mm)} (HR7 : ∀ (σ : Mm) (x0 : Nat) (x1 : Int32) (x2 : Int32) (x3 : Int32) (x4 : Int32), R7 σ x0 x1 x2 x3 x4 = some res → GG p l e R s m args below meth c D H0 ev 5 (MQx D H0 ev below args s none res.2) σ 7 [(0, .ref x0), (1, .int x1), (2, .int x2), (3, .int x3), (4, .int x4)] []) {σ : Mm} {x0 : Nat} {x1 : Int32} {x3 : Int32} {x4 : Int32} {t0 : Int32} (h : b_X1_turnsBy_72 R7 fu ev σ x0 x1 x3 x4 t0 = some res) : GG p l e R s m args below meth c D H0 ev 5 (MQx D H0 ev below args s none res.2) σ 72 [(0, .ref x0), (1, .int x1), (3, .int x3), (4, .int x4)] [.int t0] := by
  intro H locs ls hH hL hl
  unfold b_X1_turnsBy_72 at h
  refine lv_iconst (v := 1) C.x C.b dX1_turnsBy_72 ki_1 ?_
  refine lv_goto (tgt := 77) C.x C.b dX1_turnsBy_73 (by decide) ?_
  exact b_X1_turnsBy_77_ok C hr HR7 h H locs ls hH hL (lv_sub hl [0, 1, 2, 3] rfl)
def b_X1_turnsBy_60 (R7 : Mm → Nat → Int32 → Int32 → Int32 → Int32 → Option (Unit × Mm)) (fu : Nat) (ev : Ev) (σ : Mm) (x0 : Nat) (x1 : Int32) (x2 : Int32) (x3 : Int32) (x4 : Int32) (t0 : Option Nat) (t1 : Int32) (t2 : Int32) : Option (Unit × Mm) :=
  t0.bind fun a1 =>
  (astI ev 2 σ a1 t1 t2).bind fun s2 =>
  (gfA s2 x0 1 3).bind fun v3 =>
  v3.bind fun a4 =>
  (aldI 2 s2 a4 x4).bind fun v5 =>
  if v5 = 0 then b_X1_turnsBy_76 R7 fu ev s2 x0 x1 x3 x4 x2 else b_X1_turnsBy_72 R7 fu ev s2 x0 x1 x3 x4 x2
set_option maxRecDepth 20000 in
theorem b_X1_turnsBy_60_ok (C : Cx p m meth c cX1_turnsBy 5 s args RX1 R ev D H0 1 22) (hr : meth.sig.returnType = none) {R7 : Mm → Nat → Int32 → Int32 → Int32 → Int32 → Option (Unit × Mm)} (HR7 : ∀ (σ : Mm) (x0 : Nat) (x1 : Int32) (x2 : Int32) (x3 : Int32) (x4 : Int32), R7 σ x0 x1 x2 x3 x4 = some res → GG p l e R s m args below meth c D H0 ev 5 (MQx D H0 ev below args s none res.2) σ 7 [(0, .ref x0), (1, .int x1), (2, .int x2), (3, .int x3), (4, .int x4)] []) {σ : Mm} {x0 : Nat} {x1 : Int32} {x2 : Int32} {x3 : Int32} {x4 : Int32} {t0 : Option Nat} {t1 : Int32} {t2 : Int32} (h : b_X1_turnsBy_60 R7 fu ev σ x0 x1 x2 x3 x4 t0 t1 t2 = some res) : GG p l e R s m args below meth c D H0 ev 5 (MQx D H0 ev below args s none res.2) σ 60 [(0, .ref x0), (1, .int x1), (2, .int x2), (3, .int x3), (4, .int x4)] [.int t2, .int t1, va_rf t0] := by
  intro H locs ls hH hL hl
  unfold b_X1_turnsBy_60 at h
  obtain ⟨a1, e_, h_1⟩ := ob h; subst e_
  obtain ⟨s2, hs2, h_2⟩ := ob h_1
  refine m_zast C hH hL hs2 dX1_turnsBy_60 (fun H_3 locs_3 hH_3 hL_3 => ?_)
  refine lv_iload_n C.x C.b dX1_turnsBy_61 rfl (lv_at hl 2 rfl) ?_
  refine lv_aload_n C.x C.b dX1_turnsBy_62 rfl (lv_at hl 0 rfl) ?_
  obtain ⟨v3, hv3, h_4⟩ := ob h_2
  refine m_getA C hH_3 fl_X1_23 hv3 dX1_turnsBy_63 ?_
  refine lv_iload C.x C.b dX1_turnsBy_66 (lv_at hl 4 rfl) ?_
  obtain ⟨a4, e_, h_5⟩ := ob h_4; subst e_
  obtain ⟨v5, hv5, h_6⟩ := ob h_5
  refine m_zald C hH_3 hv5 dX1_turnsBy_68 ?_
  refine lv_if_eq (tgt := 76) C.x C.b dX1_turnsBy_69 (by decide) (fun q => ?_) (fun q => ?_)
  · exact b_X1_turnsBy_76_ok C hr HR7 (cp h_6 q) H_3 locs_3 ls hH_3 hL_3 (lv_sub hl [0, 1, 3, 4] rfl)
  · exact b_X1_turnsBy_72_ok C hr HR7 (cn h_6 q) H_3 locs_3 ls hH_3 hL_3 (lv_sub hl [0, 1, 3, 4] rfl)
def b_X1_turnsBy_59 (R7 : Mm → Nat → Int32 → Int32 → Int32 → Int32 → Option (Unit × Mm)) (fu : Nat) (ev : Ev) (σ : Mm) (x0 : Nat) (x1 : Int32) (x2 : Int32) (x3 : Int32) (x4 : Int32) (t0 : Option Nat) (t1 : Int32) : Option (Unit × Mm) :=
  b_X1_turnsBy_60 R7 fu ev σ x0 x1 x2 x3 x4 t0 t1 (0 : Int32)
set_option maxRecDepth 20000 in
theorem b_X1_turnsBy_59_ok (C : Cx p m meth c cX1_turnsBy 5 s args RX1 R ev D H0 1 22) (hr : meth.sig.returnType = none) {R7 : Mm → Nat → Int32 → Int32 → Int32 → Int32 → Option (Unit × Mm)} (HR7 : ∀ (σ : Mm) (x0 : Nat) (x1 : Int32) (x2 : Int32) (x3 : Int32) (x4 : Int32), R7 σ x0 x1 x2 x3 x4 = some res → GG p l e R s m args below meth c D H0 ev 5 (MQx D H0 ev below args s none res.2) σ 7 [(0, .ref x0), (1, .int x1), (2, .int x2), (3, .int x3), (4, .int x4)] []) {σ : Mm} {x0 : Nat} {x1 : Int32} {x2 : Int32} {x3 : Int32} {x4 : Int32} {t0 : Option Nat} {t1 : Int32} (h : b_X1_turnsBy_59 R7 fu ev σ x0 x1 x2 x3 x4 t0 t1 = some res) : GG p l e R s m args below meth c D H0 ev 5 (MQx D H0 ev below args s none res.2) σ 59 [(0, .ref x0), (1, .int x1), (2, .int x2), (3, .int x3), (4, .int x4)] [.int t1, va_rf t0] := by
  intro H locs ls hH hL hl
  unfold b_X1_turnsBy_59 at h
  refine lv_iconst (v := 0) C.x C.b dX1_turnsBy_59 ki_0 ?_
  exact b_X1_turnsBy_60_ok C hr HR7 h H locs ls hH hL (lv_sub hl [0, 1, 2, 3, 4] rfl)
def b_X1_turnsBy_55 (R7 : Mm → Nat → Int32 → Int32 → Int32 → Int32 → Option (Unit × Mm)) (fu : Nat) (ev : Ev) (σ : Mm) (x0 : Nat) (x1 : Int32) (x2 : Int32) (x3 : Int32) (x4 : Int32) (t0 : Option Nat) (t1 : Int32) : Option (Unit × Mm) :=
  b_X1_turnsBy_60 R7 fu ev σ x0 x1 x2 x3 x4 t0 t1 (1 : Int32)
set_option maxRecDepth 20000 in
theorem b_X1_turnsBy_55_ok (C : Cx p m meth c cX1_turnsBy 5 s args RX1 R ev D H0 1 22) (hr : meth.sig.returnType = none) {R7 : Mm → Nat → Int32 → Int32 → Int32 → Int32 → Option (Unit × Mm)} (HR7 : ∀ (σ : Mm) (x0 : Nat) (x1 : Int32) (x2 : Int32) (x3 : Int32) (x4 : Int32), R7 σ x0 x1 x2 x3 x4 = some res → GG p l e R s m args below meth c D H0 ev 5 (MQx D H0 ev below args s none res.2) σ 7 [(0, .ref x0), (1, .int x1), (2, .int x2), (3, .int x3), (4, .int x4)] []) {σ : Mm} {x0 : Nat} {x1 : Int32} {x2 : Int32} {x3 : Int32} {x4 : Int32} {t0 : Option Nat} {t1 : Int32} (h : b_X1_turnsBy_55 R7 fu ev σ x0 x1 x2 x3 x4 t0 t1 = some res) : GG p l e R s m args below meth c D H0 ev 5 (MQx D H0 ev below args s none res.2) σ 55 [(0, .ref x0), (1, .int x1), (2, .int x2), (3, .int x3), (4, .int x4)] [.int t1, va_rf t0] := by
  intro H locs ls hH hL hl
  unfold b_X1_turnsBy_55 at h
  refine lv_iconst (v := 1) C.x C.b dX1_turnsBy_55 ki_1 ?_
  refine lv_goto (tgt := 60) C.x C.b dX1_turnsBy_56 (by decide) ?_
  exact b_X1_turnsBy_60_ok C hr HR7 h H locs ls hH hL (lv_sub hl [0, 1, 2, 3, 4] rfl)
def b_X1_turnsBy_43 (R7 : Mm → Nat → Int32 → Int32 → Int32 → Int32 → Option (Unit × Mm)) (fu : Nat) (ev : Ev) (σ : Mm) (x0 : Nat) (x1 : Int32) (x2 : Int32) (x3 : Int32) (x4 : Int32) (t0 : Option Nat) (t1 : Int32) : Option (Unit × Mm) :=
  (gfA σ x0 1 1).bind fun v1 =>
  v1.bind fun a2 =>
  (aldJ σ a2 x4).bind fun v3 =>
  if (0 : Int64) ≤ v3 then b_X1_turnsBy_59 R7 fu ev σ x0 x1 x2 x3 x4 t0 t1 else b_X1_turnsBy_55 R7 fu ev σ x0 x1 x2 x3 x4 t0 t1
set_option maxRecDepth 20000 in
theorem b_X1_turnsBy_43_ok (C : Cx p m meth c cX1_turnsBy 5 s args RX1 R ev D H0 1 22) (hr : meth.sig.returnType = none) {R7 : Mm → Nat → Int32 → Int32 → Int32 → Int32 → Option (Unit × Mm)} (HR7 : ∀ (σ : Mm) (x0 : Nat) (x1 : Int32) (x2 : Int32) (x3 : Int32) (x4 : Int32), R7 σ x0 x1 x2 x3 x4 = some res → GG p l e R s m args below meth c D H0 ev 5 (MQx D H0 ev below args s none res.2) σ 7 [(0, .ref x0), (1, .int x1), (2, .int x2), (3, .int x3), (4, .int x4)] []) {σ : Mm} {x0 : Nat} {x1 : Int32} {x2 : Int32} {x3 : Int32} {x4 : Int32} {t0 : Option Nat} {t1 : Int32} (h : b_X1_turnsBy_43 R7 fu ev σ x0 x1 x2 x3 x4 t0 t1 = some res) : GG p l e R s m args below meth c D H0 ev 5 (MQx D H0 ev below args s none res.2) σ 43 [(0, .ref x0), (1, .int x1), (2, .int x2), (3, .int x3), (4, .int x4)] [.int t1, va_rf t0] := by
  intro H locs ls hH hL hl
  unfold b_X1_turnsBy_43 at h
  refine lv_aload_n C.x C.b dX1_turnsBy_43 rfl (lv_at hl 0 rfl) ?_
  obtain ⟨v1, hv1, h_1⟩ := ob h
  refine m_getA C hH fl_X1_15 hv1 dX1_turnsBy_44 ?_
  refine lv_iload C.x C.b dX1_turnsBy_47 (lv_at hl 4 rfl) ?_
  obtain ⟨a2, e_, h_2⟩ := ob h_1; subst e_
  obtain ⟨v3, hv3, h_3⟩ := ob h_2
  refine m_lald C hH hv3 dX1_turnsBy_49 ?_
  refine lv_lconst (v := 0) C.x C.b dX1_turnsBy_50 rfl ?_
  refine r_lc_ge (tgt := 59) C.x C.b dX1_turnsBy_51 dX1_turnsBy_52 (by decide) (fun q => ?_) (fun q => ?_)
  · exact b_X1_turnsBy_59_ok C hr HR7 (cp h_3 q) H locs ls hH hL (lv_sub hl [0, 1, 2, 3, 4] rfl)
  · exact b_X1_turnsBy_55_ok C hr HR7 (cn h_3 q) H locs ls hH hL (lv_sub hl [0, 1, 2, 3, 4] rfl)
def b_X1_turnsBy_39 (R7 : Mm → Nat → Int32 → Int32 → Int32 → Int32 → Option (Unit × Mm)) (fu : Nat) (ev : Ev) (σ : Mm) (x0 : Nat) (x1 : Int32) (x2 : Int32) (x3 : Int32) (x4 : Int32) (t0 : Option Nat) (t1 : Int32) : Option (Unit × Mm) :=
  b_X1_turnsBy_60 R7 fu ev σ x0 x1 x2 x3 x4 t0 t1 (0 : Int32)
set_option maxRecDepth 20000 in
theorem b_X1_turnsBy_39_ok (C : Cx p m meth c cX1_turnsBy 5 s args RX1 R ev D H0 1 22) (hr : meth.sig.returnType = none) {R7 : Mm → Nat → Int32 → Int32 → Int32 → Int32 → Option (Unit × Mm)} (HR7 : ∀ (σ : Mm) (x0 : Nat) (x1 : Int32) (x2 : Int32) (x3 : Int32) (x4 : Int32), R7 σ x0 x1 x2 x3 x4 = some res → GG p l e R s m args below meth c D H0 ev 5 (MQx D H0 ev below args s none res.2) σ 7 [(0, .ref x0), (1, .int x1), (2, .int x2), (3, .int x3), (4, .int x4)] []) {σ : Mm} {x0 : Nat} {x1 : Int32} {x2 : Int32} {x3 : Int32} {x4 : Int32} {t0 : Option Nat} {t1 : Int32} (h : b_X1_turnsBy_39 R7 fu ev σ x0 x1 x2 x3 x4 t0 t1 = some res) : GG p l e R s m args below meth c D H0 ev 5 (MQx D H0 ev below args s none res.2) σ 39 [(0, .ref x0), (1, .int x1), (2, .int x2), (3, .int x3), (4, .int x4)] [.int t1, va_rf t0] := by
  intro H locs ls hH hL hl
  unfold b_X1_turnsBy_39 at h
  refine lv_iconst (v := 0) C.x C.b dX1_turnsBy_39 ki_0 ?_
  refine lv_goto (tgt := 60) C.x C.b dX1_turnsBy_40 (by decide) ?_
  exact b_X1_turnsBy_60_ok C hr HR7 h H locs ls hH hL (lv_sub hl [0, 1, 2, 3, 4] rfl)
def b_X1_turnsBy_35 (R7 : Mm → Nat → Int32 → Int32 → Int32 → Int32 → Option (Unit × Mm)) (fu : Nat) (ev : Ev) (σ : Mm) (x0 : Nat) (x1 : Int32) (x2 : Int32) (x3 : Int32) (x4 : Int32) (t0 : Option Nat) (t1 : Int32) : Option (Unit × Mm) :=
  b_X1_turnsBy_60 R7 fu ev σ x0 x1 x2 x3 x4 t0 t1 (1 : Int32)
set_option maxRecDepth 20000 in
theorem b_X1_turnsBy_35_ok (C : Cx p m meth c cX1_turnsBy 5 s args RX1 R ev D H0 1 22) (hr : meth.sig.returnType = none) {R7 : Mm → Nat → Int32 → Int32 → Int32 → Int32 → Option (Unit × Mm)} (HR7 : ∀ (σ : Mm) (x0 : Nat) (x1 : Int32) (x2 : Int32) (x3 : Int32) (x4 : Int32), R7 σ x0 x1 x2 x3 x4 = some res → GG p l e R s m args below meth c D H0 ev 5 (MQx D H0 ev below args s none res.2) σ 7 [(0, .ref x0), (1, .int x1), (2, .int x2), (3, .int x3), (4, .int x4)] []) {σ : Mm} {x0 : Nat} {x1 : Int32} {x2 : Int32} {x3 : Int32} {x4 : Int32} {t0 : Option Nat} {t1 : Int32} (h : b_X1_turnsBy_35 R7 fu ev σ x0 x1 x2 x3 x4 t0 t1 = some res) : GG p l e R s m args below meth c D H0 ev 5 (MQx D H0 ev below args s none res.2) σ 35 [(0, .ref x0), (1, .int x1), (2, .int x2), (3, .int x3), (4, .int x4)] [.int t1, va_rf t0] := by
  intro H locs ls hH hL hl
  unfold b_X1_turnsBy_35 at h
  refine lv_iconst (v := 1) C.x C.b dX1_turnsBy_35 ki_1 ?_
  refine lv_goto (tgt := 60) C.x C.b dX1_turnsBy_36 (by decide) ?_
  exact b_X1_turnsBy_60_ok C hr HR7 h H locs ls hH hL (lv_sub hl [0, 1, 2, 3, 4] rfl)
def b_X1_turnsBy_23 (R7 : Mm → Nat → Int32 → Int32 → Int32 → Int32 → Option (Unit × Mm)) (fu : Nat) (ev : Ev) (σ : Mm) (x0 : Nat) (x1 : Int32) (x2 : Int32) (x3 : Int32) (x4 : Int32) (t0 : Option Nat) (t1 : Int32) : Option (Unit × Mm) :=
  (gfA σ x0 1 1).bind fun v1 =>
  v1.bind fun a2 =>
  (aldJ σ a2 x4).bind fun v3 =>
  if v3 ≤ (0 : Int64) then b_X1_turnsBy_39 R7 fu ev σ x0 x1 x2 x3 x4 t0 t1 else b_X1_turnsBy_35 R7 fu ev σ x0 x1 x2 x3 x4 t0 t1
set_option maxRecDepth 20000 in
theorem b_X1_turnsBy_23_ok (C : Cx p m meth c cX1_turnsBy 5 s args RX1 R ev D H0 1 22) (hr : meth.sig.returnType = none) {R7 : Mm → Nat → Int32 → Int32 → Int32 → Int32 → Option (Unit × Mm)} (HR7 : ∀ (σ : Mm) (x0 : Nat) (x1 : Int32) (x2 : Int32) (x3 : Int32) (x4 : Int32), R7 σ x0 x1 x2 x3 x4 = some res → GG p l e R s m args below meth c D H0 ev 5 (MQx D H0 ev below args s none res.2) σ 7 [(0, .ref x0), (1, .int x1), (2, .int x2), (3, .int x3), (4, .int x4)] []) {σ : Mm} {x0 : Nat} {x1 : Int32} {x2 : Int32} {x3 : Int32} {x4 : Int32} {t0 : Option Nat} {t1 : Int32} (h : b_X1_turnsBy_23 R7 fu ev σ x0 x1 x2 x3 x4 t0 t1 = some res) : GG p l e R s m args below meth c D H0 ev 5 (MQx D H0 ev below args s none res.2) σ 23 [(0, .ref x0), (1, .int x1), (2, .int x2), (3, .int x3), (4, .int x4)] [.int t1, va_rf t0] := by
  intro H locs ls hH hL hl
  unfold b_X1_turnsBy_23 at h
  refine lv_aload_n C.x C.b dX1_turnsBy_23 rfl (lv_at hl 0 rfl) ?_
  obtain ⟨v1, hv1, h_1⟩ := ob h
  refine m_getA C hH fl_X1_15 hv1 dX1_turnsBy_24 ?_
  refine lv_iload C.x C.b dX1_turnsBy_27 (lv_at hl 4 rfl) ?_
  obtain ⟨a2, e_, h_2⟩ := ob h_1; subst e_
  obtain ⟨v3, hv3, h_3⟩ := ob h_2
  refine m_lald C hH hv3 dX1_turnsBy_29 ?_
  refine lv_lconst (v := 0) C.x C.b dX1_turnsBy_30 rfl ?_
  refine r_lc_le (tgt := 39) C.x C.b dX1_turnsBy_31 dX1_turnsBy_32 (by decide) (fun q => ?_) (fun q => ?_)
  · exact b_X1_turnsBy_39_ok C hr HR7 (cp h_3 q) H locs ls hH hL (lv_sub hl [0, 1, 2, 3, 4] rfl)
  · exact b_X1_turnsBy_35_ok C hr HR7 (cn h_3 q) H locs ls hH hL (lv_sub hl [0, 1, 2, 3, 4] rfl)
def b_X1_turnsBy_13 (R7 : Mm → Nat → Int32 → Int32 → Int32 → Int32 → Option (Unit × Mm)) (fu : Nat) (ev : Ev) (σ : Mm) (x0 : Nat) (x1 : Int32) (x2 : Int32) (x3 : Int32) (x4 : Int32) : Option (Unit × Mm) :=
  (gfA σ x0 1 3).bind fun v1 =>
  if x1 = 0 then b_X1_turnsBy_43 R7 fu ev σ x0 x1 x2 x3 x4 v1 x4 else b_X1_turnsBy_23 R7 fu ev σ x0 x1 x2 x3 x4 v1 x4
set_option maxRecDepth 20000 in
theorem b_X1_turnsBy_13_ok (C : Cx p m meth c cX1_turnsBy 5 s args RX1 R ev D H0 1 22) (hr : meth.sig.returnType = none) {R7 : Mm → Nat → Int32 → Int32 → Int32 → Int32 → Option (Unit × Mm)} (HR7 : ∀ (σ : Mm) (x0 : Nat) (x1 : Int32) (x2 : Int32) (x3 : Int32) (x4 : Int32), R7 σ x0 x1 x2 x3 x4 = some res → GG p l e R s m args below meth c D H0 ev 5 (MQx D H0 ev below args s none res.2) σ 7 [(0, .ref x0), (1, .int x1), (2, .int x2), (3, .int x3), (4, .int x4)] []) {σ : Mm} {x0 : Nat} {x1 : Int32} {x2 : Int32} {x3 : Int32} {x4 : Int32} (h : b_X1_turnsBy_13 R7 fu ev σ x0 x1 x2 x3 x4 = some res) : GG p l e R s m args below meth c D H0 ev 5 (MQx D H0 ev below args s none res.2) σ 13 [(0, .ref x0), (1, .int x1), (2, .int x2), (3, .int x3), (4, .int x4)] [] := by
  intro H locs ls hH hL hl
  unfold b_X1_turnsBy_13 at h
  refine lv_aload_n C.x C.b dX1_turnsBy_13 rfl (lv_at hl 0 rfl) ?_
  obtain ⟨v1, hv1, h_1⟩ := ob h
  refine m_getA C hH fl_X1_23 hv1 dX1_turnsBy_14 ?_
  refine lv_iload C.x C.b dX1_turnsBy_17 (lv_at hl 4 rfl) ?_
  refine lv_iload_n C.x C.b dX1_turnsBy_19 rfl (lv_at hl 1 rfl) ?_
  refine lv_if_eq (tgt := 43) C.x C.b dX1_turnsBy_20 (by decide) (fun q => ?_) (fun q => ?_)
  · exact b_X1_turnsBy_43_ok C hr HR7 (cp h_1 q) H locs ls hH hL (lv_sub hl [0, 1, 2, 3, 4] rfl)
  · exact b_X1_turnsBy_23_ok C hr HR7 (cn h_1 q) H locs ls hH hL (lv_sub hl [0, 1, 2, 3, 4] rfl)
def b_X1_turnsBy_7 (R7 : Mm → Nat → Int32 → Int32 → Int32 → Int32 → Option (Unit × Mm)) (fu : Nat) (ev : Ev) (σ : Mm) (x0 : Nat) (x1 : Int32) (x2 : Int32) (x3 : Int32) (x4 : Int32) : Option (Unit × Mm) :=
  if (3 : Int32) ≤ x4 then b_X1_turnsBy_104  fu ev σ x0 x2 x3 else b_X1_turnsBy_13 R7 fu ev σ x0 x1 x2 x3 x4
set_option maxRecDepth 20000 in
theorem b_X1_turnsBy_7_ok (C : Cx p m meth c cX1_turnsBy 5 s args RX1 R ev D H0 1 22) (hr : meth.sig.returnType = none) {R7 : Mm → Nat → Int32 → Int32 → Int32 → Int32 → Option (Unit × Mm)} (HR7 : ∀ (σ : Mm) (x0 : Nat) (x1 : Int32) (x2 : Int32) (x3 : Int32) (x4 : Int32), R7 σ x0 x1 x2 x3 x4 = some res → GG p l e R s m args below meth c D H0 ev 5 (MQx D H0 ev below args s none res.2) σ 7 [(0, .ref x0), (1, .int x1), (2, .int x2), (3, .int x3), (4, .int x4)] []) {σ : Mm} {x0 : Nat} {x1 : Int32} {x2 : Int32} {x3 : Int32} {x4 : Int32} (h : b_X1_turnsBy_7 R7 fu ev σ x0 x1 x2 x3 x4 = some res) : GG p l e R s m args below meth c D H0 ev 5 (MQx D H0 ev below args s none res.2) σ 7 [(0, .ref x0), (1, .int x1), (2, .int x2), (3, .int x3), (4, .int x4)] [] := by
  intro H locs ls hH hL hl
  unfold b_X1_turnsBy_7 at h
  refine lv_iload C.x C.b dX1_turnsBy_7 (lv_at hl 4 rfl) ?_
  refine lv_iconst (v := 3) C.x C.b dX1_turnsBy_9 ki_3 ?_
  refine lv_icmp_ge (tgt := 104) C.x C.b dX1_turnsBy_10 (by decide) (fun q => ?_) (fun q => ?_)
  · exact b_X1_turnsBy_104_ok C hr  (cp h q) H locs ls hH hL (lv_sub hl [0, 2, 3] rfl)
  · exact b_X1_turnsBy_13_ok C hr HR7 (cn h q) H locs ls hH hL (lv_sub hl [0, 1, 2, 3, 4] rfl)
def L_X1_turnsBy_7  (fu : Nat) (ev : Ev) : Nat → Mm → Nat → Int32 → Int32 → Int32 → Int32 → Option (Unit × Mm)
  | 0, _, _, _, _, _, _ => none
  | n + 1, σ, x0, x1, x2, x3, x4 => b_X1_turnsBy_7  (L_X1_turnsBy_7  fu ev n) fu ev σ x0 x1 x2 x3 x4
theorem L_X1_turnsBy_7_ok (C : Cx p m meth c cX1_turnsBy 5 s args RX1 R ev D H0 1 22) (hr : meth.sig.returnType = none)  : ∀ (n : Nat) {σ : Mm} {x0 : Nat} {x1 : Int32} {x2 : Int32} {x3 : Int32} {x4 : Int32}, L_X1_turnsBy_7  fu ev n σ x0 x1 x2 x3 x4 = some res → GG p l e R s m args below meth c D H0 ev 5 (MQx D H0 ev below args s none res.2) σ 7 [(0, .ref x0), (1, .int x1), (2, .int x2), (3, .int x3), (4, .int x4)] [] := by
  intro n
  induction n with
  | zero => intro σ x0 x1 x2 x3 x4 h; exact (Option.some_ne_none _ (Eq.symm h)).elim
  | succ n ih => intro σ x0 x1 x2 x3 x4 h; exact b_X1_turnsBy_7_ok C hr  (fun σ _ _ _ _ _ h => ih h) h
def b_X1_turnsBy_0  (fu : Nat) (ev : Ev) (σ : Mm) (x0 : Nat) (x1 : Int32) : Option (Unit × Mm) :=
  L_X1_turnsBy_7  fu ev fu σ x0 x1 (0 : Int32) (-1 : Int32) (0 : Int32)
set_option maxRecDepth 20000 in
theorem b_X1_turnsBy_0_ok (C : Cx p m meth c cX1_turnsBy 5 s args RX1 R ev D H0 1 22) (hr : meth.sig.returnType = none)  {σ : Mm} {x0 : Nat} {x1 : Int32} (h : b_X1_turnsBy_0  fu ev σ x0 x1 = some res) : GG p l e R s m args below meth c D H0 ev 5 (MQx D H0 ev below args s none res.2) σ 0 [(0, .ref x0), (1, .int x1)] [] := by
  intro H locs ls hH hL hl
  unfold b_X1_turnsBy_0 at h
  refine lv_iconst (v := 0) C.x C.b dX1_turnsBy_0 ki_0 ?_
  refine lv_istore_n (i := 2) (lv' := [(2, .int (0 : Int32)), (0, .ref x0), (1, .int x1)]) C.x C.b dX1_turnsBy_1 rfl hl (by decide) rfl (fun ls_1 hl_1 => ?_)
  refine lv_iconst (v := -1) C.x C.b dX1_turnsBy_2 ki_m1 ?_
  refine lv_istore_n (i := 3) (lv' := [(3, .int (-1 : Int32)), (2, .int (0 : Int32)), (0, .ref x0), (1, .int x1)]) C.x C.b dX1_turnsBy_3 rfl hl_1 (by decide) rfl (fun ls_2 hl_2 => ?_)
  refine lv_iconst (v := 0) C.x C.b dX1_turnsBy_4 ki_0 ?_
  refine lv_istore (i := 4) (lv' := [(4, .int (0 : Int32)), (3, .int (-1 : Int32)), (2, .int (0 : Int32)), (0, .ref x0), (1, .int x1)]) C.x C.b dX1_turnsBy_5 hl_2 (by decide) rfl (fun ls_3 hl_3 => ?_)
  exact L_X1_turnsBy_7_ok C hr  fu h H locs ls_3 hH hL (lv_sub hl_3 [3, 4, 2, 1, 0] rfl)
def f_X1_turnsBy (fu : Nat) (ev : Ev) (σ : Mm) (x0 : Nat) (x1 : Int32) : Option (Unit × Mm) := b_X1_turnsBy_0  fu ev σ x0 x1
set_option maxRecDepth 20000 in
theorem ct_X1_turnsBy (l : Launch) (D : Dx) (H0 : Heap) {σ : Mm} {x0 : Nat} {x1 : Int32} (h : f_X1_turnsBy fu ev σ x0 x1 = some res) : Ct l D H0 ev yX1_turnsBy (ws_ yX1_turnsBy cX1_turnsBy 5 none) 1 22 [.ref x0, .int x1] σ none res.2 := by
  refine Ct_of (by decide) ?_
  intro p e R s m below meth c C hr hnm hH
  have hl := lv_entry [.ref x0, .int x1] (n := 5) (Nat.le_of_ble_eq_true rfl)
  rw [lg_entry_eq]
  exact b_X1_turnsBy_0_ok C hr  h s.heap [] _ hH (by simp) (lv_sub hl [0, 1] rfl)
end M_X1_turnsBy
/-! CellReducer$Cell.less(J)J -/
section M_X1_less
variable {p : Program} {l : Launch} {e : Env} {R : Room} {s : State} {m : MethodId} {args : Array Value} {below : List Frame} {meth : Method} {c : Code} {D : Dx} {H0 : Heap} {ev : Ev} {fu : Nat} {res : Int64 × Mm}
def b_X1_less_13  (fu : Nat) (ev : Ev) (σ : Mm) (t0 : Int64) : Option (Int64 × Mm) :=
  some (t0, σ)
set_option maxRecDepth 20000 in
theorem b_X1_less_13_ok (C : Cx p m meth c cX1_less 2 s args RX1 R ev D H0 0 0) (hr : meth.sig.returnType = (some .long))  {σ : Mm} {t0 : Int64} (h : b_X1_less_13  fu ev σ t0 = some res) : GG p l e R s m args below meth c D H0 ev 2 (MQx D H0 ev below args s (some (.long res.1)) res.2) σ 13 [] [.long t0] := by
  intro H locs ls hH hL hl
  unfold b_X1_less_13 at h
  have hz_ := Option.some.inj h; subst hz_
  exact m_lret C hH hL hr dX1_less_13
def b_X1_less_12  (fu : Nat) (ev : Ev) (σ : Mm)  : Option (Int64 × Mm) :=
  b_X1_less_13  fu ev σ (1 : Int64)
set_option maxRecDepth 20000 in
theorem b_X1_less_12_ok (C : Cx p m meth c cX1_less 2 s args RX1 R ev D H0 0 0) (hr : meth.sig.returnType = (some .long))  {σ : Mm}  (h : b_X1_less_12  fu ev σ  = some res) : GG p l e R s m args below meth c D H0 ev 2 (MQx D H0 ev below args s (some (.long res.1)) res.2) σ 12 [] [] := by
  intro H locs ls hH hL hl
  unfold b_X1_less_12 at h
  refine lv_lconst (v := 1) C.x C.b dX1_less_12 rfl ?_
  exact b_X1_less_13_ok C hr  h H locs ls hH hL (lv_sub hl [] rfl)
def b_X1_less_6  (fu : Nat) (ev : Ev) (σ : Mm)  : Option (Int64 × Mm) :=
  b_X1_less_13  fu ev σ (-1 : Int64)
set_option maxRecDepth 20000 in
theorem b_X1_less_6_ok (C : Cx p m meth c cX1_less 2 s args RX1 R ev D H0 0 0) (hr : meth.sig.returnType = (some .long))  {σ : Mm}  (h : b_X1_less_6  fu ev σ  = some res) : GG p l e R s m args below meth c D H0 ev 2 (MQx D H0 ev below args s (some (.long res.1)) res.2) σ 6 [] [] := by
  intro H locs ls hH hL hl
  unfold b_X1_less_6 at h
  refine lv_ldc2 C.x C.b C.1.2.2.2.1 (C.w q515) dX1_less_6 ?_
  refine lv_goto (tgt := 13) C.x C.b dX1_less_9 (by decide) ?_
  exact b_X1_less_13_ok C hr  h H locs ls hH hL (lv_sub hl [] rfl)
def b_X1_less_0  (fu : Nat) (ev : Ev) (σ : Mm) (x0 : Int64) : Option (Int64 × Mm) :=
  if x0 ≤ (0 : Int64) then b_X1_less_12  fu ev σ  else b_X1_less_6  fu ev σ 
set_option maxRecDepth 20000 in
theorem b_X1_less_0_ok (C : Cx p m meth c cX1_less 2 s args RX1 R ev D H0 0 0) (hr : meth.sig.returnType = (some .long))  {σ : Mm} {x0 : Int64} (h : b_X1_less_0  fu ev σ x0 = some res) : GG p l e R s m args below meth c D H0 ev 2 (MQx D H0 ev below args s (some (.long res.1)) res.2) σ 0 [(0, .long x0)] [] := by
  intro H locs ls hH hL hl
  unfold b_X1_less_0 at h
  refine lv_lload_n C.x C.b dX1_less_0 rfl (lv_at hl 0 rfl) ?_
  refine lv_lconst (v := 0) C.x C.b dX1_less_1 rfl ?_
  refine r_lc_le (tgt := 12) C.x C.b dX1_less_2 dX1_less_3 (by decide) (fun q => ?_) (fun q => ?_)
  · exact b_X1_less_12_ok C hr  (cp h q) H locs ls hH hL (lv_sub hl [] rfl)
  · exact b_X1_less_6_ok C hr  (cn h q) H locs ls hH hL (lv_sub hl [] rfl)
def f_X1_less (fu : Nat) (ev : Ev) (σ : Mm) (x0 : Int64) : Option (Int64 × Mm) := b_X1_less_0  fu ev σ x0
set_option maxRecDepth 20000 in
theorem ct_X1_less (l : Launch) (D : Dx) (H0 : Heap) {σ : Mm} {x0 : Int64} (h : f_X1_less fu ev σ x0 = some res) : Ct l D H0 ev yX1_less (ws_ yX1_less cX1_less 2 (some .long)) 0 0 [.long x0] σ (some (.long res.1)) res.2 := by
  refine Ct_of (by decide) ?_
  intro p e R s m below meth c C hr hnm hH
  have hl := lv_entry [.long x0] (n := 2) (Nat.le_of_ble_eq_true rfl)
  rw [lg_entry_eq]
  exact b_X1_less_0_ok C hr  h s.heap [] _ hH (by simp) (lv_sub hl [0] rfl)
end M_X1_less
theorem cv_X1_95 : CV RX1 95 1 yX1_exchanges cX1_exchanges 6 none 2 := ⟨_, rfl, lw_V q502 q452 q453 q104 q454, rfl, by decide, by decide, by decide +kernel⟩
theorem cv_X1_99 : CV RX1 99 1 yX1_turnsAll cX1_turnsAll 1 none 0 := ⟨_, rfl, lw_V q503 q505 qs9 q104 q506, rfl, by decide, by decide, by decide +kernel⟩
theorem cv_X1_102 : CV RX1 102 1 yX1_turnsBy cX1_turnsBy 5 none 1 := ⟨_, rfl, lw_V q508 q510 qs10 q104 q511, rfl, by decide, by decide, by decide +kernel⟩
theorem cs_X1_106 : CS RX1 106 yX1_less cX1_less 2 (some .long) 1 := ⟨lw_S q512 q513 q104 q514, by decide, by decide, by decide +kernel⟩
theorem cv_X1_109 : CV RX1 109 1 yX1_adds cX1_adds 7 none 3 := ⟨_, rfl, lw_V q516 q442 q443 q104 q444, rfl, by decide, by decide, by decide +kernel⟩
/-! CellReducer$Cell.goes(I)V -/
section M_X1_goes
variable {p : Program} {l : Launch} {e : Env} {R : Room} {s : State} {m : MethodId} {args : Array Value} {below : List Frame} {meth : Method} {c : Code} {D : Dx} {H0 : Heap} {ev : Ev} {fu : Nat} {res : Unit × Mm}
def b_X1_goes_154  (fu : Nat) (ev : Ev) (σ : Mm)  : Option (Unit × Mm) :=
  some ((), σ)
set_option maxRecDepth 20000 in
theorem b_X1_goes_154_ok (C : Cx p m meth c cX1_goes 2 s args RX1 R ev D H0 2 50) (hr : meth.sig.returnType = none)  {σ : Mm}  (h : b_X1_goes_154  fu ev σ  = some res) : GG p l e R s m args below meth c D H0 ev 2 (MQx D H0 ev below args s none res.2) σ 154 [] [] := by
  intro H locs ls hH hL hl
  unfold b_X1_goes_154 at h
  have hz_ := Option.some.inj h; subst hz_
  exact m_vret C hH hL hr dX1_goes_154
def b_X1_goes_44  (fu : Nat) (ev : Ev) (σ : Mm) (x0 : Nat) : Option (Unit × Mm) :=
  (isC σ x0 1).bind fun _ =>
  bd2 (f_X1_exchanges fu ev σ x0 (0 : Int32) (1 : Int32)) fun v2 s3 =>
  (isC s3 x0 1).bind fun _ =>
  bd2 (f_X1_turnsAll fu ev s3 x0) fun v5 s6 =>
  b_X1_goes_154  fu ev s6 
set_option maxRecDepth 20000 in
theorem b_X1_goes_44_ok (C : Cx p m meth c cX1_goes 2 s args RX1 R ev D H0 2 50) (hr : meth.sig.returnType = none)  {σ : Mm} {x0 : Nat} (h : b_X1_goes_44  fu ev σ x0 = some res) : GG p l e R s m args below meth c D H0 ev 2 (MQx D H0 ev below args s none res.2) σ 44 [(0, .ref x0)] [] := by
  intro H locs ls hH hL hl
  unfold b_X1_goes_44 at h
  refine lv_aload_n C.x C.b dX1_goes_44 rfl (lv_at hl 0 rfl) ?_
  refine lv_iconst (v := 0) C.x C.b dX1_goes_45 ki_0 ?_
  refine lv_iconst (v := 1) C.x C.b dX1_goes_46 ki_1 ?_
  obtain ⟨_, u1, h_1⟩ := ob h
  obtain ⟨v2, s3, hs3, h_2⟩ := ob2 h_1
  refine m_callVN (As := [.int (0 : Int32), .int (1 : Int32)]) (rest := []) C hH hL cv_X1_95 (ct_X1_exchanges l D H0 hs3) u1 ⟨Nat.le_of_ble_eq_true rfl, Nat.le_of_ble_eq_true rfl⟩ rfl hl.1 rfl (Nat.le_of_ble_eq_true rfl) dX1_goes_47 (fun H_3 locs_3 hH_3 hL_3 => ?_)
  refine lv_aload_n C.x C.b dX1_goes_50 rfl (lv_at hl 0 rfl) ?_
  obtain ⟨_, u4, h_4⟩ := ob h_2
  obtain ⟨v5, s6, hs6, h_5⟩ := ob2 h_4
  refine m_callVN (As := []) (rest := []) C hH_3 hL_3 cv_X1_99 (ct_X1_turnsAll l D H0 hs6) u4 ⟨Nat.le_of_ble_eq_true rfl, Nat.le_of_ble_eq_true rfl⟩ rfl hl.1 rfl (Nat.le_of_ble_eq_true rfl) dX1_goes_51 (fun H_6 locs_6 hH_6 hL_6 => ?_)
  refine lv_goto (tgt := 154) C.x C.b dX1_goes_54 (by decide) ?_
  exact b_X1_goes_154_ok C hr  h_5 H_6 locs_6 ls hH_6 hL_6 (lv_sub hl [] rfl)
def b_X1_goes_57  (fu : Nat) (ev : Ev) (σ : Mm) (x0 : Nat) : Option (Unit × Mm) :=
  (isC σ x0 1).bind fun _ =>
  bd2 (f_X1_exchanges fu ev σ x0 (1 : Int32) (2 : Int32)) fun v2 s3 =>
  (isC s3 x0 1).bind fun _ =>
  bd2 (f_X1_turnsAll fu ev s3 x0) fun v5 s6 =>
  b_X1_goes_154  fu ev s6 
set_option maxRecDepth 20000 in
theorem b_X1_goes_57_ok (C : Cx p m meth c cX1_goes 2 s args RX1 R ev D H0 2 50) (hr : meth.sig.returnType = none)  {σ : Mm} {x0 : Nat} (h : b_X1_goes_57  fu ev σ x0 = some res) : GG p l e R s m args below meth c D H0 ev 2 (MQx D H0 ev below args s none res.2) σ 57 [(0, .ref x0)] [] := by
  intro H locs ls hH hL hl
  unfold b_X1_goes_57 at h
  refine lv_aload_n C.x C.b dX1_goes_57 rfl (lv_at hl 0 rfl) ?_
  refine lv_iconst (v := 1) C.x C.b dX1_goes_58 ki_1 ?_
  refine lv_iconst (v := 2) C.x C.b dX1_goes_59 ki_2 ?_
  obtain ⟨_, u1, h_1⟩ := ob h
  obtain ⟨v2, s3, hs3, h_2⟩ := ob2 h_1
  refine m_callVN (As := [.int (1 : Int32), .int (2 : Int32)]) (rest := []) C hH hL cv_X1_95 (ct_X1_exchanges l D H0 hs3) u1 ⟨Nat.le_of_ble_eq_true rfl, Nat.le_of_ble_eq_true rfl⟩ rfl hl.1 rfl (Nat.le_of_ble_eq_true rfl) dX1_goes_60 (fun H_3 locs_3 hH_3 hL_3 => ?_)
  refine lv_aload_n C.x C.b dX1_goes_63 rfl (lv_at hl 0 rfl) ?_
  obtain ⟨_, u4, h_4⟩ := ob h_2
  obtain ⟨v5, s6, hs6, h_5⟩ := ob2 h_4
  refine m_callVN (As := []) (rest := []) C hH_3 hL_3 cv_X1_99 (ct_X1_turnsAll l D H0 hs6) u4 ⟨Nat.le_of_ble_eq_true rfl, Nat.le_of_ble_eq_true rfl⟩ rfl hl.1 rfl (Nat.le_of_ble_eq_true rfl) dX1_goes_64 (fun H_6 locs_6 hH_6 hL_6 => ?_)
  refine lv_goto (tgt := 154) C.x C.b dX1_goes_67 (by decide) ?_
  exact b_X1_goes_154_ok C hr  h_5 H_6 locs_6 ls hH_6 hL_6 (lv_sub hl [] rfl)
def b_X1_goes_70  (fu : Nat) (ev : Ev) (σ : Mm) (x0 : Nat) : Option (Unit × Mm) :=
  (isC σ x0 1).bind fun _ =>
  bd2 (f_X1_turnsBy fu ev σ x0 (0 : Int32)) fun v2 s3 =>
  b_X1_goes_154  fu ev s3 
set_option maxRecDepth 20000 in
theorem b_X1_goes_70_ok (C : Cx p m meth c cX1_goes 2 s args RX1 R ev D H0 2 50) (hr : meth.sig.returnType = none)  {σ : Mm} {x0 : Nat} (h : b_X1_goes_70  fu ev σ x0 = some res) : GG p l e R s m args below meth c D H0 ev 2 (MQx D H0 ev below args s none res.2) σ 70 [(0, .ref x0)] [] := by
  intro H locs ls hH hL hl
  unfold b_X1_goes_70 at h
  refine lv_aload_n C.x C.b dX1_goes_70 rfl (lv_at hl 0 rfl) ?_
  refine lv_iconst (v := 0) C.x C.b dX1_goes_71 ki_0 ?_
  obtain ⟨_, u1, h_1⟩ := ob h
  obtain ⟨v2, s3, hs3, h_2⟩ := ob2 h_1
  refine m_callVN (As := [.int (0 : Int32)]) (rest := []) C hH hL cv_X1_102 (ct_X1_turnsBy l D H0 hs3) u1 ⟨Nat.le_of_ble_eq_true rfl, Nat.le_of_ble_eq_true rfl⟩ rfl hl.1 rfl (Nat.le_of_ble_eq_true rfl) dX1_goes_72 (fun H_3 locs_3 hH_3 hL_3 => ?_)
  refine lv_goto (tgt := 154) C.x C.b dX1_goes_75 (by decide) ?_
  exact b_X1_goes_154_ok C hr  h_2 H_3 locs_3 ls hH_3 hL_3 (lv_sub hl [] rfl)
def b_X1_goes_78  (fu : Nat) (ev : Ev) (σ : Mm) (x0 : Nat) : Option (Unit × Mm) :=
  (isC σ x0 1).bind fun _ =>
  bd2 (f_X1_turnsBy fu ev σ x0 (1 : Int32)) fun v2 s3 =>
  b_X1_goes_154  fu ev s3 
set_option maxRecDepth 20000 in
theorem b_X1_goes_78_ok (C : Cx p m meth c cX1_goes 2 s args RX1 R ev D H0 2 50) (hr : meth.sig.returnType = none)  {σ : Mm} {x0 : Nat} (h : b_X1_goes_78  fu ev σ x0 = some res) : GG p l e R s m args below meth c D H0 ev 2 (MQx D H0 ev below args s none res.2) σ 78 [(0, .ref x0)] [] := by
  intro H locs ls hH hL hl
  unfold b_X1_goes_78 at h
  refine lv_aload_n C.x C.b dX1_goes_78 rfl (lv_at hl 0 rfl) ?_
  refine lv_iconst (v := 1) C.x C.b dX1_goes_79 ki_1 ?_
  obtain ⟨_, u1, h_1⟩ := ob h
  obtain ⟨v2, s3, hs3, h_2⟩ := ob2 h_1
  refine m_callVN (As := [.int (1 : Int32)]) (rest := []) C hH hL cv_X1_102 (ct_X1_turnsBy l D H0 hs3) u1 ⟨Nat.le_of_ble_eq_true rfl, Nat.le_of_ble_eq_true rfl⟩ rfl hl.1 rfl (Nat.le_of_ble_eq_true rfl) dX1_goes_80 (fun H_3 locs_3 hH_3 hL_3 => ?_)
  refine lv_goto (tgt := 154) C.x C.b dX1_goes_83 (by decide) ?_
  exact b_X1_goes_154_ok C hr  h_2 H_3 locs_3 ls hH_3 hL_3 (lv_sub hl [] rfl)
def b_X1_goes_86  (fu : Nat) (ev : Ev) (σ : Mm) (x0 : Nat) : Option (Unit × Mm) :=
  (gfA σ x0 1 1).bind fun v1 =>
  v1.bind fun a2 =>
  (aldJ σ a2 (0 : Int32)).bind fun v3 =>
  bd2 (f_X1_less fu ev σ v3) fun v4 s5 =>
  (isC s5 x0 1).bind fun _ =>
  bd2 (f_X1_adds fu ev s5 x0 (2 : Int32) (1 : Int32) v4) fun v7 s8 =>
  b_X1_goes_154  fu ev s8 
set_option maxRecDepth 20000 in
theorem b_X1_goes_86_ok (C : Cx p m meth c cX1_goes 2 s args RX1 R ev D H0 2 50) (hr : meth.sig.returnType = none)  {σ : Mm} {x0 : Nat} (h : b_X1_goes_86  fu ev σ x0 = some res) : GG p l e R s m args below meth c D H0 ev 2 (MQx D H0 ev below args s none res.2) σ 86 [(0, .ref x0)] [] := by
  intro H locs ls hH hL hl
  unfold b_X1_goes_86 at h
  refine lv_aload_n C.x C.b dX1_goes_86 rfl (lv_at hl 0 rfl) ?_
  refine lv_iconst (v := 2) C.x C.b dX1_goes_87 ki_2 ?_
  refine lv_iconst (v := 1) C.x C.b dX1_goes_88 ki_1 ?_
  refine lv_aload_n C.x C.b dX1_goes_89 rfl (lv_at hl 0 rfl) ?_
  obtain ⟨v1, hv1, h_1⟩ := ob h
  refine m_getA C hH fl_X1_15 hv1 dX1_goes_90 ?_
  refine lv_iconst (v := 0) C.x C.b dX1_goes_93 ki_0 ?_
  obtain ⟨a2, e_, h_2⟩ := ob h_1; subst e_
  obtain ⟨v3, hv3, h_3⟩ := ob h_2
  refine m_lald C hH hv3 dX1_goes_94 ?_
  obtain ⟨v4, s5, hs5, h_4⟩ := ob2 h_3
  refine m_callSJ (As := [.long v3]) (rest := [.int (1 : Int32), .int (2 : Int32), .ref x0]) (v := v4) C hH hL cs_X1_106 (ct_X1_less l D H0 hs5) ⟨Nat.le_of_ble_eq_true rfl, Nat.le_of_ble_eq_true rfl⟩ rfl hl.1 rfl (Nat.le_of_ble_eq_true rfl) dX1_goes_95 (fun H_5 locs_5 hH_5 hL_5 => ?_)
  obtain ⟨_, u6, h_6⟩ := ob h_4
  obtain ⟨v7, s8, hs8, h_7⟩ := ob2 h_6
  refine m_callVN (As := [.int (2 : Int32), .int (1 : Int32), .long v4]) (rest := []) C hH_5 hL_5 cv_X1_109 (ct_X1_adds l D H0 hs8) u6 ⟨Nat.le_of_ble_eq_true rfl, Nat.le_of_ble_eq_true rfl⟩ rfl hl.1 rfl (Nat.le_of_ble_eq_true rfl) dX1_goes_98 (fun H_8 locs_8 hH_8 hL_8 => ?_)
  refine lv_goto (tgt := 154) C.x C.b dX1_goes_101 (by decide) ?_
  exact b_X1_goes_154_ok C hr  h_7 H_8 locs_8 ls hH_8 hL_8 (lv_sub hl [] rfl)
def b_X1_goes_104  (fu : Nat) (ev : Ev) (σ : Mm) (x0 : Nat) : Option (Unit × Mm) :=
  (gfA σ x0 1 1).bind fun v1 =>
  v1.bind fun a2 =>
  (aldJ σ a2 (1 : Int32)).bind fun v3 =>
  bd2 (f_X1_less fu ev σ v3) fun v4 s5 =>
  (isC s5 x0 1).bind fun _ =>
  bd2 (f_X1_adds fu ev s5 x0 (2 : Int32) (0 : Int32) v4) fun v7 s8 =>
  b_X1_goes_154  fu ev s8 
set_option maxRecDepth 20000 in
theorem b_X1_goes_104_ok (C : Cx p m meth c cX1_goes 2 s args RX1 R ev D H0 2 50) (hr : meth.sig.returnType = none)  {σ : Mm} {x0 : Nat} (h : b_X1_goes_104  fu ev σ x0 = some res) : GG p l e R s m args below meth c D H0 ev 2 (MQx D H0 ev below args s none res.2) σ 104 [(0, .ref x0)] [] := by
  intro H locs ls hH hL hl
  unfold b_X1_goes_104 at h
  refine lv_aload_n C.x C.b dX1_goes_104 rfl (lv_at hl 0 rfl) ?_
  refine lv_iconst (v := 2) C.x C.b dX1_goes_105 ki_2 ?_
  refine lv_iconst (v := 0) C.x C.b dX1_goes_106 ki_0 ?_
  refine lv_aload_n C.x C.b dX1_goes_107 rfl (lv_at hl 0 rfl) ?_
  obtain ⟨v1, hv1, h_1⟩ := ob h
  refine m_getA C hH fl_X1_15 hv1 dX1_goes_108 ?_
  refine lv_iconst (v := 1) C.x C.b dX1_goes_111 ki_1 ?_
  obtain ⟨a2, e_, h_2⟩ := ob h_1; subst e_
  obtain ⟨v3, hv3, h_3⟩ := ob h_2
  refine m_lald C hH hv3 dX1_goes_112 ?_
  obtain ⟨v4, s5, hs5, h_4⟩ := ob2 h_3
  refine m_callSJ (As := [.long v3]) (rest := [.int (0 : Int32), .int (2 : Int32), .ref x0]) (v := v4) C hH hL cs_X1_106 (ct_X1_less l D H0 hs5) ⟨Nat.le_of_ble_eq_true rfl, Nat.le_of_ble_eq_true rfl⟩ rfl hl.1 rfl (Nat.le_of_ble_eq_true rfl) dX1_goes_113 (fun H_5 locs_5 hH_5 hL_5 => ?_)
  obtain ⟨_, u6, h_6⟩ := ob h_4
  obtain ⟨v7, s8, hs8, h_7⟩ := ob2 h_6
  refine m_callVN (As := [.int (2 : Int32), .int (0 : Int32), .long v4]) (rest := []) C hH_5 hL_5 cv_X1_109 (ct_X1_adds l D H0 hs8) u6 ⟨Nat.le_of_ble_eq_true rfl, Nat.le_of_ble_eq_true rfl⟩ rfl hl.1 rfl (Nat.le_of_ble_eq_true rfl) dX1_goes_116 (fun H_8 locs_8 hH_8 hL_8 => ?_)
  refine lv_goto (tgt := 154) C.x C.b dX1_goes_119 (by decide) ?_
  exact b_X1_goes_154_ok C hr  h_7 H_8 locs_8 ls hH_8 hL_8 (lv_sub hl [] rfl)
def b_X1_goes_122  (fu : Nat) (ev : Ev) (σ : Mm) (x0 : Nat) : Option (Unit × Mm) :=
  (gfA σ x0 1 1).bind fun v1 =>
  v1.bind fun a2 =>
  (aldJ σ a2 (2 : Int32)).bind fun v3 =>
  bd2 (f_X1_less fu ev σ v3) fun v4 s5 =>
  (isC s5 x0 1).bind fun _ =>
  bd2 (f_X1_adds fu ev s5 x0 (1 : Int32) (0 : Int32) v4) fun v7 s8 =>
  b_X1_goes_154  fu ev s8 
set_option maxRecDepth 20000 in
theorem b_X1_goes_122_ok (C : Cx p m meth c cX1_goes 2 s args RX1 R ev D H0 2 50) (hr : meth.sig.returnType = none)  {σ : Mm} {x0 : Nat} (h : b_X1_goes_122  fu ev σ x0 = some res) : GG p l e R s m args below meth c D H0 ev 2 (MQx D H0 ev below args s none res.2) σ 122 [(0, .ref x0)] [] := by
  intro H locs ls hH hL hl
  unfold b_X1_goes_122 at h
  refine lv_aload_n C.x C.b dX1_goes_122 rfl (lv_at hl 0 rfl) ?_
  refine lv_iconst (v := 1) C.x C.b dX1_goes_123 ki_1 ?_
  refine lv_iconst (v := 0) C.x C.b dX1_goes_124 ki_0 ?_
  refine lv_aload_n C.x C.b dX1_goes_125 rfl (lv_at hl 0 rfl) ?_
  obtain ⟨v1, hv1, h_1⟩ := ob h
  refine m_getA C hH fl_X1_15 hv1 dX1_goes_126 ?_
  refine lv_iconst (v := 2) C.x C.b dX1_goes_129 ki_2 ?_
  obtain ⟨a2, e_, h_2⟩ := ob h_1; subst e_
  obtain ⟨v3, hv3, h_3⟩ := ob h_2
  refine m_lald C hH hv3 dX1_goes_130 ?_
  obtain ⟨v4, s5, hs5, h_4⟩ := ob2 h_3
  refine m_callSJ (As := [.long v3]) (rest := [.int (0 : Int32), .int (1 : Int32), .ref x0]) (v := v4) C hH hL cs_X1_106 (ct_X1_less l D H0 hs5) ⟨Nat.le_of_ble_eq_true rfl, Nat.le_of_ble_eq_true rfl⟩ rfl hl.1 rfl (Nat.le_of_ble_eq_true rfl) dX1_goes_131 (fun H_5 locs_5 hH_5 hL_5 => ?_)
  obtain ⟨_, u6, h_6⟩ := ob h_4
  obtain ⟨v7, s8, hs8, h_7⟩ := ob2 h_6
  refine m_callVN (As := [.int (1 : Int32), .int (0 : Int32), .long v4]) (rest := []) C hH_5 hL_5 cv_X1_109 (ct_X1_adds l D H0 hs8) u6 ⟨Nat.le_of_ble_eq_true rfl, Nat.le_of_ble_eq_true rfl⟩ rfl hl.1 rfl (Nat.le_of_ble_eq_true rfl) dX1_goes_134 (fun H_8 locs_8 hH_8 hL_8 => ?_)
  refine lv_goto (tgt := 154) C.x C.b dX1_goes_137 (by decide) ?_
  exact b_X1_goes_154_ok C hr  h_7 H_8 locs_8 ls hH_8 hL_8 (lv_sub hl [] rfl)
def b_X1_goes_140  (fu : Nat) (ev : Ev) (σ : Mm) (x0 : Nat) : Option (Unit × Mm) :=
  (isC σ x0 1).bind fun _ =>
  bd2 (f_X1_adds fu ev σ x0 (2 : Int32) (0 : Int32) (1 : Int64)) fun v2 s3 =>
  (isC s3 x0 1).bind fun _ =>
  bd2 (f_X1_adds fu ev s3 x0 (2 : Int32) (1 : Int32) (1 : Int64)) fun v5 s6 =>
  b_X1_goes_154  fu ev s6 
set_option maxRecDepth 20000 in
theorem b_X1_goes_140_ok (C : Cx p m meth c cX1_goes 2 s args RX1 R ev D H0 2 50) (hr : meth.sig.returnType = none)  {σ : Mm} {x0 : Nat} (h : b_X1_goes_140  fu ev σ x0 = some res) : GG p l e R s m args below meth c D H0 ev 2 (MQx D H0 ev below args s none res.2) σ 140 [(0, .ref x0)] [] := by
  intro H locs ls hH hL hl
  unfold b_X1_goes_140 at h
  refine lv_aload_n C.x C.b dX1_goes_140 rfl (lv_at hl 0 rfl) ?_
  refine lv_iconst (v := 2) C.x C.b dX1_goes_141 ki_2 ?_
  refine lv_iconst (v := 0) C.x C.b dX1_goes_142 ki_0 ?_
  refine lv_lconst (v := 1) C.x C.b dX1_goes_143 rfl ?_
  obtain ⟨_, u1, h_1⟩ := ob h
  obtain ⟨v2, s3, hs3, h_2⟩ := ob2 h_1
  refine m_callVN (As := [.int (2 : Int32), .int (0 : Int32), .long (1 : Int64)]) (rest := []) C hH hL cv_X1_109 (ct_X1_adds l D H0 hs3) u1 ⟨Nat.le_of_ble_eq_true rfl, Nat.le_of_ble_eq_true rfl⟩ rfl hl.1 rfl (Nat.le_of_ble_eq_true rfl) dX1_goes_144 (fun H_3 locs_3 hH_3 hL_3 => ?_)
  refine lv_aload_n C.x C.b dX1_goes_147 rfl (lv_at hl 0 rfl) ?_
  refine lv_iconst (v := 2) C.x C.b dX1_goes_148 ki_2 ?_
  refine lv_iconst (v := 1) C.x C.b dX1_goes_149 ki_1 ?_
  refine lv_lconst (v := 1) C.x C.b dX1_goes_150 rfl ?_
  obtain ⟨_, u4, h_4⟩ := ob h_2
  obtain ⟨v5, s6, hs6, h_5⟩ := ob2 h_4
  refine m_callVN (As := [.int (2 : Int32), .int (1 : Int32), .long (1 : Int64)]) (rest := []) C hH_3 hL_3 cv_X1_109 (ct_X1_adds l D H0 hs6) u4 ⟨Nat.le_of_ble_eq_true rfl, Nat.le_of_ble_eq_true rfl⟩ rfl hl.1 rfl (Nat.le_of_ble_eq_true rfl) dX1_goes_151 (fun H_6 locs_6 hH_6 hL_6 => ?_)
  exact b_X1_goes_154_ok C hr  h_5 H_6 locs_6 ls hH_6 hL_6 (lv_sub hl [] rfl)
def b_X1_goes_0  (fu : Nat) (ev : Ev) (σ : Mm) (x0 : Nat) (x1 : Int32) : Option (Unit × Mm) :=
  if x1 = (1 : Int32) then b_X1_goes_44  fu ev σ x0 else if x1 = (2 : Int32) then b_X1_goes_57  fu ev σ x0 else if x1 = (3 : Int32) then b_X1_goes_70  fu ev σ x0 else if x1 = (4 : Int32) then b_X1_goes_78  fu ev σ x0 else if x1 = (5 : Int32) then b_X1_goes_86  fu ev σ x0 else if x1 = (6 : Int32) then b_X1_goes_104  fu ev σ x0 else if x1 = (7 : Int32) then b_X1_goes_122  fu ev σ x0 else b_X1_goes_140  fu ev σ x0
set_option maxRecDepth 20000 in
theorem b_X1_goes_0_ok (C : Cx p m meth c cX1_goes 2 s args RX1 R ev D H0 2 50) (hr : meth.sig.returnType = none)  {σ : Mm} {x0 : Nat} {x1 : Int32} (h : b_X1_goes_0  fu ev σ x0 x1 = some res) : GG p l e R s m args below meth c D H0 ev 2 (MQx D H0 ev below args s none res.2) σ 0 [(0, .ref x0), (1, .int x1)] [] := by
  intro H locs ls hH hL hl
  unfold b_X1_goes_0 at h
  refine lv_iload_n C.x C.b dX1_goes_0 rfl (lv_at hl 1 rfl) ?_
  by_cases q1 : x1 = (1 : Int32)
  · refine lv_tableIn (off := 43) (tgt := 44) C.x C.b dX1_goes_1 (by rw [q1]; decide) (by rw [q1]; decide) (by rw [q1]; rfl) (by decide) ?_
    exact b_X1_goes_44_ok C hr  (cp h q1) H locs ls hH hL (lv_sub hl [0] rfl)
  have h_1 := cn h q1
  by_cases q2 : x1 = (2 : Int32)
  · refine lv_tableIn (off := 56) (tgt := 57) C.x C.b dX1_goes_1 (by rw [q2]; decide) (by rw [q2]; decide) (by rw [q2]; rfl) (by decide) ?_
    exact b_X1_goes_57_ok C hr  (cp h_1 q2) H locs ls hH hL (lv_sub hl [0] rfl)
  have h_2 := cn h_1 q2
  by_cases q3 : x1 = (3 : Int32)
  · refine lv_tableIn (off := 69) (tgt := 70) C.x C.b dX1_goes_1 (by rw [q3]; decide) (by rw [q3]; decide) (by rw [q3]; rfl) (by decide) ?_
    exact b_X1_goes_70_ok C hr  (cp h_2 q3) H locs ls hH hL (lv_sub hl [0] rfl)
  have h_3 := cn h_2 q3
  by_cases q4 : x1 = (4 : Int32)
  · refine lv_tableIn (off := 77) (tgt := 78) C.x C.b dX1_goes_1 (by rw [q4]; decide) (by rw [q4]; decide) (by rw [q4]; rfl) (by decide) ?_
    exact b_X1_goes_78_ok C hr  (cp h_3 q4) H locs ls hH hL (lv_sub hl [0] rfl)
  have h_4 := cn h_3 q4
  by_cases q5 : x1 = (5 : Int32)
  · refine lv_tableIn (off := 85) (tgt := 86) C.x C.b dX1_goes_1 (by rw [q5]; decide) (by rw [q5]; decide) (by rw [q5]; rfl) (by decide) ?_
    exact b_X1_goes_86_ok C hr  (cp h_4 q5) H locs ls hH hL (lv_sub hl [0] rfl)
  have h_5 := cn h_4 q5
  by_cases q6 : x1 = (6 : Int32)
  · refine lv_tableIn (off := 103) (tgt := 104) C.x C.b dX1_goes_1 (by rw [q6]; decide) (by rw [q6]; decide) (by rw [q6]; rfl) (by decide) ?_
    exact b_X1_goes_104_ok C hr  (cp h_5 q6) H locs ls hH hL (lv_sub hl [0] rfl)
  have h_6 := cn h_5 q6
  by_cases q7 : x1 = (7 : Int32)
  · refine lv_tableIn (off := 121) (tgt := 122) C.x C.b dX1_goes_1 (by rw [q7]; decide) (by rw [q7]; decide) (by rw [q7]; rfl) (by decide) ?_
    exact b_X1_goes_122_ok C hr  (cp h_6 q7) H locs ls hH hL (lv_sub hl [0] rfl)
  have h_7 := cn h_6 q7
  have n0 := lv_neT q1 (a := 1) (by decide)
  have n1 := lv_neT q2 (a := 2) (by decide)
  have n2 := lv_neT q3 (a := 3) (by decide)
  have n3 := lv_neT q4 (a := 4) (by decide)
  have n4 := lv_neT q5 (a := 5) (by decide)
  have n5 := lv_neT q6 (a := 6) (by decide)
  have n6 := lv_neT q7 (a := 7) (by decide)
  refine lv_tableOut (tgt := 140) C.x C.b dX1_goes_1 (by omega) (by decide) ?_
  exact b_X1_goes_140_ok C hr  h_7 H locs ls hH hL (lv_sub hl [0] rfl)
def f_X1_goes (fu : Nat) (ev : Ev) (σ : Mm) (x0 : Nat) (x1 : Int32) : Option (Unit × Mm) := b_X1_goes_0  fu ev σ x0 x1
set_option maxRecDepth 20000 in
theorem ct_X1_goes (l : Launch) (D : Dx) (H0 : Heap) {σ : Mm} {x0 : Nat} {x1 : Int32} (h : f_X1_goes fu ev σ x0 x1 = some res) : Ct l D H0 ev yX1_goes (ws_ yX1_goes cX1_goes 2 none) 2 50 [.ref x0, .int x1] σ none res.2 := by
  refine Ct_of (by decide) ?_
  intro p e R s m below meth c C hr hnm hH
  have hl := lv_entry [.ref x0, .int x1] (n := 2) (Nat.le_of_ble_eq_true rfl)
  rw [lg_entry_eq]
  exact b_X1_goes_0_ok C hr  h s.heap [] _ hH (by simp) (lv_sub hl [0, 1] rfl)
end M_X1_goes
theorem cv_X1_116 : CV RX1 116 1 yX1_goes cX1_goes 2 none 1 := ⟨_, rfl, lw_V q498 q500 qs8 q104 q501, rfl, by decide, by decide, by decide +kernel⟩
theorem cv_X1_113 : CV RX1 113 1 yX1_applies cX1_applies 2 (some .boolean) 1 := ⟨_, rfl, lw_V q497 q464 q465 q104 q466, rfl, by decide, by decide, by decide +kernel⟩
/-! CellReducer$Cell.steps()I -/
section M_X1_steps
variable {p : Program} {l : Launch} {e : Env} {R : Room} {s : State} {m : MethodId} {args : Array Value} {below : List Frame} {meth : Method} {c : Code} {D : Dx} {H0 : Heap} {ev : Ev} {fu : Nat} {res : Int32 × Mm}
def b_X1_steps_29  (fu : Nat) (ev : Ev) (σ : Mm)  : Option (Int32 × Mm) :=
  some ((0 : Int32), σ)
set_option maxRecDepth 20000 in
theorem b_X1_steps_29_ok (C : Cx p m meth c cX1_steps 2 s args RX1 R ev D H0 3 71) (hr : meth.sig.returnType = (some .int))  {σ : Mm}  (h : b_X1_steps_29  fu ev σ  = some res) : GG p l e R s m args below meth c D H0 ev 2 (MQx D H0 ev below args s (some (.int res.1)) res.2) σ 29 [] [] := by
  intro H locs ls hH hL hl
  unfold b_X1_steps_29 at h
  refine lv_iconst (v := 0) C.x C.b dX1_steps_29 ki_0 ?_
  have hz_ := Option.some.inj h; subst hz_
  exact m_iret C hH hL hr dX1_steps_30
def b_X1_steps_23 (R2 : Mm → Nat → Int32 → Option (Int32 × Mm)) (fu : Nat) (ev : Ev) (σ : Mm) (x0 : Nat) (x1 : Int32) : Option (Int32 × Mm) :=
  R2 σ x0 (x1 + (1 : Int32))
set_option maxRecDepth 20000 in
theorem b_X1_steps_23_ok (C : Cx p m meth c cX1_steps 2 s args RX1 R ev D H0 3 71) (hr : meth.sig.returnType = (some .int)) {R2 : Mm → Nat → Int32 → Option (Int32 × Mm)} (HR2 : ∀ (σ : Mm) (x0 : Nat) (x1 : Int32), R2 σ x0 x1 = some res → GG p l e R s m args below meth c D H0 ev 2 (MQx D H0 ev below args s (some (.int res.1)) res.2) σ 2 [(0, .ref x0), (1, .int x1)] []) {σ : Mm} {x0 : Nat} {x1 : Int32} (h : b_X1_steps_23 R2 fu ev σ x0 x1 = some res) : GG p l e R s m args below meth c D H0 ev 2 (MQx D H0 ev below args s (some (.int res.1)) res.2) σ 23 [(0, .ref x0), (1, .int x1)] [] := by
  intro H locs ls hH hL hl
  unfold b_X1_steps_23 at h
  refine lv_iinc (v := x1 + (1 : Int32)) (lv' := [(1, .int (x1 + (1 : Int32))), (0, .ref x0)]) C.x C.b dX1_steps_23 hl (k := 1) rfl (by rw [ki_1]) (by decide) rfl (fun ls_1 hl_1 => ?_)
  refine lv_goto (tgt := 2) C.x C.b dX1_steps_26 (by decide) ?_
  exact HR2 _ _ _ h H locs ls_1 hH hL (lv_sub hl_1 [1, 0] rfl)
def b_X1_steps_16  (fu : Nat) (ev : Ev) (σ : Mm) (x0 : Nat) (x1 : Int32) : Option (Int32 × Mm) :=
  (isC σ x0 1).bind fun _ =>
  bd2 (f_X1_goes fu ev σ x0 x1) fun v2 s3 =>
  some (x1, s3)
set_option maxRecDepth 20000 in
theorem b_X1_steps_16_ok (C : Cx p m meth c cX1_steps 2 s args RX1 R ev D H0 3 71) (hr : meth.sig.returnType = (some .int))  {σ : Mm} {x0 : Nat} {x1 : Int32} (h : b_X1_steps_16  fu ev σ x0 x1 = some res) : GG p l e R s m args below meth c D H0 ev 2 (MQx D H0 ev below args s (some (.int res.1)) res.2) σ 16 [(0, .ref x0), (1, .int x1)] [] := by
  intro H locs ls hH hL hl
  unfold b_X1_steps_16 at h
  refine lv_aload_n C.x C.b dX1_steps_16 rfl (lv_at hl 0 rfl) ?_
  refine lv_iload_n C.x C.b dX1_steps_17 rfl (lv_at hl 1 rfl) ?_
  obtain ⟨_, u1, h_1⟩ := ob h
  obtain ⟨v2, s3, hs3, h_2⟩ := ob2 h_1
  refine m_callVN (As := [.int x1]) (rest := []) C hH hL cv_X1_116 (ct_X1_goes l D H0 hs3) u1 ⟨Nat.le_of_ble_eq_true rfl, Nat.le_of_ble_eq_true rfl⟩ rfl hl.1 rfl (Nat.le_of_ble_eq_true rfl) dX1_steps_18 (fun H_3 locs_3 hH_3 hL_3 => ?_)
  refine lv_iload_n C.x C.b dX1_steps_21 rfl (lv_at hl 1 rfl) ?_
  have hz_ := Option.some.inj h_2; subst hz_
  exact m_iret C hH_3 hL_3 hr dX1_steps_22
def b_X1_steps_8 (R2 : Mm → Nat → Int32 → Option (Int32 × Mm)) (fu : Nat) (ev : Ev) (σ : Mm) (x0 : Nat) (x1 : Int32) : Option (Int32 × Mm) :=
  (isC σ x0 1).bind fun _ =>
  bd2 (f_X1_applies fu ev σ x0 x1) fun v2 s3 =>
  if v2 = 0 then b_X1_steps_23 R2 fu ev s3 x0 x1 else b_X1_steps_16  fu ev s3 x0 x1
set_option maxRecDepth 20000 in
theorem b_X1_steps_8_ok (C : Cx p m meth c cX1_steps 2 s args RX1 R ev D H0 3 71) (hr : meth.sig.returnType = (some .int)) {R2 : Mm → Nat → Int32 → Option (Int32 × Mm)} (HR2 : ∀ (σ : Mm) (x0 : Nat) (x1 : Int32), R2 σ x0 x1 = some res → GG p l e R s m args below meth c D H0 ev 2 (MQx D H0 ev below args s (some (.int res.1)) res.2) σ 2 [(0, .ref x0), (1, .int x1)] []) {σ : Mm} {x0 : Nat} {x1 : Int32} (h : b_X1_steps_8 R2 fu ev σ x0 x1 = some res) : GG p l e R s m args below meth c D H0 ev 2 (MQx D H0 ev below args s (some (.int res.1)) res.2) σ 8 [(0, .ref x0), (1, .int x1)] [] := by
  intro H locs ls hH hL hl
  unfold b_X1_steps_8 at h
  refine lv_aload_n C.x C.b dX1_steps_8 rfl (lv_at hl 0 rfl) ?_
  refine lv_iload_n C.x C.b dX1_steps_9 rfl (lv_at hl 1 rfl) ?_
  obtain ⟨_, u1, h_1⟩ := ob h
  obtain ⟨v2, s3, hs3, h_2⟩ := ob2 h_1
  refine m_callVI (As := [.int x1]) (rest := []) (v := v2) C hH hL cv_X1_113 (ct_X1_applies l D H0 hs3) u1 ⟨Nat.le_of_ble_eq_true rfl, Nat.le_of_ble_eq_true rfl⟩ rfl hl.1 rfl (Nat.le_of_ble_eq_true rfl) dX1_steps_10 (fun H_3 locs_3 hH_3 hL_3 => ?_)
  refine lv_if_eq (tgt := 23) C.x C.b dX1_steps_13 (by decide) (fun q => ?_) (fun q => ?_)
  · exact b_X1_steps_23_ok C hr HR2 (cp h_2 q) H_3 locs_3 ls hH_3 hL_3 (lv_sub hl [0, 1] rfl)
  · exact b_X1_steps_16_ok C hr  (cn h_2 q) H_3 locs_3 ls hH_3 hL_3 (lv_sub hl [0, 1] rfl)
def b_X1_steps_2 (R2 : Mm → Nat → Int32 → Option (Int32 × Mm)) (fu : Nat) (ev : Ev) (σ : Mm) (x0 : Nat) (x1 : Int32) : Option (Int32 × Mm) :=
  if (8 : Int32) < x1 then b_X1_steps_29  fu ev σ  else b_X1_steps_8 R2 fu ev σ x0 x1
set_option maxRecDepth 20000 in
theorem b_X1_steps_2_ok (C : Cx p m meth c cX1_steps 2 s args RX1 R ev D H0 3 71) (hr : meth.sig.returnType = (some .int)) {R2 : Mm → Nat → Int32 → Option (Int32 × Mm)} (HR2 : ∀ (σ : Mm) (x0 : Nat) (x1 : Int32), R2 σ x0 x1 = some res → GG p l e R s m args below meth c D H0 ev 2 (MQx D H0 ev below args s (some (.int res.1)) res.2) σ 2 [(0, .ref x0), (1, .int x1)] []) {σ : Mm} {x0 : Nat} {x1 : Int32} (h : b_X1_steps_2 R2 fu ev σ x0 x1 = some res) : GG p l e R s m args below meth c D H0 ev 2 (MQx D H0 ev below args s (some (.int res.1)) res.2) σ 2 [(0, .ref x0), (1, .int x1)] [] := by
  intro H locs ls hH hL hl
  unfold b_X1_steps_2 at h
  refine lv_iload_n C.x C.b dX1_steps_2 rfl (lv_at hl 1 rfl) ?_
  refine lv_bipush (v := 8) C.x C.b dX1_steps_3 kb_8 ?_
  refine lv_icmp_gt (tgt := 29) C.x C.b dX1_steps_5 (by decide) (fun q => ?_) (fun q => ?_)
  · exact b_X1_steps_29_ok C hr  (cp h q) H locs ls hH hL (lv_sub hl [] rfl)
  · exact b_X1_steps_8_ok C hr HR2 (cn h q) H locs ls hH hL (lv_sub hl [0, 1] rfl)
def L_X1_steps_2  (fu : Nat) (ev : Ev) : Nat → Mm → Nat → Int32 → Option (Int32 × Mm)
  | 0, _, _, _ => none
  | n + 1, σ, x0, x1 => b_X1_steps_2  (L_X1_steps_2  fu ev n) fu ev σ x0 x1
theorem L_X1_steps_2_ok (C : Cx p m meth c cX1_steps 2 s args RX1 R ev D H0 3 71) (hr : meth.sig.returnType = (some .int))  : ∀ (n : Nat) {σ : Mm} {x0 : Nat} {x1 : Int32}, L_X1_steps_2  fu ev n σ x0 x1 = some res → GG p l e R s m args below meth c D H0 ev 2 (MQx D H0 ev below args s (some (.int res.1)) res.2) σ 2 [(0, .ref x0), (1, .int x1)] [] := by
  intro n
  induction n with
  | zero => intro σ x0 x1 h; exact (Option.some_ne_none _ (Eq.symm h)).elim
  | succ n ih => intro σ x0 x1 h; exact b_X1_steps_2_ok C hr  (fun σ _ _ h => ih h) h
def b_X1_steps_0  (fu : Nat) (ev : Ev) (σ : Mm) (x0 : Nat) : Option (Int32 × Mm) :=
  L_X1_steps_2  fu ev fu σ x0 (1 : Int32)
set_option maxRecDepth 20000 in
theorem b_X1_steps_0_ok (C : Cx p m meth c cX1_steps 2 s args RX1 R ev D H0 3 71) (hr : meth.sig.returnType = (some .int))  {σ : Mm} {x0 : Nat} (h : b_X1_steps_0  fu ev σ x0 = some res) : GG p l e R s m args below meth c D H0 ev 2 (MQx D H0 ev below args s (some (.int res.1)) res.2) σ 0 [(0, .ref x0)] [] := by
  intro H locs ls hH hL hl
  unfold b_X1_steps_0 at h
  refine lv_iconst (v := 1) C.x C.b dX1_steps_0 ki_1 ?_
  refine lv_istore_n (i := 1) (lv' := [(1, .int (1 : Int32)), (0, .ref x0)]) C.x C.b dX1_steps_1 rfl hl (by decide) rfl (fun ls_1 hl_1 => ?_)
  exact L_X1_steps_2_ok C hr  fu h H locs ls_1 hH hL (lv_sub hl_1 [1, 0] rfl)
def f_X1_steps (fu : Nat) (ev : Ev) (σ : Mm) (x0 : Nat) : Option (Int32 × Mm) := b_X1_steps_0  fu ev σ x0
set_option maxRecDepth 20000 in
theorem ct_X1_steps (l : Launch) (D : Dx) (H0 : Heap) {σ : Mm} {x0 : Nat} (h : f_X1_steps fu ev σ x0 = some res) : Ct l D H0 ev yX1_steps (ws_ yX1_steps cX1_steps 2 (some .int)) 3 71 [.ref x0] σ (some (.int res.1)) res.2 := by
  refine Ct_of (by decide) ?_
  intro p e R s m below meth c C hr hnm hH
  have hl := lv_entry [.ref x0] (n := 2) (Nat.le_of_ble_eq_true rfl)
  rw [lg_entry_eq]
  exact b_X1_steps_0_ok C hr  h s.heap [] _ hH (by simp) (lv_sub hl [0] rfl)
end M_X1_steps
theorem cv_X1_123 : CV RX1 123 1 yX1_steps cX1_steps 2 (some .int) 0 := ⟨_, rfl, lw_V q595 q494 q495 q104 q496, rfl, by decide, by decide, by decide +kernel⟩
theorem cv_X1_119 : CV RX1 119 1 yX1_takes cX1_takes 3 (some (.object "CellReducer$Cell")) 1 := ⟨_, rfl, lw_V q594 q392 q393 q104 q394, rfl, by decide, by decide, by decide +kernel⟩
/-! CellReducer$Cell.normalOf(LCellReducer$Cell;)I -/
section M_X1_normalOf
variable {p : Program} {l : Launch} {e : Env} {R : Room} {s : State} {m : MethodId} {args : Array Value} {below : List Frame} {meth : Method} {c : Code} {D : Dx} {H0 : Heap} {ev : Ev} {fu : Nat} {res : Int32 × Mm}
def b_X1_normalOf_24  (fu : Nat) (ev : Ev) (σ : Mm) (x2 : Int32) : Option (Int32 × Mm) :=
  some (x2, σ)
set_option maxRecDepth 20000 in
theorem b_X1_normalOf_24_ok (C : Cx p m meth c cX1_normalOf 3 s args RX1 R ev D H0 4 92) (hr : meth.sig.returnType = (some .int))  {σ : Mm} {x2 : Int32} (h : b_X1_normalOf_24  fu ev σ x2 = some res) : GG p l e R s m args below meth c D H0 ev 3 (MQx D H0 ev below args s (some (.int res.1)) res.2) σ 24 [(2, .int x2)] [] := by
  intro H locs ls hH hL hl
  unfold b_X1_normalOf_24 at h
  refine lv_iload_n C.x C.b dX1_normalOf_24 rfl (lv_at hl 0 rfl) ?_
  have hz_ := Option.some.inj h; subst hz_
  exact m_iret C hH hL hr dX1_normalOf_25
def b_X1_normalOf_18 (R11 : Mm → Nat → Int32 → Option (Int32 × Mm)) (fu : Nat) (ev : Ev) (σ : Mm) (x0 : Nat) (x2 : Int32) : Option (Int32 × Mm) :=
  R11 σ x0 (x2 + (1 : Int32))
set_option maxRecDepth 20000 in
theorem b_X1_normalOf_18_ok (C : Cx p m meth c cX1_normalOf 3 s args RX1 R ev D H0 4 92) (hr : meth.sig.returnType = (some .int)) {R11 : Mm → Nat → Int32 → Option (Int32 × Mm)} (HR11 : ∀ (σ : Mm) (x0 : Nat) (x2 : Int32), R11 σ x0 x2 = some res → GG p l e R s m args below meth c D H0 ev 3 (MQx D H0 ev below args s (some (.int res.1)) res.2) σ 11 [(0, .ref x0), (2, .int x2)] []) {σ : Mm} {x0 : Nat} {x2 : Int32} (h : b_X1_normalOf_18 R11 fu ev σ x0 x2 = some res) : GG p l e R s m args below meth c D H0 ev 3 (MQx D H0 ev below args s (some (.int res.1)) res.2) σ 18 [(0, .ref x0), (2, .int x2)] [] := by
  intro H locs ls hH hL hl
  unfold b_X1_normalOf_18 at h
  refine lv_iinc (v := x2 + (1 : Int32)) (lv' := [(2, .int (x2 + (1 : Int32))), (0, .ref x0)]) C.x C.b dX1_normalOf_18 hl (k := 1) rfl (by rw [ki_1]) (by decide) rfl (fun ls_1 hl_1 => ?_)
  refine lv_goto (tgt := 11) C.x C.b dX1_normalOf_21 (by decide) ?_
  exact HR11 _ _ _ h H locs ls_1 hH hL (lv_sub hl_1 [1, 0] rfl)
def b_X1_normalOf_11 (R11 : Mm → Nat → Int32 → Option (Int32 × Mm)) (fu : Nat) (ev : Ev) (σ : Mm) (x0 : Nat) (x2 : Int32) : Option (Int32 × Mm) :=
  (isC σ x0 1).bind fun _ =>
  bd2 (f_X1_steps fu ev σ x0) fun v2 s3 =>
  if v2 ≤ 0 then b_X1_normalOf_24  fu ev s3 x2 else b_X1_normalOf_18 R11 fu ev s3 x0 x2
set_option maxRecDepth 20000 in
theorem b_X1_normalOf_11_ok (C : Cx p m meth c cX1_normalOf 3 s args RX1 R ev D H0 4 92) (hr : meth.sig.returnType = (some .int)) {R11 : Mm → Nat → Int32 → Option (Int32 × Mm)} (HR11 : ∀ (σ : Mm) (x0 : Nat) (x2 : Int32), R11 σ x0 x2 = some res → GG p l e R s m args below meth c D H0 ev 3 (MQx D H0 ev below args s (some (.int res.1)) res.2) σ 11 [(0, .ref x0), (2, .int x2)] []) {σ : Mm} {x0 : Nat} {x2 : Int32} (h : b_X1_normalOf_11 R11 fu ev σ x0 x2 = some res) : GG p l e R s m args below meth c D H0 ev 3 (MQx D H0 ev below args s (some (.int res.1)) res.2) σ 11 [(0, .ref x0), (2, .int x2)] [] := by
  intro H locs ls hH hL hl
  unfold b_X1_normalOf_11 at h
  refine lv_aload_n C.x C.b dX1_normalOf_11 rfl (lv_at hl 0 rfl) ?_
  obtain ⟨_, u1, h_1⟩ := ob h
  obtain ⟨v2, s3, hs3, h_2⟩ := ob2 h_1
  refine m_callVI (As := []) (rest := []) (v := v2) C hH hL cv_X1_123 (ct_X1_steps l D H0 hs3) u1 ⟨Nat.le_of_ble_eq_true rfl, Nat.le_of_ble_eq_true rfl⟩ rfl hl.1 rfl (Nat.le_of_ble_eq_true rfl) dX1_normalOf_12 (fun H_3 locs_3 hH_3 hL_3 => ?_)
  refine lv_if_le (tgt := 24) C.x C.b dX1_normalOf_15 (by decide) (fun q => ?_) (fun q => ?_)
  · exact b_X1_normalOf_24_ok C hr  (cp h_2 q) H_3 locs_3 ls hH_3 hL_3 (lv_sub hl [1] rfl)
  · exact b_X1_normalOf_18_ok C hr HR11 (cn h_2 q) H_3 locs_3 ls hH_3 hL_3 (lv_sub hl [0, 1] rfl)
def L_X1_normalOf_11  (fu : Nat) (ev : Ev) : Nat → Mm → Nat → Int32 → Option (Int32 × Mm)
  | 0, _, _, _ => none
  | n + 1, σ, x0, x2 => b_X1_normalOf_11  (L_X1_normalOf_11  fu ev n) fu ev σ x0 x2
theorem L_X1_normalOf_11_ok (C : Cx p m meth c cX1_normalOf 3 s args RX1 R ev D H0 4 92) (hr : meth.sig.returnType = (some .int))  : ∀ (n : Nat) {σ : Mm} {x0 : Nat} {x2 : Int32}, L_X1_normalOf_11  fu ev n σ x0 x2 = some res → GG p l e R s m args below meth c D H0 ev 3 (MQx D H0 ev below args s (some (.int res.1)) res.2) σ 11 [(0, .ref x0), (2, .int x2)] [] := by
  intro n
  induction n with
  | zero => intro σ x0 x2 h; exact (Option.some_ne_none _ (Eq.symm h)).elim
  | succ n ih => intro σ x0 x2 h; exact b_X1_normalOf_11_ok C hr  (fun σ _ _ h => ih h) h
def b_X1_normalOf_0  (fu : Nat) (ev : Ev) (σ : Mm) (x0 : Nat) (x1 : Option Nat) : Option (Int32 × Mm) :=
  (isC σ x0 1).bind fun _ =>
  bd2 (f_X1_takes fu ev σ x0 x1) fun v2 s3 =>
  v2.bind fun a4 =>
  (isC s3 a4 1).bind fun _ =>
  bd2 (f_X1_asItCame fu ev s3 a4) fun v6 s7 =>
  L_X1_normalOf_11  fu ev fu s7 x0 (0 : Int32)
set_option maxRecDepth 20000 in
theorem b_X1_normalOf_0_ok (C : Cx p m meth c cX1_normalOf 3 s args RX1 R ev D H0 4 92) (hr : meth.sig.returnType = (some .int))  {σ : Mm} {x0 : Nat} {x1 : Option Nat} (h : b_X1_normalOf_0  fu ev σ x0 x1 = some res) : GG p l e R s m args below meth c D H0 ev 3 (MQx D H0 ev below args s (some (.int res.1)) res.2) σ 0 [(0, .ref x0), (1, va_rf x1)] [] := by
  intro H locs ls hH hL hl
  unfold b_X1_normalOf_0 at h
  refine lv_aload_n C.x C.b dX1_normalOf_0 rfl (lv_at hl 0 rfl) ?_
  refine r_aload_n C.x C.b dX1_normalOf_1 rfl (lv_at hl 1 rfl) ?_
  obtain ⟨_, u1, h_1⟩ := ob h
  obtain ⟨v2, s3, hs3, h_2⟩ := ob2 h_1
  refine m_callVA (As := [va_rf x1]) (rest := []) (v := v2) C hH hL cv_X1_119 (ct_X1_takes l D H0 hs3) u1 ⟨Nat.le_of_ble_eq_true rfl, Nat.le_of_ble_eq_true rfl⟩ rfl hl.1 rfl (Nat.le_of_ble_eq_true rfl) dX1_normalOf_2 (fun H_3 locs_3 hH_3 hL_3 => ?_)
  obtain ⟨a4, e_, h_4⟩ := ob h_2; subst e_
  obtain ⟨_, u5, h_5⟩ := ob h_4
  obtain ⟨v6, s7, hs7, h_6⟩ := ob2 h_5
  refine m_callVA (As := []) (rest := []) (v := v6) C hH_3 hL_3 cv_X1_27 (ct_X1_asItCame l D H0 hs7) u5 ⟨Nat.le_of_ble_eq_true rfl, Nat.le_of_ble_eq_true rfl⟩ rfl hl.1 rfl (Nat.le_of_ble_eq_true rfl) dX1_normalOf_5 (fun H_7 locs_7 hH_7 hL_7 => ?_)
  refine lv_pop C.x C.b dX1_normalOf_8 (r_catv _) ?_
  refine lv_iconst (v := 0) C.x C.b dX1_normalOf_9 ki_0 ?_
  refine lv_istore_n (i := 2) (lv' := [(2, .int (0 : Int32)), (0, .ref x0), (1, va_rf x1)]) C.x C.b dX1_normalOf_10 rfl hl (by decide) (by simp [cat_I, cat_J, cat_R, r_catv, rf_some]) (fun ls_8 hl_8 => ?_)
  exact L_X1_normalOf_11_ok C hr  fu h_6 H_7 locs_7 ls_8 hH_7 hL_7 (lv_sub hl_8 [1, 0] rfl)
def f_X1_normalOf (fu : Nat) (ev : Ev) (σ : Mm) (x0 : Nat) (x1 : Option Nat) : Option (Int32 × Mm) := b_X1_normalOf_0  fu ev σ x0 x1
set_option maxRecDepth 20000 in
theorem ct_X1_normalOf (l : Launch) (D : Dx) (H0 : Heap) {σ : Mm} {x0 : Nat} {x1 : Option Nat} (h : f_X1_normalOf fu ev σ x0 x1 = some res) : Ct l D H0 ev yX1_normalOf (ws_ yX1_normalOf cX1_normalOf 3 (some .int)) 4 92 [.ref x0, va_rf x1] σ (some (.int res.1)) res.2 := by
  refine Ct_of (by decide) ?_
  intro p e R s m below meth c C hr hnm hH
  have hl := lv_entry [.ref x0, va_rf x1] (n := 3) (by simp [lg_sl, cat_I, cat_J, cat_R, r_catv, rf_some])
  rw [lg_entry_eq]
  exact b_X1_normalOf_0_ok C hr  h s.heap [] _ hH (by simp) (lv_sub hl [0, 1] (by simp [lv_args, lv_pick, cat_I, cat_J, cat_R, r_catv, rf_some]))
end M_X1_normalOf
theorem cv_X1_37 : CV RX1 37 1 yX1_six cX1_six 2 (some .long) 1 := ⟨_, rfl, lw_V q1353 q410 q411 q104 q412, rfl, by decide, by decide, by decide +kernel⟩
/-! CellReducer$Cell.isLike(LCellReducer$Cell;)Z -/
section M_X1_isLike
variable {p : Program} {l : Launch} {e : Env} {R : Room} {s : State} {m : MethodId} {args : Array Value} {below : List Frame} {meth : Method} {c : Code} {D : Dx} {H0 : Heap} {ev : Ev} {fu : Nat} {res : Int32 × Mm}
def b_X1_isLike_30  (fu : Nat) (ev : Ev) (σ : Mm)  : Option (Int32 × Mm) :=
  some ((1 : Int32), σ)
set_option maxRecDepth 20000 in
theorem b_X1_isLike_30_ok (C : Cx p m meth c cX1_isLike 3 s args RX1 R ev D H0 1 21) (hr : meth.sig.returnType = (some .boolean))  {σ : Mm}  (h : b_X1_isLike_30  fu ev σ  = some res) : GG p l e R s m args below meth c D H0 ev 3 (MQx D H0 ev below args s (some (.int res.1)) res.2) σ 30 [] [] := by
  intro H locs ls hH hL hl
  unfold b_X1_isLike_30 at h
  refine lv_iconst (v := 1) C.x C.b dX1_isLike_30 ki_1 ?_
  have hz_ := Option.some.inj h; subst hz_
  exact m_zret C hH hL hr (Or.inr rfl) dX1_isLike_31
def b_X1_isLike_24 (R2 : Mm → Nat → Option Nat → Int32 → Option (Int32 × Mm)) (fu : Nat) (ev : Ev) (σ : Mm) (x0 : Nat) (x1 : Nat) (x2 : Int32) : Option (Int32 × Mm) :=
  R2 σ x0 (some x1) (x2 + (1 : Int32))
set_option maxRecDepth 20000 in
theorem b_X1_isLike_24_ok (C : Cx p m meth c cX1_isLike 3 s args RX1 R ev D H0 1 21) (hr : meth.sig.returnType = (some .boolean)) {R2 : Mm → Nat → Option Nat → Int32 → Option (Int32 × Mm)} (HR2 : ∀ (σ : Mm) (x0 : Nat) (x1 : Option Nat) (x2 : Int32), R2 σ x0 x1 x2 = some res → GG p l e R s m args below meth c D H0 ev 3 (MQx D H0 ev below args s (some (.int res.1)) res.2) σ 2 [(0, .ref x0), (1, va_rf x1), (2, .int x2)] []) {σ : Mm} {x0 : Nat} {x1 : Nat} {x2 : Int32} (h : b_X1_isLike_24 R2 fu ev σ x0 x1 x2 = some res) : GG p l e R s m args below meth c D H0 ev 3 (MQx D H0 ev below args s (some (.int res.1)) res.2) σ 24 [(0, .ref x0), (1, .ref x1), (2, .int x2)] [] := by
  intro H locs ls hH hL hl
  unfold b_X1_isLike_24 at h
  refine lv_iinc (v := x2 + (1 : Int32)) (lv' := [(2, .int (x2 + (1 : Int32))), (0, .ref x0), (1, .ref x1)]) C.x C.b dX1_isLike_24 hl (k := 2) rfl (by rw [ki_1]) (by decide) rfl (fun ls_1 hl_1 => ?_)
  refine lv_goto (tgt := 2) C.x C.b dX1_isLike_27 (by decide) ?_
  exact HR2 _ _ _ _ h H locs ls_1 hH hL (lv_sub hl_1 [1, 2, 0] rfl)
def b_X1_isLike_22  (fu : Nat) (ev : Ev) (σ : Mm)  : Option (Int32 × Mm) :=
  some ((0 : Int32), σ)
set_option maxRecDepth 20000 in
theorem b_X1_isLike_22_ok (C : Cx p m meth c cX1_isLike 3 s args RX1 R ev D H0 1 21) (hr : meth.sig.returnType = (some .boolean))  {σ : Mm}  (h : b_X1_isLike_22  fu ev σ  = some res) : GG p l e R s m args below meth c D H0 ev 3 (MQx D H0 ev below args s (some (.int res.1)) res.2) σ 22 [] [] := by
  intro H locs ls hH hL hl
  unfold b_X1_isLike_22 at h
  refine lv_iconst (v := 0) C.x C.b dX1_isLike_22 ki_0 ?_
  have hz_ := Option.some.inj h; subst hz_
  exact m_zret C hH hL hr (Or.inl rfl) dX1_isLike_23
def b_X1_isLike_8 (R2 : Mm → Nat → Option Nat → Int32 → Option (Int32 × Mm)) (fu : Nat) (ev : Ev) (σ : Mm) (x0 : Nat) (x1 : Option Nat) (x2 : Int32) : Option (Int32 × Mm) :=
  (isC σ x0 1).bind fun _ =>
  bd2 (f_X1_six fu ev σ x0 x2) fun v2 s3 =>
  x1.bind fun a4 =>
  (isC s3 a4 1).bind fun _ =>
  bd2 (f_X1_six fu ev s3 a4 x2) fun v6 s7 =>
  if v2 = v6 then b_X1_isLike_24 R2 fu ev s7 x0 a4 x2 else b_X1_isLike_22  fu ev s7 
set_option maxRecDepth 20000 in
theorem b_X1_isLike_8_ok (C : Cx p m meth c cX1_isLike 3 s args RX1 R ev D H0 1 21) (hr : meth.sig.returnType = (some .boolean)) {R2 : Mm → Nat → Option Nat → Int32 → Option (Int32 × Mm)} (HR2 : ∀ (σ : Mm) (x0 : Nat) (x1 : Option Nat) (x2 : Int32), R2 σ x0 x1 x2 = some res → GG p l e R s m args below meth c D H0 ev 3 (MQx D H0 ev below args s (some (.int res.1)) res.2) σ 2 [(0, .ref x0), (1, va_rf x1), (2, .int x2)] []) {σ : Mm} {x0 : Nat} {x1 : Option Nat} {x2 : Int32} (h : b_X1_isLike_8 R2 fu ev σ x0 x1 x2 = some res) : GG p l e R s m args below meth c D H0 ev 3 (MQx D H0 ev below args s (some (.int res.1)) res.2) σ 8 [(0, .ref x0), (1, va_rf x1), (2, .int x2)] [] := by
  intro H locs ls hH hL hl
  unfold b_X1_isLike_8 at h
  refine lv_aload_n C.x C.b dX1_isLike_8 rfl (lv_at hl 0 rfl) ?_
  refine lv_iload_n C.x C.b dX1_isLike_9 rfl (lv_at hl 2 rfl) ?_
  obtain ⟨_, u1, h_1⟩ := ob h
  obtain ⟨v2, s3, hs3, h_2⟩ := ob2 h_1
  refine m_callVJ (As := [.int x2]) (rest := []) (v := v2) C hH hL cv_X1_37 (ct_X1_six l D H0 hs3) u1 ⟨Nat.le_of_ble_eq_true rfl, Nat.le_of_ble_eq_true rfl⟩ rfl hl.1 rfl (Nat.le_of_ble_eq_true rfl) dX1_isLike_10 (fun H_3 locs_3 hH_3 hL_3 => ?_)
  refine r_aload_n C.x C.b dX1_isLike_13 rfl (lv_at hl 1 rfl) ?_
  refine lv_iload_n C.x C.b dX1_isLike_14 rfl (lv_at hl 2 rfl) ?_
  obtain ⟨a4, e_, h_4⟩ := ob h_2; subst e_
  obtain ⟨_, u5, h_5⟩ := ob h_4
  obtain ⟨v6, s7, hs7, h_6⟩ := ob2 h_5
  refine m_callVJ (As := [.int x2]) (rest := [.long v2]) (v := v6) C hH_3 hL_3 cv_X1_37 (ct_X1_six l D H0 hs7) u5 ⟨Nat.le_of_ble_eq_true rfl, Nat.le_of_ble_eq_true rfl⟩ rfl hl.1 rfl (Nat.le_of_ble_eq_true rfl) dX1_isLike_15 (fun H_7 locs_7 hH_7 hL_7 => ?_)
  refine r_lc_eq (tgt := 24) C.x C.b dX1_isLike_18 dX1_isLike_19 (by decide) (fun q => ?_) (fun q => ?_)
  · exact b_X1_isLike_24_ok C hr HR2 (cp h_6 q) H_7 locs_7 ls hH_7 hL_7 (lv_sub hl [0, 1, 2] rfl)
  · exact b_X1_isLike_22_ok C hr  (cn h_6 q) H_7 locs_7 ls hH_7 hL_7 (lv_sub hl [] rfl)
def b_X1_isLike_2 (R2 : Mm → Nat → Option Nat → Int32 → Option (Int32 × Mm)) (fu : Nat) (ev : Ev) (σ : Mm) (x0 : Nat) (x1 : Option Nat) (x2 : Int32) : Option (Int32 × Mm) :=
  if (6 : Int32) ≤ x2 then b_X1_isLike_30  fu ev σ  else b_X1_isLike_8 R2 fu ev σ x0 x1 x2
set_option maxRecDepth 20000 in
theorem b_X1_isLike_2_ok (C : Cx p m meth c cX1_isLike 3 s args RX1 R ev D H0 1 21) (hr : meth.sig.returnType = (some .boolean)) {R2 : Mm → Nat → Option Nat → Int32 → Option (Int32 × Mm)} (HR2 : ∀ (σ : Mm) (x0 : Nat) (x1 : Option Nat) (x2 : Int32), R2 σ x0 x1 x2 = some res → GG p l e R s m args below meth c D H0 ev 3 (MQx D H0 ev below args s (some (.int res.1)) res.2) σ 2 [(0, .ref x0), (1, va_rf x1), (2, .int x2)] []) {σ : Mm} {x0 : Nat} {x1 : Option Nat} {x2 : Int32} (h : b_X1_isLike_2 R2 fu ev σ x0 x1 x2 = some res) : GG p l e R s m args below meth c D H0 ev 3 (MQx D H0 ev below args s (some (.int res.1)) res.2) σ 2 [(0, .ref x0), (1, va_rf x1), (2, .int x2)] [] := by
  intro H locs ls hH hL hl
  unfold b_X1_isLike_2 at h
  refine lv_iload_n C.x C.b dX1_isLike_2 rfl (lv_at hl 2 rfl) ?_
  refine lv_bipush (v := 6) C.x C.b dX1_isLike_3 kb_6 ?_
  refine lv_icmp_ge (tgt := 30) C.x C.b dX1_isLike_5 (by decide) (fun q => ?_) (fun q => ?_)
  · exact b_X1_isLike_30_ok C hr  (cp h q) H locs ls hH hL (lv_sub hl [] rfl)
  · exact b_X1_isLike_8_ok C hr HR2 (cn h q) H locs ls hH hL (lv_sub hl [0, 1, 2] rfl)
def L_X1_isLike_2  (fu : Nat) (ev : Ev) : Nat → Mm → Nat → Option Nat → Int32 → Option (Int32 × Mm)
  | 0, _, _, _, _ => none
  | n + 1, σ, x0, x1, x2 => b_X1_isLike_2  (L_X1_isLike_2  fu ev n) fu ev σ x0 x1 x2
theorem L_X1_isLike_2_ok (C : Cx p m meth c cX1_isLike 3 s args RX1 R ev D H0 1 21) (hr : meth.sig.returnType = (some .boolean))  : ∀ (n : Nat) {σ : Mm} {x0 : Nat} {x1 : Option Nat} {x2 : Int32}, L_X1_isLike_2  fu ev n σ x0 x1 x2 = some res → GG p l e R s m args below meth c D H0 ev 3 (MQx D H0 ev below args s (some (.int res.1)) res.2) σ 2 [(0, .ref x0), (1, va_rf x1), (2, .int x2)] [] := by
  intro n
  induction n with
  | zero => intro σ x0 x1 x2 h; exact (Option.some_ne_none _ (Eq.symm h)).elim
  | succ n ih => intro σ x0 x1 x2 h; exact b_X1_isLike_2_ok C hr  (fun σ _ _ _ h => ih h) h
def b_X1_isLike_0  (fu : Nat) (ev : Ev) (σ : Mm) (x0 : Nat) (x1 : Option Nat) : Option (Int32 × Mm) :=
  L_X1_isLike_2  fu ev fu σ x0 x1 (0 : Int32)
set_option maxRecDepth 20000 in
theorem b_X1_isLike_0_ok (C : Cx p m meth c cX1_isLike 3 s args RX1 R ev D H0 1 21) (hr : meth.sig.returnType = (some .boolean))  {σ : Mm} {x0 : Nat} {x1 : Option Nat} (h : b_X1_isLike_0  fu ev σ x0 x1 = some res) : GG p l e R s m args below meth c D H0 ev 3 (MQx D H0 ev below args s (some (.int res.1)) res.2) σ 0 [(0, .ref x0), (1, va_rf x1)] [] := by
  intro H locs ls hH hL hl
  unfold b_X1_isLike_0 at h
  refine lv_iconst (v := 0) C.x C.b dX1_isLike_0 ki_0 ?_
  refine lv_istore_n (i := 2) (lv' := [(2, .int (0 : Int32)), (0, .ref x0), (1, va_rf x1)]) C.x C.b dX1_isLike_1 rfl hl (by decide) (by simp [cat_I, cat_J, cat_R, r_catv, rf_some]) (fun ls_1 hl_1 => ?_)
  exact L_X1_isLike_2_ok C hr  fu h H locs ls_1 hH hL (lv_sub hl_1 [1, 2, 0] rfl)
def f_X1_isLike (fu : Nat) (ev : Ev) (σ : Mm) (x0 : Nat) (x1 : Option Nat) : Option (Int32 × Mm) := b_X1_isLike_0  fu ev σ x0 x1
set_option maxRecDepth 20000 in
theorem ct_X1_isLike (l : Launch) (D : Dx) (H0 : Heap) {σ : Mm} {x0 : Nat} {x1 : Option Nat} (h : f_X1_isLike fu ev σ x0 x1 = some res) : Ct l D H0 ev yX1_isLike (ws_ yX1_isLike cX1_isLike 3 (some .boolean)) 1 21 [.ref x0, va_rf x1] σ (some (.int res.1)) res.2 := by
  refine Ct_of (by decide) ?_
  intro p e R s m below meth c C hr hnm hH
  have hl := lv_entry [.ref x0, va_rf x1] (n := 3) (by simp [lg_sl, cat_I, cat_J, cat_R, r_catv, rf_some])
  rw [lg_entry_eq]
  exact b_X1_isLike_0_ok C hr  h s.heap [] _ hH (by simp) (lv_sub hl [0, 1] (by simp [lv_args, lv_pick, cat_I, cat_J, cat_R, r_catv, rf_some]))
end M_X1_isLike
/-! CellReducer$Cell.twice([J[J)J -/
section M_X1_twice
variable {p : Program} {l : Launch} {e : Env} {R : Room} {s : State} {m : MethodId} {args : Array Value} {below : List Frame} {meth : Method} {c : Code} {D : Dx} {H0 : Heap} {ev : Ev} {fu : Nat} {res : Int64 × Mm}
def b_X1_twice_78  (fu : Nat) (ev : Ev) (σ : Mm) (x3 : Int64) : Option (Int64 × Mm) :=
  some (x3, σ)
set_option maxRecDepth 20000 in
theorem b_X1_twice_78_ok (C : Cx p m meth c cX1_twice 7 s args RX1 R ev D H0 0 0) (hr : meth.sig.returnType = (some .long))  {σ : Mm} {x3 : Int64} (h : b_X1_twice_78  fu ev σ x3 = some res) : GG p l e R s m args below meth c D H0 ev 7 (MQx D H0 ev below args s (some (.long res.1)) res.2) σ 78 [(3, .long x3)] [] := by
  intro H locs ls hH hL hl
  unfold b_X1_twice_78 at h
  refine lv_lload_n C.x C.b dX1_twice_78 rfl (lv_at hl 0 rfl) ?_
  have hz_ := Option.some.inj h; subst hz_
  exact m_lret C hH hL hr dX1_twice_79
def b_X1_twice_72 (R5 : Mm → Nat → Option Nat → Option Nat → Int64 → Int32 → Option (Int64 × Mm)) (fu : Nat) (ev : Ev) (σ : Mm) (x0 : Nat) (x1 : Option Nat) (x2 : Option Nat) (x3 : Int64) (x5 : Int32) : Option (Int64 × Mm) :=
  R5 σ x0 x1 x2 x3 (x5 + (1 : Int32))
set_option maxRecDepth 20000 in
theorem b_X1_twice_72_ok (C : Cx p m meth c cX1_twice 7 s args RX1 R ev D H0 0 0) (hr : meth.sig.returnType = (some .long)) {R5 : Mm → Nat → Option Nat → Option Nat → Int64 → Int32 → Option (Int64 × Mm)} (HR5 : ∀ (σ : Mm) (x0 : Nat) (x1 : Option Nat) (x2 : Option Nat) (x3 : Int64) (x5 : Int32), R5 σ x0 x1 x2 x3 x5 = some res → GG p l e R s m args below meth c D H0 ev 7 (MQx D H0 ev below args s (some (.long res.1)) res.2) σ 5 [(0, .ref x0), (1, va_rf x1), (2, va_rf x2), (3, .long x3), (5, .int x5)] []) {σ : Mm} {x0 : Nat} {x1 : Option Nat} {x2 : Option Nat} {x3 : Int64} {x5 : Int32} (h : b_X1_twice_72 R5 fu ev σ x0 x1 x2 x3 x5 = some res) : GG p l e R s m args below meth c D H0 ev 7 (MQx D H0 ev below args s (some (.long res.1)) res.2) σ 72 [(0, .ref x0), (1, va_rf x1), (2, va_rf x2), (3, .long x3), (5, .int x5)] [] := by
  intro H locs ls hH hL hl
  unfold b_X1_twice_72 at h
  refine lv_iinc (v := x5 + (1 : Int32)) (lv' := [(5, .int (x5 + (1 : Int32))), (0, .ref x0), (1, va_rf x1), (2, va_rf x2), (3, .long x3)]) C.x C.b dX1_twice_72 hl (k := 4) rfl (by rw [ki_1]) (by decide) (by simp [cat_I, cat_J, cat_R, r_catv, rf_some]) (fun ls_1 hl_1 => ?_)
  refine lv_goto (tgt := 5) C.x C.b dX1_twice_75 (by decide) ?_
  exact HR5 _ _ _ _ _ _ h H locs ls_1 hH hL (lv_sub hl_1 [1, 2, 3, 4, 0] rfl)
def b_X1_twice_63 (R5 : Mm → Nat → Option Nat → Option Nat → Int64 → Int32 → Option (Int64 × Mm)) (R14 : Mm → Nat → Option Nat → Option Nat → Int64 → Int32 → Int32 → Option (Int64 × Mm)) (fu : Nat) (ev : Ev) (σ : Mm) (x0 : Nat) (x1 : Nat) (x2 : Nat) (x5 : Int32) (x6 : Int32) (t0 : Int64) (t1 : Int64) (t2 : Int64) : Option (Int64 × Mm) :=
  R14 σ x0 (some x1) (some x2) (t0 + (t1 * t2)) x5 (x6 + (1 : Int32))
set_option maxRecDepth 20000 in
theorem b_X1_twice_63_ok (C : Cx p m meth c cX1_twice 7 s args RX1 R ev D H0 0 0) (hr : meth.sig.returnType = (some .long)) {R5 : Mm → Nat → Option Nat → Option Nat → Int64 → Int32 → Option (Int64 × Mm)} (HR5 : ∀ (σ : Mm) (x0 : Nat) (x1 : Option Nat) (x2 : Option Nat) (x3 : Int64) (x5 : Int32), R5 σ x0 x1 x2 x3 x5 = some res → GG p l e R s m args below meth c D H0 ev 7 (MQx D H0 ev below args s (some (.long res.1)) res.2) σ 5 [(0, .ref x0), (1, va_rf x1), (2, va_rf x2), (3, .long x3), (5, .int x5)] []) {R14 : Mm → Nat → Option Nat → Option Nat → Int64 → Int32 → Int32 → Option (Int64 × Mm)} (HR14 : ∀ (σ : Mm) (x0 : Nat) (x1 : Option Nat) (x2 : Option Nat) (x3 : Int64) (x5 : Int32) (x6 : Int32), R14 σ x0 x1 x2 x3 x5 x6 = some res → GG p l e R s m args below meth c D H0 ev 7 (MQx D H0 ev below args s (some (.long res.1)) res.2) σ 14 [(0, .ref x0), (1, va_rf x1), (2, va_rf x2), (3, .long x3), (5, .int x5), (6, .int x6)] []) {σ : Mm} {x0 : Nat} {x1 : Nat} {x2 : Nat} {x5 : Int32} {x6 : Int32} {t0 : Int64} {t1 : Int64} {t2 : Int64} (h : b_X1_twice_63 R5 R14 fu ev σ x0 x1 x2 x5 x6 t0 t1 t2 = some res) : GG p l e R s m args below meth c D H0 ev 7 (MQx D H0 ev below args s (some (.long res.1)) res.2) σ 63 [(0, .ref x0), (1, .ref x1), (2, .ref x2), (5, .int x5), (6, .int x6)] [.long t2, .long t1, .long t0] := by
  intro H locs ls hH hL hl
  unfold b_X1_twice_63 at h
  refine lv_lmul C.x C.b dX1_twice_63 ?_
  refine lv_ladd C.x C.b dX1_twice_64 ?_
  refine lv_lstore_n (i := 3) (lv' := [(3, .long (t0 + (t1 * t2))), (0, .ref x0), (1, .ref x1), (2, .ref x2), (5, .int x5), (6, .int x6)]) C.x C.b dX1_twice_65 rfl hl (by decide) rfl (fun ls_1 hl_1 => ?_)
  refine lv_iinc (v := x6 + (1 : Int32)) (lv' := [(6, .int (x6 + (1 : Int32))), (3, .long (t0 + (t1 * t2))), (0, .ref x0), (1, .ref x1), (2, .ref x2), (5, .int x5)]) C.x C.b dX1_twice_66 hl_1 (k := 5) rfl (by rw [ki_1]) (by decide) rfl (fun ls_2 hl_2 => ?_)
  refine lv_goto (tgt := 14) C.x C.b dX1_twice_69 (by decide) ?_
  exact HR14 _ _ _ _ _ _ _ h H locs ls_2 hH hL (lv_sub hl_2 [2, 3, 4, 1, 5, 0] rfl)
def b_X1_twice_51 (R5 : Mm → Nat → Option Nat → Option Nat → Int64 → Int32 → Option (Int64 × Mm)) (R14 : Mm → Nat → Option Nat → Option Nat → Int64 → Int32 → Int32 → Option (Int64 × Mm)) (fu : Nat) (ev : Ev) (σ : Mm) (x0 : Nat) (x1 : Nat) (x2 : Nat) (x5 : Int32) (x6 : Int32) (t0 : Int64) (t1 : Int64) : Option (Int64 × Mm) :=
  (gfA σ x0 1 1).bind fun v1 =>
  v1.bind fun a2 =>
  (aldJ σ a2 (((3 : Int32) - x5) - x6)).bind fun v3 =>
  b_X1_twice_63 R5 R14 fu ev σ x0 x1 x2 x5 x6 t0 t1 v3
set_option maxRecDepth 20000 in
theorem b_X1_twice_51_ok (C : Cx p m meth c cX1_twice 7 s args RX1 R ev D H0 0 0) (hr : meth.sig.returnType = (some .long)) {R5 : Mm → Nat → Option Nat → Option Nat → Int64 → Int32 → Option (Int64 × Mm)} (HR5 : ∀ (σ : Mm) (x0 : Nat) (x1 : Option Nat) (x2 : Option Nat) (x3 : Int64) (x5 : Int32), R5 σ x0 x1 x2 x3 x5 = some res → GG p l e R s m args below meth c D H0 ev 7 (MQx D H0 ev below args s (some (.long res.1)) res.2) σ 5 [(0, .ref x0), (1, va_rf x1), (2, va_rf x2), (3, .long x3), (5, .int x5)] []) {R14 : Mm → Nat → Option Nat → Option Nat → Int64 → Int32 → Int32 → Option (Int64 × Mm)} (HR14 : ∀ (σ : Mm) (x0 : Nat) (x1 : Option Nat) (x2 : Option Nat) (x3 : Int64) (x5 : Int32) (x6 : Int32), R14 σ x0 x1 x2 x3 x5 x6 = some res → GG p l e R s m args below meth c D H0 ev 7 (MQx D H0 ev below args s (some (.long res.1)) res.2) σ 14 [(0, .ref x0), (1, va_rf x1), (2, va_rf x2), (3, .long x3), (5, .int x5), (6, .int x6)] []) {σ : Mm} {x0 : Nat} {x1 : Nat} {x2 : Nat} {x5 : Int32} {x6 : Int32} {t0 : Int64} {t1 : Int64} (h : b_X1_twice_51 R5 R14 fu ev σ x0 x1 x2 x5 x6 t0 t1 = some res) : GG p l e R s m args below meth c D H0 ev 7 (MQx D H0 ev below args s (some (.long res.1)) res.2) σ 51 [(0, .ref x0), (1, .ref x1), (2, .ref x2), (5, .int x5), (6, .int x6)] [.long t1, .long t0] := by
  intro H locs ls hH hL hl
  unfold b_X1_twice_51 at h
  refine lv_aload_n C.x C.b dX1_twice_51 rfl (lv_at hl 0 rfl) ?_
  obtain ⟨v1, hv1, h_1⟩ := ob h
  refine m_getA C hH fl_X1_15 hv1 dX1_twice_52 ?_
  refine lv_iconst (v := 3) C.x C.b dX1_twice_55 ki_3 ?_
  refine lv_iload C.x C.b dX1_twice_56 (lv_at hl 3 rfl) ?_
  refine lv_isub C.x C.b dX1_twice_58 ?_
  refine lv_iload C.x C.b dX1_twice_59 (lv_at hl 4 rfl) ?_
  refine lv_isub C.x C.b dX1_twice_61 ?_
  obtain ⟨a2, e_, h_2⟩ := ob h_1; subst e_
  obtain ⟨v3, hv3, h_3⟩ := ob h_2
  refine m_lald C hH hv3 dX1_twice_62 ?_
  exact b_X1_twice_63_ok C hr HR5 HR14 h_3 H locs ls hH hL (lv_sub hl [0, 1, 2, 3, 4] rfl)
def b_X1_twice_37 (R5 : Mm → Nat → Option Nat → Option Nat → Int64 → Int32 → Option (Int64 × Mm)) (R14 : Mm → Nat → Option Nat → Option Nat → Int64 → Int32 → Int32 → Option (Int64 × Mm)) (fu : Nat) (ev : Ev) (σ : Mm) (x0 : Nat) (x1 : Nat) (x2 : Nat) (x5 : Int32) (x6 : Int32) (t0 : Int64) (t1 : Int64) : Option (Int64 × Mm) :=
  (gfA σ x0 1 0).bind fun v1 =>
  v1.bind fun a2 =>
  (aldJ σ a2 x5).bind fun v3 =>
  b_X1_twice_63 R5 R14 fu ev σ x0 x1 x2 x5 x6 t0 t1 ((2 : Int64) * v3)
set_option maxRecDepth 20000 in
theorem b_X1_twice_37_ok (C : Cx p m meth c cX1_twice 7 s args RX1 R ev D H0 0 0) (hr : meth.sig.returnType = (some .long)) {R5 : Mm → Nat → Option Nat → Option Nat → Int64 → Int32 → Option (Int64 × Mm)} (HR5 : ∀ (σ : Mm) (x0 : Nat) (x1 : Option Nat) (x2 : Option Nat) (x3 : Int64) (x5 : Int32), R5 σ x0 x1 x2 x3 x5 = some res → GG p l e R s m args below meth c D H0 ev 7 (MQx D H0 ev below args s (some (.long res.1)) res.2) σ 5 [(0, .ref x0), (1, va_rf x1), (2, va_rf x2), (3, .long x3), (5, .int x5)] []) {R14 : Mm → Nat → Option Nat → Option Nat → Int64 → Int32 → Int32 → Option (Int64 × Mm)} (HR14 : ∀ (σ : Mm) (x0 : Nat) (x1 : Option Nat) (x2 : Option Nat) (x3 : Int64) (x5 : Int32) (x6 : Int32), R14 σ x0 x1 x2 x3 x5 x6 = some res → GG p l e R s m args below meth c D H0 ev 7 (MQx D H0 ev below args s (some (.long res.1)) res.2) σ 14 [(0, .ref x0), (1, va_rf x1), (2, va_rf x2), (3, .long x3), (5, .int x5), (6, .int x6)] []) {σ : Mm} {x0 : Nat} {x1 : Nat} {x2 : Nat} {x5 : Int32} {x6 : Int32} {t0 : Int64} {t1 : Int64} (h : b_X1_twice_37 R5 R14 fu ev σ x0 x1 x2 x5 x6 t0 t1 = some res) : GG p l e R s m args below meth c D H0 ev 7 (MQx D H0 ev below args s (some (.long res.1)) res.2) σ 37 [(0, .ref x0), (1, .ref x1), (2, .ref x2), (5, .int x5), (6, .int x6)] [.long t1, .long t0] := by
  intro H locs ls hH hL hl
  unfold b_X1_twice_37 at h
  refine lv_ldc2 C.x C.b C.1.2.2.2.1 (C.w q446) dX1_twice_37 ?_
  refine lv_aload_n C.x C.b dX1_twice_40 rfl (lv_at hl 0 rfl) ?_
  obtain ⟨v1, hv1, h_1⟩ := ob h
  refine m_getA C hH fl_X1_9 hv1 dX1_twice_41 ?_
  refine lv_iload C.x C.b dX1_twice_44 (lv_at hl 3 rfl) ?_
  obtain ⟨a2, e_, h_2⟩ := ob h_1; subst e_
  obtain ⟨v3, hv3, h_3⟩ := ob h_2
  refine m_lald C hH hv3 dX1_twice_46 ?_
  refine lv_lmul C.x C.b dX1_twice_47 ?_
  refine lv_goto (tgt := 63) C.x C.b dX1_twice_48 (by decide) ?_
  exact b_X1_twice_63_ok C hr HR5 HR14 h_3 H locs ls hH hL (lv_sub hl [0, 1, 2, 3, 4] rfl)
def b_X1_twice_20 (R5 : Mm → Nat → Option Nat → Option Nat → Int64 → Int32 → Option (Int64 × Mm)) (R14 : Mm → Nat → Option Nat → Option Nat → Int64 → Int32 → Int32 → Option (Int64 × Mm)) (fu : Nat) (ev : Ev) (σ : Mm) (x0 : Nat) (x1 : Option Nat) (x2 : Option Nat) (x3 : Int64) (x5 : Int32) (x6 : Int32) : Option (Int64 × Mm) :=
  x1.bind fun a1 =>
  (aldJ σ a1 x5).bind fun v2 =>
  x2.bind fun a3 =>
  (aldJ σ a3 x6).bind fun v4 =>
  if x5 = x6 then b_X1_twice_37 R5 R14 fu ev σ x0 a1 a3 x5 x6 x3 (v2 * v4) else b_X1_twice_51 R5 R14 fu ev σ x0 a1 a3 x5 x6 x3 (v2 * v4)
set_option maxRecDepth 20000 in
theorem b_X1_twice_20_ok (C : Cx p m meth c cX1_twice 7 s args RX1 R ev D H0 0 0) (hr : meth.sig.returnType = (some .long)) {R5 : Mm → Nat → Option Nat → Option Nat → Int64 → Int32 → Option (Int64 × Mm)} (HR5 : ∀ (σ : Mm) (x0 : Nat) (x1 : Option Nat) (x2 : Option Nat) (x3 : Int64) (x5 : Int32), R5 σ x0 x1 x2 x3 x5 = some res → GG p l e R s m args below meth c D H0 ev 7 (MQx D H0 ev below args s (some (.long res.1)) res.2) σ 5 [(0, .ref x0), (1, va_rf x1), (2, va_rf x2), (3, .long x3), (5, .int x5)] []) {R14 : Mm → Nat → Option Nat → Option Nat → Int64 → Int32 → Int32 → Option (Int64 × Mm)} (HR14 : ∀ (σ : Mm) (x0 : Nat) (x1 : Option Nat) (x2 : Option Nat) (x3 : Int64) (x5 : Int32) (x6 : Int32), R14 σ x0 x1 x2 x3 x5 x6 = some res → GG p l e R s m args below meth c D H0 ev 7 (MQx D H0 ev below args s (some (.long res.1)) res.2) σ 14 [(0, .ref x0), (1, va_rf x1), (2, va_rf x2), (3, .long x3), (5, .int x5), (6, .int x6)] []) {σ : Mm} {x0 : Nat} {x1 : Option Nat} {x2 : Option Nat} {x3 : Int64} {x5 : Int32} {x6 : Int32} (h : b_X1_twice_20 R5 R14 fu ev σ x0 x1 x2 x3 x5 x6 = some res) : GG p l e R s m args below meth c D H0 ev 7 (MQx D H0 ev below args s (some (.long res.1)) res.2) σ 20 [(0, .ref x0), (1, va_rf x1), (2, va_rf x2), (3, .long x3), (5, .int x5), (6, .int x6)] [] := by
  intro H locs ls hH hL hl
  unfold b_X1_twice_20 at h
  refine lv_lload_n C.x C.b dX1_twice_20 rfl (lv_at hl 3 rfl) ?_
  refine r_aload_n C.x C.b dX1_twice_21 rfl (lv_at hl 1 rfl) ?_
  refine lv_iload C.x C.b dX1_twice_22 (lv_at hl 4 rfl) ?_
  obtain ⟨a1, e_, h_1⟩ := ob h; subst e_
  obtain ⟨v2, hv2, h_2⟩ := ob h_1
  refine m_lald C hH hv2 dX1_twice_24 ?_
  refine r_aload_n C.x C.b dX1_twice_25 rfl (lv_at hl 2 rfl) ?_
  refine lv_iload C.x C.b dX1_twice_26 (lv_at hl 5 rfl) ?_
  obtain ⟨a3, e_, h_3⟩ := ob h_2; subst e_
  obtain ⟨v4, hv4, h_4⟩ := ob h_3
  refine m_lald C hH hv4 dX1_twice_28 ?_
  refine lv_lmul C.x C.b dX1_twice_29 ?_
  refine lv_iload C.x C.b dX1_twice_30 (lv_at hl 4 rfl) ?_
  refine lv_iload C.x C.b dX1_twice_32 (lv_at hl 5 rfl) ?_
  refine lv_icmp_ne (tgt := 51) C.x C.b dX1_twice_34 (by decide) (fun q => ?_) (fun q => ?_)
  · exact b_X1_twice_51_ok C hr HR5 HR14 (cn h_4 q) H locs ls hH hL (lv_sub hl [0, 1, 2, 4, 5] rfl)
  · exact b_X1_twice_37_ok C hr HR5 HR14 (cp h_4 q) H locs ls hH hL (lv_sub hl [0, 1, 2, 4, 5] rfl)
def b_X1_twice_14 (R5 : Mm → Nat → Option Nat → Option Nat → Int64 → Int32 → Option (Int64 × Mm)) (R14 : Mm → Nat → Option Nat → Option Nat → Int64 → Int32 → Int32 → Option (Int64 × Mm)) (fu : Nat) (ev : Ev) (σ : Mm) (x0 : Nat) (x1 : Option Nat) (x2 : Option Nat) (x3 : Int64) (x5 : Int32) (x6 : Int32) : Option (Int64 × Mm) :=
  if (3 : Int32) ≤ x6 then b_X1_twice_72 R5 fu ev σ x0 x1 x2 x3 x5 else b_X1_twice_20 R5 R14 fu ev σ x0 x1 x2 x3 x5 x6
set_option maxRecDepth 20000 in
theorem b_X1_twice_14_ok (C : Cx p m meth c cX1_twice 7 s args RX1 R ev D H0 0 0) (hr : meth.sig.returnType = (some .long)) {R5 : Mm → Nat → Option Nat → Option Nat → Int64 → Int32 → Option (Int64 × Mm)} (HR5 : ∀ (σ : Mm) (x0 : Nat) (x1 : Option Nat) (x2 : Option Nat) (x3 : Int64) (x5 : Int32), R5 σ x0 x1 x2 x3 x5 = some res → GG p l e R s m args below meth c D H0 ev 7 (MQx D H0 ev below args s (some (.long res.1)) res.2) σ 5 [(0, .ref x0), (1, va_rf x1), (2, va_rf x2), (3, .long x3), (5, .int x5)] []) {R14 : Mm → Nat → Option Nat → Option Nat → Int64 → Int32 → Int32 → Option (Int64 × Mm)} (HR14 : ∀ (σ : Mm) (x0 : Nat) (x1 : Option Nat) (x2 : Option Nat) (x3 : Int64) (x5 : Int32) (x6 : Int32), R14 σ x0 x1 x2 x3 x5 x6 = some res → GG p l e R s m args below meth c D H0 ev 7 (MQx D H0 ev below args s (some (.long res.1)) res.2) σ 14 [(0, .ref x0), (1, va_rf x1), (2, va_rf x2), (3, .long x3), (5, .int x5), (6, .int x6)] []) {σ : Mm} {x0 : Nat} {x1 : Option Nat} {x2 : Option Nat} {x3 : Int64} {x5 : Int32} {x6 : Int32} (h : b_X1_twice_14 R5 R14 fu ev σ x0 x1 x2 x3 x5 x6 = some res) : GG p l e R s m args below meth c D H0 ev 7 (MQx D H0 ev below args s (some (.long res.1)) res.2) σ 14 [(0, .ref x0), (1, va_rf x1), (2, va_rf x2), (3, .long x3), (5, .int x5), (6, .int x6)] [] := by
  intro H locs ls hH hL hl
  unfold b_X1_twice_14 at h
  refine lv_iload C.x C.b dX1_twice_14 (lv_at hl 5 rfl) ?_
  refine lv_iconst (v := 3) C.x C.b dX1_twice_16 ki_3 ?_
  refine lv_icmp_ge (tgt := 72) C.x C.b dX1_twice_17 (by decide) (fun q => ?_) (fun q => ?_)
  · exact b_X1_twice_72_ok C hr HR5 (cp h q) H locs ls hH hL (lv_sub hl [0, 1, 2, 3, 4] rfl)
  · exact b_X1_twice_20_ok C hr HR5 HR14 (cn h q) H locs ls hH hL (lv_sub hl [0, 1, 2, 3, 4, 5] rfl)
def L_X1_twice_14 (R5 : Mm → Nat → Option Nat → Option Nat → Int64 → Int32 → Option (Int64 × Mm)) (fu : Nat) (ev : Ev) : Nat → Mm → Nat → Option Nat → Option Nat → Int64 → Int32 → Int32 → Option (Int64 × Mm)
  | 0, _, _, _, _, _, _, _ => none
  | n + 1, σ, x0, x1, x2, x3, x5, x6 => b_X1_twice_14 R5 (L_X1_twice_14 R5 fu ev n) fu ev σ x0 x1 x2 x3 x5 x6
theorem L_X1_twice_14_ok (C : Cx p m meth c cX1_twice 7 s args RX1 R ev D H0 0 0) (hr : meth.sig.returnType = (some .long)) {R5 : Mm → Nat → Option Nat → Option Nat → Int64 → Int32 → Option (Int64 × Mm)} (HR5 : ∀ (σ : Mm) (x0 : Nat) (x1 : Option Nat) (x2 : Option Nat) (x3 : Int64) (x5 : Int32), R5 σ x0 x1 x2 x3 x5 = some res → GG p l e R s m args below meth c D H0 ev 7 (MQx D H0 ev below args s (some (.long res.1)) res.2) σ 5 [(0, .ref x0), (1, va_rf x1), (2, va_rf x2), (3, .long x3), (5, .int x5)] []) : ∀ (n : Nat) {σ : Mm} {x0 : Nat} {x1 : Option Nat} {x2 : Option Nat} {x3 : Int64} {x5 : Int32} {x6 : Int32}, L_X1_twice_14 R5 fu ev n σ x0 x1 x2 x3 x5 x6 = some res → GG p l e R s m args below meth c D H0 ev 7 (MQx D H0 ev below args s (some (.long res.1)) res.2) σ 14 [(0, .ref x0), (1, va_rf x1), (2, va_rf x2), (3, .long x3), (5, .int x5), (6, .int x6)] [] := by
  intro n
  induction n with
  | zero => intro σ x0 x1 x2 x3 x5 x6 h; exact (Option.some_ne_none _ (Eq.symm h)).elim
  | succ n ih => intro σ x0 x1 x2 x3 x5 x6 h; exact b_X1_twice_14_ok C hr HR5 (fun σ _ _ _ _ _ _ h => ih h) h
def b_X1_twice_11 (R5 : Mm → Nat → Option Nat → Option Nat → Int64 → Int32 → Option (Int64 × Mm)) (fu : Nat) (ev : Ev) (σ : Mm) (x0 : Nat) (x1 : Option Nat) (x2 : Option Nat) (x3 : Int64) (x5 : Int32) : Option (Int64 × Mm) :=
  L_X1_twice_14 R5 fu ev fu σ x0 x1 x2 x3 x5 (0 : Int32)
set_option maxRecDepth 20000 in
theorem b_X1_twice_11_ok (C : Cx p m meth c cX1_twice 7 s args RX1 R ev D H0 0 0) (hr : meth.sig.returnType = (some .long)) {R5 : Mm → Nat → Option Nat → Option Nat → Int64 → Int32 → Option (Int64 × Mm)} (HR5 : ∀ (σ : Mm) (x0 : Nat) (x1 : Option Nat) (x2 : Option Nat) (x3 : Int64) (x5 : Int32), R5 σ x0 x1 x2 x3 x5 = some res → GG p l e R s m args below meth c D H0 ev 7 (MQx D H0 ev below args s (some (.long res.1)) res.2) σ 5 [(0, .ref x0), (1, va_rf x1), (2, va_rf x2), (3, .long x3), (5, .int x5)] []) {σ : Mm} {x0 : Nat} {x1 : Option Nat} {x2 : Option Nat} {x3 : Int64} {x5 : Int32} (h : b_X1_twice_11 R5 fu ev σ x0 x1 x2 x3 x5 = some res) : GG p l e R s m args below meth c D H0 ev 7 (MQx D H0 ev below args s (some (.long res.1)) res.2) σ 11 [(0, .ref x0), (1, va_rf x1), (2, va_rf x2), (3, .long x3), (5, .int x5)] [] := by
  intro H locs ls hH hL hl
  unfold b_X1_twice_11 at h
  refine lv_iconst (v := 0) C.x C.b dX1_twice_11 ki_0 ?_
  refine lv_istore (i := 6) (lv' := [(6, .int (0 : Int32)), (0, .ref x0), (1, va_rf x1), (2, va_rf x2), (3, .long x3), (5, .int x5)]) C.x C.b dX1_twice_12 hl (by decide) (by simp [cat_I, cat_J, cat_R, r_catv, rf_some]) (fun ls_1 hl_1 => ?_)
  exact L_X1_twice_14_ok C hr HR5 fu h H locs ls_1 hH hL (lv_sub hl_1 [1, 2, 3, 4, 5, 0] rfl)
def b_X1_twice_5 (R5 : Mm → Nat → Option Nat → Option Nat → Int64 → Int32 → Option (Int64 × Mm)) (fu : Nat) (ev : Ev) (σ : Mm) (x0 : Nat) (x1 : Option Nat) (x2 : Option Nat) (x3 : Int64) (x5 : Int32) : Option (Int64 × Mm) :=
  if (3 : Int32) ≤ x5 then b_X1_twice_78  fu ev σ x3 else b_X1_twice_11 R5 fu ev σ x0 x1 x2 x3 x5
set_option maxRecDepth 20000 in
theorem b_X1_twice_5_ok (C : Cx p m meth c cX1_twice 7 s args RX1 R ev D H0 0 0) (hr : meth.sig.returnType = (some .long)) {R5 : Mm → Nat → Option Nat → Option Nat → Int64 → Int32 → Option (Int64 × Mm)} (HR5 : ∀ (σ : Mm) (x0 : Nat) (x1 : Option Nat) (x2 : Option Nat) (x3 : Int64) (x5 : Int32), R5 σ x0 x1 x2 x3 x5 = some res → GG p l e R s m args below meth c D H0 ev 7 (MQx D H0 ev below args s (some (.long res.1)) res.2) σ 5 [(0, .ref x0), (1, va_rf x1), (2, va_rf x2), (3, .long x3), (5, .int x5)] []) {σ : Mm} {x0 : Nat} {x1 : Option Nat} {x2 : Option Nat} {x3 : Int64} {x5 : Int32} (h : b_X1_twice_5 R5 fu ev σ x0 x1 x2 x3 x5 = some res) : GG p l e R s m args below meth c D H0 ev 7 (MQx D H0 ev below args s (some (.long res.1)) res.2) σ 5 [(0, .ref x0), (1, va_rf x1), (2, va_rf x2), (3, .long x3), (5, .int x5)] [] := by
  intro H locs ls hH hL hl
  unfold b_X1_twice_5 at h
  refine lv_iload C.x C.b dX1_twice_5 (lv_at hl 4 rfl) ?_
  refine lv_iconst (v := 3) C.x C.b dX1_twice_7 ki_3 ?_
  refine lv_icmp_ge (tgt := 78) C.x C.b dX1_twice_8 (by decide) (fun q => ?_) (fun q => ?_)
  · exact b_X1_twice_78_ok C hr  (cp h q) H locs ls hH hL (lv_sub hl [3] rfl)
  · exact b_X1_twice_11_ok C hr HR5 (cn h q) H locs ls hH hL (lv_sub hl [0, 1, 2, 3, 4] rfl)
def L_X1_twice_5  (fu : Nat) (ev : Ev) : Nat → Mm → Nat → Option Nat → Option Nat → Int64 → Int32 → Option (Int64 × Mm)
  | 0, _, _, _, _, _, _ => none
  | n + 1, σ, x0, x1, x2, x3, x5 => b_X1_twice_5  (L_X1_twice_5  fu ev n) fu ev σ x0 x1 x2 x3 x5
theorem L_X1_twice_5_ok (C : Cx p m meth c cX1_twice 7 s args RX1 R ev D H0 0 0) (hr : meth.sig.returnType = (some .long))  : ∀ (n : Nat) {σ : Mm} {x0 : Nat} {x1 : Option Nat} {x2 : Option Nat} {x3 : Int64} {x5 : Int32}, L_X1_twice_5  fu ev n σ x0 x1 x2 x3 x5 = some res → GG p l e R s m args below meth c D H0 ev 7 (MQx D H0 ev below args s (some (.long res.1)) res.2) σ 5 [(0, .ref x0), (1, va_rf x1), (2, va_rf x2), (3, .long x3), (5, .int x5)] [] := by
  intro n
  induction n with
  | zero => intro σ x0 x1 x2 x3 x5 h; exact (Option.some_ne_none _ (Eq.symm h)).elim
  | succ n ih => intro σ x0 x1 x2 x3 x5 h; exact b_X1_twice_5_ok C hr  (fun σ _ _ _ _ _ h => ih h) h
def b_X1_twice_0  (fu : Nat) (ev : Ev) (σ : Mm) (x0 : Nat) (x1 : Option Nat) (x2 : Option Nat) : Option (Int64 × Mm) :=
  L_X1_twice_5  fu ev fu σ x0 x1 x2 (0 : Int64) (0 : Int32)
set_option maxRecDepth 20000 in
theorem b_X1_twice_0_ok (C : Cx p m meth c cX1_twice 7 s args RX1 R ev D H0 0 0) (hr : meth.sig.returnType = (some .long))  {σ : Mm} {x0 : Nat} {x1 : Option Nat} {x2 : Option Nat} (h : b_X1_twice_0  fu ev σ x0 x1 x2 = some res) : GG p l e R s m args below meth c D H0 ev 7 (MQx D H0 ev below args s (some (.long res.1)) res.2) σ 0 [(0, .ref x0), (1, va_rf x1), (2, va_rf x2)] [] := by
  intro H locs ls hH hL hl
  unfold b_X1_twice_0 at h
  refine lv_lconst (v := 0) C.x C.b dX1_twice_0 rfl ?_
  refine lv_lstore_n (i := 3) (lv' := [(3, .long (0 : Int64)), (0, .ref x0), (1, va_rf x1), (2, va_rf x2)]) C.x C.b dX1_twice_1 rfl hl (by decide) (by simp [cat_I, cat_J, cat_R, r_catv, rf_some]) (fun ls_1 hl_1 => ?_)
  refine lv_iconst (v := 0) C.x C.b dX1_twice_2 ki_0 ?_
  refine lv_istore (i := 5) (lv' := [(5, .int (0 : Int32)), (3, .long (0 : Int64)), (0, .ref x0), (1, va_rf x1), (2, va_rf x2)]) C.x C.b dX1_twice_3 hl_1 (by decide) (by simp [cat_I, cat_J, cat_R, r_catv, rf_some]) (fun ls_2 hl_2 => ?_)
  exact L_X1_twice_5_ok C hr  fu h H locs ls_2 hH hL (lv_sub hl_2 [2, 3, 4, 1, 0] rfl)
def f_X1_twice (fu : Nat) (ev : Ev) (σ : Mm) (x0 : Nat) (x1 : Option Nat) (x2 : Option Nat) : Option (Int64 × Mm) := b_X1_twice_0  fu ev σ x0 x1 x2
set_option maxRecDepth 20000 in
theorem ct_X1_twice (l : Launch) (D : Dx) (H0 : Heap) {σ : Mm} {x0 : Nat} {x1 : Option Nat} {x2 : Option Nat} (h : f_X1_twice fu ev σ x0 x1 x2 = some res) : Ct l D H0 ev yX1_twice (ws_ yX1_twice cX1_twice 7 (some .long)) 0 0 [.ref x0, va_rf x1, va_rf x2] σ (some (.long res.1)) res.2 := by
  refine Ct_of (by decide) ?_
  intro p e R s m below meth c C hr hnm hH
  have hl := lv_entry [.ref x0, va_rf x1, va_rf x2] (n := 7) (by simp [lg_sl, cat_I, cat_J, cat_R, r_catv, rf_some])
  rw [lg_entry_eq]
  exact b_X1_twice_0_ok C hr  h s.heap [] _ hH (by simp) (lv_sub hl [0, 1, 2] (by simp [lv_args, lv_pick, cat_I, cat_J, cat_R, r_catv, rf_some]))
end M_X1_twice
theorem cv_X1_127 : CV RX1 127 1 yX1_twice cX1_twice 7 (some .long) 2 := ⟨_, rfl, lw_V q1380 q1373 q1374 q104 q1375, rfl, by decide, by decide, by decide +kernel⟩
theorem cv_X1_131 : CV RX1 131 1 yX1_tells cX1_tells 13 (some (.object "CellReducer$Cell")) 6 := ⟨_, rfl, lw_V q1381 q365 q366 q104 q367, rfl, by decide, by decide, by decide +kernel⟩
/-! CellReducer$Cell.puts(LCellReducer$Cell;[J[J[J)LCellReducer$Cell; -/
section M_X1_puts
variable {p : Program} {l : Launch} {e : Env} {R : Room} {s : State} {m : MethodId} {args : Array Value} {below : List Frame} {meth : Method} {c : Code} {D : Dx} {H0 : Heap} {ev : Ev} {fu : Nat} {res : Option Nat × Mm}
def b_X1_puts_0  (fu : Nat) (ev : Ev) (σ : Mm) (x0 : Nat) (x1 : Option Nat) (x2 : Option Nat) (x3 : Option Nat) (x4 : Option Nat) : Option (Option Nat × Mm) :=
  x1.bind fun a1 =>
  (isC σ a1 1).bind fun _ =>
  bd2 (f_X1_twice fu ev σ a1 x2 x2) fun v3 s4 =>
  (isC s4 a1 1).bind fun _ =>
  bd2 (f_X1_twice fu ev s4 a1 x3 x3) fun v6 s7 =>
  (isC s7 a1 1).bind fun _ =>
  bd2 (f_X1_twice fu ev s7 a1 x4 x4) fun v9 s10 =>
  (isC s10 a1 1).bind fun _ =>
  bd2 (f_X1_twice fu ev s10 a1 x3 x4) fun v12 s13 =>
  (isC s13 a1 1).bind fun _ =>
  bd2 (f_X1_twice fu ev s13 a1 x2 x4) fun v15 s16 =>
  (isC s16 a1 1).bind fun _ =>
  bd2 (f_X1_twice fu ev s16 a1 x2 x3) fun v18 s19 =>
  (isC s19 x0 1).bind fun _ =>
  bd2 (f_X1_tells fu ev s19 x0 (v3 / (2 : Int64)) (v6 / (2 : Int64)) (v9 / (2 : Int64)) v12 v15 v18) fun v21 s22 =>
  some (v21, s22)
set_option maxRecDepth 20000 in
theorem b_X1_puts_0_ok (C : Cx p m meth c cX1_puts 5 s args RX1 R ev D H0 2 54) (hr : meth.sig.returnType = (some (.object "CellReducer$Cell")))  {σ : Mm} {x0 : Nat} {x1 : Option Nat} {x2 : Option Nat} {x3 : Option Nat} {x4 : Option Nat} (h : b_X1_puts_0  fu ev σ x0 x1 x2 x3 x4 = some res) : GG p l e R s m args below meth c D H0 ev 5 (MQx D H0 ev below args s (some (va_rf res.1)) res.2) σ 0 [(0, .ref x0), (1, va_rf x1), (2, va_rf x2), (3, va_rf x3), (4, va_rf x4)] [] := by
  intro H locs ls hH hL hl
  unfold b_X1_puts_0 at h
  refine lv_aload_n C.x C.b dX1_puts_0 rfl (lv_at hl 0 rfl) ?_
  refine r_aload_n C.x C.b dX1_puts_1 rfl (lv_at hl 1 rfl) ?_
  refine r_aload_n C.x C.b dX1_puts_2 rfl (lv_at hl 2 rfl) ?_
  refine r_aload_n C.x C.b dX1_puts_3 rfl (lv_at hl 2 rfl) ?_
  obtain ⟨a1, e_, h_1⟩ := ob h; subst e_
  obtain ⟨_, u2, h_2⟩ := ob h_1
  obtain ⟨v3, s4, hs4, h_3⟩ := ob2 h_2
  refine m_callVJ (As := [va_rf x2, va_rf x2]) (rest := [.ref x0]) (v := v3) C hH hL cv_X1_127 (ct_X1_twice l D H0 hs4) u2 ⟨Nat.le_of_ble_eq_true rfl, Nat.le_of_ble_eq_true rfl⟩ rfl hl.1 rfl (Nat.le_of_ble_eq_true rfl) dX1_puts_4 (fun H_4 locs_4 hH_4 hL_4 => ?_)
  refine lv_ldc2 C.x C.b C.1.2.2.2.1 (C.w q446) dX1_puts_7 ?_
  refine lv_ldiv C.x C.b dX1_puts_10 (by decide) ?_
  refine lv_aload_n C.x C.b dX1_puts_11 rfl (lv_at hl 1 rfl) ?_
  refine r_aload_n C.x C.b dX1_puts_12 rfl (lv_at hl 3 rfl) ?_
  refine r_aload_n C.x C.b dX1_puts_13 rfl (lv_at hl 3 rfl) ?_
  obtain ⟨_, u5, h_5⟩ := ob h_3
  obtain ⟨v6, s7, hs7, h_6⟩ := ob2 h_5
  refine m_callVJ (As := [va_rf x3, va_rf x3]) (rest := [.long (v3 / (2 : Int64)), .ref x0]) (v := v6) C hH_4 hL_4 cv_X1_127 (ct_X1_twice l D H0 hs7) u5 ⟨Nat.le_of_ble_eq_true rfl, Nat.le_of_ble_eq_true rfl⟩ rfl hl.1 rfl (Nat.le_of_ble_eq_true rfl) dX1_puts_14 (fun H_7 locs_7 hH_7 hL_7 => ?_)
  refine lv_ldc2 C.x C.b C.1.2.2.2.1 (C.w q446) dX1_puts_17 ?_
  refine lv_ldiv C.x C.b dX1_puts_20 (by decide) ?_
  refine lv_aload_n C.x C.b dX1_puts_21 rfl (lv_at hl 1 rfl) ?_
  refine r_aload C.x C.b dX1_puts_22 (lv_at hl 4 rfl) ?_
  refine r_aload C.x C.b dX1_puts_24 (lv_at hl 4 rfl) ?_
  obtain ⟨_, u8, h_8⟩ := ob h_6
  obtain ⟨v9, s10, hs10, h_9⟩ := ob2 h_8
  refine m_callVJ (As := [va_rf x4, va_rf x4]) (rest := [.long (v6 / (2 : Int64)), .long (v3 / (2 : Int64)), .ref x0]) (v := v9) C hH_7 hL_7 cv_X1_127 (ct_X1_twice l D H0 hs10) u8 ⟨Nat.le_of_ble_eq_true rfl, Nat.le_of_ble_eq_true rfl⟩ rfl hl.1 rfl (Nat.le_of_ble_eq_true rfl) dX1_puts_26 (fun H_10 locs_10 hH_10 hL_10 => ?_)
  refine lv_ldc2 C.x C.b C.1.2.2.2.1 (C.w q446) dX1_puts_29 ?_
  refine lv_ldiv C.x C.b dX1_puts_32 (by decide) ?_
  refine lv_aload_n C.x C.b dX1_puts_33 rfl (lv_at hl 1 rfl) ?_
  refine r_aload_n C.x C.b dX1_puts_34 rfl (lv_at hl 3 rfl) ?_
  refine r_aload C.x C.b dX1_puts_35 (lv_at hl 4 rfl) ?_
  obtain ⟨_, u11, h_11⟩ := ob h_9
  obtain ⟨v12, s13, hs13, h_12⟩ := ob2 h_11
  refine m_callVJ (As := [va_rf x3, va_rf x4]) (rest := [.long (v9 / (2 : Int64)), .long (v6 / (2 : Int64)), .long (v3 / (2 : Int64)), .ref x0]) (v := v12) C hH_10 hL_10 cv_X1_127 (ct_X1_twice l D H0 hs13) u11 ⟨Nat.le_of_ble_eq_true rfl, Nat.le_of_ble_eq_true rfl⟩ rfl hl.1 rfl (Nat.le_of_ble_eq_true rfl) dX1_puts_37 (fun H_13 locs_13 hH_13 hL_13 => ?_)
  refine lv_aload_n C.x C.b dX1_puts_40 rfl (lv_at hl 1 rfl) ?_
  refine r_aload_n C.x C.b dX1_puts_41 rfl (lv_at hl 2 rfl) ?_
  refine r_aload C.x C.b dX1_puts_42 (lv_at hl 4 rfl) ?_
  obtain ⟨_, u14, h_14⟩ := ob h_12
  obtain ⟨v15, s16, hs16, h_15⟩ := ob2 h_14
  refine m_callVJw (As := [va_rf x2, va_rf x4]) (rest := [.long v12, .long (v9 / (2 : Int64)), .long (v6 / (2 : Int64)), .long (v3 / (2 : Int64)), .ref x0]) (v := v15) C hH_13 hL_13 cv_X1_127 (ct_X1_twice l D H0 hs16) u14 ⟨Nat.le_of_ble_eq_true rfl, Nat.le_of_ble_eq_true rfl⟩ rfl hl.1 rfl (Nat.le_of_ble_eq_true rfl) dX1_puts_44 (fun H_16 locs_16 hH_16 hL_16 => ?_)
  refine lv_aload_n C.x C.b dX1_puts_47 rfl (lv_at hl 1 rfl) ?_
  refine r_aload_n C.x C.b dX1_puts_48 rfl (lv_at hl 2 rfl) ?_
  refine r_aload_n C.x C.b dX1_puts_49 rfl (lv_at hl 3 rfl) ?_
  obtain ⟨_, u17, h_17⟩ := ob h_15
  obtain ⟨v18, s19, hs19, h_18⟩ := ob2 h_17
  refine m_callVJw (As := [va_rf x2, va_rf x3]) (rest := [.long v15, .long v12, .long (v9 / (2 : Int64)), .long (v6 / (2 : Int64)), .long (v3 / (2 : Int64)), .ref x0]) (v := v18) C hH_16 hL_16 cv_X1_127 (ct_X1_twice l D H0 hs19) u17 ⟨Nat.le_of_ble_eq_true rfl, Nat.le_of_ble_eq_true rfl⟩ rfl hl.1 rfl (Nat.le_of_ble_eq_true rfl) dX1_puts_50 (fun H_19 locs_19 hH_19 hL_19 => ?_)
  obtain ⟨_, u20, h_20⟩ := ob h_18
  obtain ⟨v21, s22, hs22, h_21⟩ := ob2 h_20
  refine m_callVA (As := [.long (v3 / (2 : Int64)), .long (v6 / (2 : Int64)), .long (v9 / (2 : Int64)), .long v12, .long v15, .long v18]) (rest := []) (v := v21) C hH_19 hL_19 cv_X1_131 (ct_X1_tells l D H0 hs22) u20 ⟨Nat.le_of_ble_eq_true rfl, Nat.le_of_ble_eq_true rfl⟩ rfl hl.1 rfl (Nat.le_of_ble_eq_true rfl) dX1_puts_53 (fun H_22 locs_22 hH_22 hL_22 => ?_)
  have hz_ := Option.some.inj h_21; subst hz_
  exact m_aret C hH_22 hL_22 hr (Or.inl ⟨_, rfl⟩) (v := v21) dX1_puts_56
def f_X1_puts (fu : Nat) (ev : Ev) (σ : Mm) (x0 : Nat) (x1 : Option Nat) (x2 : Option Nat) (x3 : Option Nat) (x4 : Option Nat) : Option (Option Nat × Mm) := b_X1_puts_0  fu ev σ x0 x1 x2 x3 x4
set_option maxRecDepth 20000 in
theorem ct_X1_puts (l : Launch) (D : Dx) (H0 : Heap) {σ : Mm} {x0 : Nat} {x1 : Option Nat} {x2 : Option Nat} {x3 : Option Nat} {x4 : Option Nat} (h : f_X1_puts fu ev σ x0 x1 x2 x3 x4 = some res) : Ct l D H0 ev yX1_puts (ws_ yX1_puts cX1_puts 5 (some (.object "CellReducer$Cell"))) 2 54 [.ref x0, va_rf x1, va_rf x2, va_rf x3, va_rf x4] σ (some (va_rf res.1)) res.2 := by
  refine Ct_of (by decide) ?_
  intro p e R s m below meth c C hr hnm hH
  have hl := lv_entry [.ref x0, va_rf x1, va_rf x2, va_rf x3, va_rf x4] (n := 5) (by simp [lg_sl, cat_I, cat_J, cat_R, r_catv, rf_some])
  rw [lg_entry_eq]
  exact b_X1_puts_0_ok C hr  h s.heap [] _ hH (by simp) (lv_sub hl [0, 1, 2, 3, 4] (by simp [lv_args, lv_pick, cat_I, cat_J, cat_R, r_catv, rf_some]))
end M_X1_puts
