/-! THE PLACES OF CellReducer -/
section XP0
variable {ev : Ev} {w : Wd} {k : Nat}
theorem xf0 : gfA (mem ev w) ev.1 0 0 = some (some (ev.1 + 1)) := by
  have e := gA (ev := ev) (w := w) (r := 0) (n := 25) (k := 0) rfl (by decide) (by decide) rfl
  exact e
theorem xf2 : gfA (mem ev w) ev.1 0 2 = some (some (ev.1 + cr 0)) := by
  have e := gA (ev := ev) (w := w) (r := 0) (n := 25) (k := 2) rfl (by decide) (by decide) rfl
  exact e
theorem xf3 : gfA (mem ev w) ev.1 0 3 = some (some (ev.1 + cr 1)) := by
  have e := gA (ev := ev) (w := w) (r := 0) (n := 25) (k := 3) rfl (by decide) (by decide) rfl
  exact e
theorem xf4 : gfA (mem ev w) ev.1 0 4 = some (some (ev.1 + cr 2)) := by
  have e := gA (ev := ev) (w := w) (r := 0) (n := 25) (k := 4) rfl (by decide) (by decide) rfl
  exact e
theorem xf6 : gfA (mem ev w) ev.1 0 6 = some (some (ev.1 + 26)) := by
  have e := gA (ev := ev) (w := w) (r := 0) (n := 25) (k := 6) rfl (by decide) (by decide) rfl
  exact e
theorem xf7 : gfA (mem ev w) ev.1 0 7 = some (some (ev.1 + 27)) := by
  have e := gA (ev := ev) (w := w) (r := 0) (n := 25) (k := 7) rfl (by decide) (by decide) rfl
  exact e
theorem xf9 : gfA (mem ev w) ev.1 0 9 = some (some (ev.1 + 28)) := by
  have e := gA (ev := ev) (w := w) (r := 0) (n := 25) (k := 9) rfl (by decide) (by decide) rfl
  exact e
theorem xf10 : gfA (mem ev w) ev.1 0 10 = some (some (ev.1 + 29)) := by
  have e := gA (ev := ev) (w := w) (r := 0) (n := 25) (k := 10) rfl (by decide) (by decide) rfl
  exact e
theorem xf11 : gfA (mem ev w) ev.1 0 11 = some (some (ev.1 + 33)) := by
  have e := gA (ev := ev) (w := w) (r := 0) (n := 25) (k := 11) rfl (by decide) (by decide) rfl
  exact e
theorem xf12 : gfA (mem ev w) ev.1 0 12 = some (some (ev.1 + 34)) := by
  have e := gA (ev := ev) (w := w) (r := 0) (n := 25) (k := 12) rfl (by decide) (by decide) rfl
  exact e
theorem xf13 : gfA (mem ev w) ev.1 0 13 = some (some (ev.1 + 36)) := by
  have e := gA (ev := ev) (w := w) (r := 0) (n := 25) (k := 13) rfl (by decide) (by decide) rfl
  exact e
theorem xf15 : gfA (mem ev w) ev.1 0 15 = some (some (ev.1 + 37)) := by
  have e := gA (ev := ev) (w := w) (r := 0) (n := 25) (k := 15) rfl (by decide) (by decide) rfl
  exact e
theorem xf16 : gfA (mem ev w) ev.1 0 16 = some (some (ev.1 + 38)) := by
  have e := gA (ev := ev) (w := w) (r := 0) (n := 25) (k := 16) rfl (by decide) (by decide) rfl
  exact e
theorem xf17 : gfA (mem ev w) ev.1 0 17 = some (some (ev.1 + 40)) := by
  have e := gA (ev := ev) (w := w) (r := 0) (n := 25) (k := 17) rfl (by decide) (by decide) rfl
  exact e
theorem xf20 : gfA (mem ev w) ev.1 0 20 = some (some (ev.1 + 41)) := by
  have e := gA (ev := ev) (w := w) (r := 0) (n := 25) (k := 20) rfl (by decide) (by decide) rfl
  exact e
theorem xf21 : gfA (mem ev w) ev.1 0 21 = some (some (ev.1 + 42)) := by
  have e := gA (ev := ev) (w := w) (r := 0) (n := 25) (k := 21) rfl (by decide) (by decide) rfl
  exact e
theorem xf22 : gfA (mem ev w) ev.1 0 22 = some (some (ev.1 + 43)) := by
  have e := gA (ev := ev) (w := w) (r := 0) (n := 25) (k := 22) rfl (by decide) (by decide) rfl
  exact e
theorem xf23 : gfA (mem ev w) ev.1 0 23 = some (some (ev.1 + 44)) := by
  have e := gA (ev := ev) (w := w) (r := 0) (n := 25) (k := 23) rfl (by decide) (by decide) rfl
  exact e
theorem xi1 : gfI (mem ev w) ev.1 0 1 = some (w.2.1 0 1) := by
  have e := gI (ev := ev) (w := w) (r := 0) (n := 25) (k := 1) rfl (by decide) (by decide) rfl
  exact e
theorem xp1 {x : Int32} : pfI ev (mem ev w) ev.1 0 1 x = some (mem ev (wI w 0 1 x)) := by
  have e := pI (ev := ev) (w := w) (r := 0) (n := 25) (k := 1) rfl (by decide) (by decide) rfl x
  exact e
theorem xi5 : gfI (mem ev w) ev.1 0 5 = some (w.2.1 0 5) := by
  have e := gI (ev := ev) (w := w) (r := 0) (n := 25) (k := 5) rfl (by decide) (by decide) rfl
  exact e
theorem xp5 {x : Int32} : pfI ev (mem ev w) ev.1 0 5 x = some (mem ev (wI w 0 5 x)) := by
  have e := pI (ev := ev) (w := w) (r := 0) (n := 25) (k := 5) rfl (by decide) (by decide) rfl x
  exact e
theorem xi8 : gfI (mem ev w) ev.1 0 8 = some (w.2.1 0 8) := by
  have e := gI (ev := ev) (w := w) (r := 0) (n := 25) (k := 8) rfl (by decide) (by decide) rfl
  exact e
theorem xp8 {x : Int32} : pfI ev (mem ev w) ev.1 0 8 x = some (mem ev (wI w 0 8 x)) := by
  have e := pI (ev := ev) (w := w) (r := 0) (n := 25) (k := 8) rfl (by decide) (by decide) rfl x
  exact e
theorem xi14 : gfI (mem ev w) ev.1 0 14 = some (w.2.1 0 14) := by
  have e := gI (ev := ev) (w := w) (r := 0) (n := 25) (k := 14) rfl (by decide) (by decide) rfl
  exact e
theorem xp14 {x : Int32} : pfI ev (mem ev w) ev.1 0 14 x = some (mem ev (wI w 0 14 x)) := by
  have e := pI (ev := ev) (w := w) (r := 0) (n := 25) (k := 14) rfl (by decide) (by decide) rfl x
  exact e
theorem xi18 : gfI (mem ev w) ev.1 0 18 = some (w.2.1 0 18) := by
  have e := gI (ev := ev) (w := w) (r := 0) (n := 25) (k := 18) rfl (by decide) (by decide) rfl
  exact e
theorem xp18 {x : Int32} : pfI ev (mem ev w) ev.1 0 18 x = some (mem ev (wI w 0 18 x)) := by
  have e := pI (ev := ev) (w := w) (r := 0) (n := 25) (k := 18) rfl (by decide) (by decide) rfl x
  exact e
theorem xi24 : gfI (mem ev w) ev.1 0 24 = some (w.2.1 0 24) := by
  have e := gI (ev := ev) (w := w) (r := 0) (n := 25) (k := 24) rfl (by decide) (by decide) rfl
  exact e
theorem xp24 {x : Int32} : pfI ev (mem ev w) ev.1 0 24 x = some (mem ev (wI w 0 24 x)) := by
  have e := pI (ev := ev) (w := w) (r := 0) (n := 25) (k := 24) rfl (by decide) (by decide) rfl x
  exact e
theorem xis : isC (mem ev w) ev.1 0 = some () := by
  have e := isCm (ev := ev) (w := w) (r := 0) (n := 25) (ci := 0) rfl (by decide)
  exact e
theorem xcells (h : k < 6) : aldA 5 (mem ev w) (ev.1 + 1) (nI k) = some (some (ev.1 + cr (3 + 2 * k))) := by
  rw [ldA (r := 1) (n := 6) (κ := 5) rfl (by decide) (vp_in_nI h (by decide)), nI_clamp (by omega)]
  rfl
theorem xkept (h : k < 6) : aldA 5 (mem ev w) (ev.1 + 42) (nI k) = some (some (ev.1 + cr (4 + 2 * k))) := by
  rw [ldA (r := 42) (n := 6) (κ := 5) rfl (by decide) (vp_in_nI h (by decide)), nI_clamp (by omega)]
  rfl
theorem xsubs (h : k < 91) : aldA 5 (mem ev w) (ev.1 + 36) (nI k) = some (some (ev.1 + cr (27 + k))) := by
  rw [ldA (r := 36) (n := 91) (κ := 5) rfl (by decide) (vp_in_nI h (by decide)), nI_clamp (by omega)]
  rfl
theorem xwas (h : k < 12) : aldA 5 (mem ev w) (ev.1 + 26) (nI k) = some (w.2.2.1 26 k) := by
  rw [ldA (r := 26) (n := 12) (κ := 5) rfl (by decide) (vp_in_nI h (by decide)), nI_clamp (by omega)]
  rfl
theorem xchd (h : k < 12) : aldI 0 (mem ev w) (ev.1 + 27) (nI k) = some (w.2.1 27 k) := by
  rw [ldI (r := 27) (n := 12) (κ := 0) rfl (by decide) (vp_in_nI h (by decide)), nI_clamp (by omega)]
theorem vni (x : Int32) : vp_nar (xTy 0) x = x := by
  show vp_nar .int x = x
  unfold vp_nar
  rw [vp_nar_int]
theorem xchs (h : k < 12) {x : Int32} : astI ev 0 (mem ev w) (ev.1 + 27) (nI k) x = some (mem ev (wI w 27 k x)) := by
  rw [stI (r := 27) (n := 12) (κ := 0) rfl (by decide) (vp_in_nI h (by decide)), nI_clamp (by omega), vni]
end XP0
section XP2
variable {ev : Ev} {w : Wd} {k : Nat}
theorem mi2 : gfI (mem ev w) (ev.1 + 966) 2 2 = some (w.2.1 966 2) := gI (r := 966) (n := 32) rfl (by decide) (by decide) rfl
theorem mp2 {x : Int32} : pfI ev (mem ev w) (ev.1 + 966) 2 2 x = some (mem ev (wI w 966 2 x)) := pI (r := 966) (n := 32) rfl (by decide) (by decide) rfl x
theorem mi3 : gfI (mem ev w) (ev.1 + 966) 2 3 = some (w.2.1 966 3) := gI (r := 966) (n := 32) rfl (by decide) (by decide) rfl
theorem mp3 {x : Int32} : pfI ev (mem ev w) (ev.1 + 966) 2 3 x = some (mem ev (wI w 966 3 x)) := pI (r := 966) (n := 32) rfl (by decide) (by decide) rfl x
theorem mi4 : gfI (mem ev w) (ev.1 + 966) 2 4 = some (w.2.1 966 4) := gI (r := 966) (n := 32) rfl (by decide) (by decide) rfl
theorem mp4 {x : Int32} : pfI ev (mem ev w) (ev.1 + 966) 2 4 x = some (mem ev (wI w 966 4 x)) := pI (r := 966) (n := 32) rfl (by decide) (by decide) rfl x
theorem mi5 : gfI (mem ev w) (ev.1 + 966) 2 5 = some (w.2.1 966 5) := gI (r := 966) (n := 32) rfl (by decide) (by decide) rfl
theorem mp5 {x : Int32} : pfI ev (mem ev w) (ev.1 + 966) 2 5 x = some (mem ev (wI w 966 5 x)) := pI (r := 966) (n := 32) rfl (by decide) (by decide) rfl x
theorem mi6 : gfI (mem ev w) (ev.1 + 966) 2 6 = some (w.2.1 966 6) := gI (r := 966) (n := 32) rfl (by decide) (by decide) rfl
theorem mp6 {x : Int32} : pfI ev (mem ev w) (ev.1 + 966) 2 6 x = some (mem ev (wI w 966 6 x)) := pI (r := 966) (n := 32) rfl (by decide) (by decide) rfl x
theorem mi7 : gfI (mem ev w) (ev.1 + 966) 2 7 = some (w.2.1 966 7) := gI (r := 966) (n := 32) rfl (by decide) (by decide) rfl
theorem mp7 {x : Int32} : pfI ev (mem ev w) (ev.1 + 966) 2 7 x = some (mem ev (wI w 966 7 x)) := pI (r := 966) (n := 32) rfl (by decide) (by decide) rfl x
theorem mi8 : gfI (mem ev w) (ev.1 + 966) 2 8 = some (w.2.1 966 8) := gI (r := 966) (n := 32) rfl (by decide) (by decide) rfl
theorem mp8 {x : Int32} : pfI ev (mem ev w) (ev.1 + 966) 2 8 x = some (mem ev (wI w 966 8 x)) := pI (r := 966) (n := 32) rfl (by decide) (by decide) rfl x
theorem mi9 : gfI (mem ev w) (ev.1 + 966) 2 9 = some (w.2.1 966 9) := gI (r := 966) (n := 32) rfl (by decide) (by decide) rfl
theorem mp9 {x : Int32} : pfI ev (mem ev w) (ev.1 + 966) 2 9 x = some (mem ev (wI w 966 9 x)) := pI (r := 966) (n := 32) rfl (by decide) (by decide) rfl x
theorem mi10 : gfI (mem ev w) (ev.1 + 966) 2 10 = some (w.2.1 966 10) := gI (r := 966) (n := 32) rfl (by decide) (by decide) rfl
theorem mp10 {x : Int32} : pfI ev (mem ev w) (ev.1 + 966) 2 10 x = some (mem ev (wI w 966 10 x)) := pI (r := 966) (n := 32) rfl (by decide) (by decide) rfl x
theorem mi11 : gfI (mem ev w) (ev.1 + 966) 2 11 = some (w.2.1 966 11) := gI (r := 966) (n := 32) rfl (by decide) (by decide) rfl
theorem mp11 {x : Int32} : pfI ev (mem ev w) (ev.1 + 966) 2 11 x = some (mem ev (wI w 966 11 x)) := pI (r := 966) (n := 32) rfl (by decide) (by decide) rfl x
theorem mz11 {x : Int32} (hx : x = 0 ∨ x = 1) : pfZ ev (mem ev w) (ev.1 + 966) 2 11 x = some (mem ev (wI w 966 11 x)) := by
  unfold pfZ
  rw [if_pos hx]
  exact mp11
theorem mi25 : gfI (mem ev w) (ev.1 + 966) 2 25 = some (w.2.1 966 25) := gI (r := 966) (n := 32) rfl (by decide) (by decide) rfl
theorem mp25 {x : Int32} : pfI ev (mem ev w) (ev.1 + 966) 2 25 x = some (mem ev (wI w 966 25 x)) := pI (r := 966) (n := 32) rfl (by decide) (by decide) rfl x
theorem mi26 : gfI (mem ev w) (ev.1 + 966) 2 26 = some (w.2.1 966 26) := gI (r := 966) (n := 32) rfl (by decide) (by decide) rfl
theorem mp26 {x : Int32} : pfI ev (mem ev w) (ev.1 + 966) 2 26 x = some (mem ev (wI w 966 26 x)) := pI (r := 966) (n := 32) rfl (by decide) (by decide) rfl x
theorem mi27 : gfI (mem ev w) (ev.1 + 966) 2 27 = some (w.2.1 966 27) := gI (r := 966) (n := 32) rfl (by decide) (by decide) rfl
theorem mp27 {x : Int32} : pfI ev (mem ev w) (ev.1 + 966) 2 27 x = some (mem ev (wI w 966 27 x)) := pI (r := 966) (n := 32) rfl (by decide) (by decide) rfl x
theorem mi28 : gfI (mem ev w) (ev.1 + 966) 2 28 = some (w.2.1 966 28) := gI (r := 966) (n := 32) rfl (by decide) (by decide) rfl
theorem mp28 {x : Int32} : pfI ev (mem ev w) (ev.1 + 966) 2 28 x = some (mem ev (wI w 966 28 x)) := pI (r := 966) (n := 32) rfl (by decide) (by decide) rfl x
theorem mz28 {x : Int32} (hx : x = 0 ∨ x = 1) : pfZ ev (mem ev w) (ev.1 + 966) 2 28 x = some (mem ev (wI w 966 28 x)) := by
  unfold pfZ
  rw [if_pos hx]
  exact mp28
theorem mi31 : gfI (mem ev w) (ev.1 + 966) 2 31 = some (w.2.1 966 31) := gI (r := 966) (n := 32) rfl (by decide) (by decide) rfl
theorem mp31 {x : Int32} : pfI ev (mem ev w) (ev.1 + 966) 2 31 x = some (mem ev (wI w 966 31 x)) := pI (r := 966) (n := 32) rfl (by decide) (by decide) rfl x
theorem mll (h : k < 30) : aldI 0 (mem ev w) (ev.1 + 969) (nI k) = some (w.2.1 969 k) := by
  rw [ldI (r := 969) (n := 30) (κ := 0) rfl (by decide) (vp_in_nI h (by decide)), nI_clamp (by omega)]
theorem mls (h : k < 30) {x : Int32} : astI ev 0 (mem ev w) (ev.1 + 969) (nI k) x = some (mem ev (wI w 969 k x)) := by
  rw [stI (r := 969) (n := 30) (κ := 0) rfl (by decide) (vp_in_nI h (by decide)), nI_clamp (by omega), vni]
theorem mill (h : k < 30) : aldI 0 (mem ev w) (ev.1 + 970) (nI k) = some (w.2.1 970 k) := by
  rw [ldI (r := 970) (n := 30) (κ := 0) rfl (by decide) (vp_in_nI h (by decide)), nI_clamp (by omega)]
theorem mils (h : k < 30) {x : Int32} : astI ev 0 (mem ev w) (ev.1 + 970) (nI k) x = some (mem ev (wI w 970 k x)) := by
  rw [stI (r := 970) (n := 30) (κ := 0) rfl (by decide) (vp_in_nI h (by decide)), nI_clamp (by omega), vni]
theorem mwl (h : k < 6) : aldI 0 (mem ev w) (ev.1 + 971) (nI k) = some (w.2.1 971 k) := by
  rw [ldI (r := 971) (n := 6) (κ := 0) rfl (by decide) (vp_in_nI h (by decide)), nI_clamp (by omega)]
theorem mws (h : k < 6) {x : Int32} : astI ev 0 (mem ev w) (ev.1 + 971) (nI k) x = some (mem ev (wI w 971 k x)) := by
  rw [stI (r := 971) (n := 6) (κ := 0) rfl (by decide) (vp_in_nI h (by decide)), nI_clamp (by omega), vni]
theorem miwl (h : k < 6) : aldI 0 (mem ev w) (ev.1 + 972) (nI k) = some (w.2.1 972 k) := by
  rw [ldI (r := 972) (n := 6) (κ := 0) rfl (by decide) (vp_in_nI h (by decide)), nI_clamp (by omega)]
theorem miws (h : k < 6) {x : Int32} : astI ev 0 (mem ev w) (ev.1 + 972) (nI k) x = some (mem ev (wI w 972 k x)) := by
  rw [stI (r := 972) (n := 6) (κ := 0) rfl (by decide) (vp_in_nI h (by decide)), nI_clamp (by omega), vni]
theorem mcl (h : k < 12) : aldI 0 (mem ev w) (ev.1 + 973) (nI k) = some (w.2.1 973 k) := by
  rw [ldI (r := 973) (n := 12) (κ := 0) rfl (by decide) (vp_in_nI h (by decide)), nI_clamp (by omega)]
theorem mcs (h : k < 12) {x : Int32} : astI ev 0 (mem ev w) (ev.1 + 973) (nI k) x = some (mem ev (wI w 973 k x)) := by
  rw [stI (r := 973) (n := 12) (κ := 0) rfl (by decide) (vp_in_nI h (by decide)), nI_clamp (by omega), vni]
theorem mtl (h : k < 160) : aldI 0 (mem ev w) (ev.1 + 977) (nI k) = some (w.2.1 977 k) := by
  rw [ldI (r := 977) (n := 160) (κ := 0) rfl (by decide) (vp_in_nI h (by decide)), nI_clamp (by omega)]
theorem mts (h : k < 160) {x : Int32} : astI ev 0 (mem ev w) (ev.1 + 977) (nI k) x = some (mem ev (wI w 977 k x)) := by
  rw [stI (r := 977) (n := 160) (κ := 0) rfl (by decide) (vp_in_nI h (by decide)), nI_clamp (by omega), vni]
theorem mppl (h : k < 80) : aldI 0 (mem ev w) (ev.1 + 978) (nI k) = some (w.2.1 978 k) := by
  rw [ldI (r := 978) (n := 80) (κ := 0) rfl (by decide) (vp_in_nI h (by decide)), nI_clamp (by omega)]
theorem mpps (h : k < 80) {x : Int32} : astI ev 0 (mem ev w) (ev.1 + 978) (nI k) x = some (mem ev (wI w 978 k x)) := by
  rw [stI (r := 978) (n := 80) (κ := 0) rfl (by decide) (vp_in_nI h (by decide)), nI_clamp (by omega), vni]
theorem mbl (h : k < 13) : aldI 0 (mem ev w) (ev.1 + 979) (nI k) = some (w.2.1 979 k) := by
  rw [ldI (r := 979) (n := 13) (κ := 0) rfl (by decide) (vp_in_nI h (by decide)), nI_clamp (by omega)]
theorem mbs (h : k < 13) {x : Int32} : astI ev 0 (mem ev w) (ev.1 + 979) (nI k) x = some (mem ev (wI w 979 k x)) := by
  rw [stI (r := 979) (n := 13) (κ := 0) rfl (by decide) (vp_in_nI h (by decide)), nI_clamp (by omega), vni]
theorem mitl (h : k < 4) : aldI 0 (mem ev w) (ev.1 + 982) (nI k) = some (w.2.1 982 k) := by
  rw [ldI (r := 982) (n := 4) (κ := 0) rfl (by decide) (vp_in_nI h (by decide)), nI_clamp (by omega)]
theorem mits (h : k < 4) {x : Int32} : astI ev 0 (mem ev w) (ev.1 + 982) (nI k) x = some (mem ev (wI w 982 k x)) := by
  rw [stI (r := 982) (n := 4) (κ := 0) rfl (by decide) (vp_in_nI h (by decide)), nI_clamp (by omega), vni]
end XP2
