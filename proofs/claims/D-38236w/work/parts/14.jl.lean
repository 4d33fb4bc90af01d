/-! LISTS: java.util.ArrayList, its iterator, Integer, Optional's checks -/
set_option maxRecDepth 100000
abbrev rm_m_J16_checkIndex : Room := { frames := 0, cells := 0, slots := 0, locals := 0 }
set_option maxHeartbeats 4000000 in
theorem m_J16_checkIndex {l : Launch} {s0 : State} {G : zG} (hE : zE l s0 G) (H0 : Heap) (hO : zO s0 H0) (i n : Nat) (hi : i < n ∧ n < 2147483648) : zM l s0 yJ16_checkIndex cJ16_checkIndex 3 (some FieldType.int) rm_m_J16_checkIndex [.int (iI ((i : Nat) : Int)), .int (iI ((n : Nat) : Int)), .null] H0 M0 (ri (fun z _ => z = i)) := by
  refine z_met hE (by decide +kernel) (Nat.le_of_ble_eq_true rfl) ?_
  intro pp ee ss mm args below meth cd Q ls hC hml hrt hlk hnm hH hQ hS hl
  have hx := hC.x
  have hb := hC.b
  have hl : lv_has ls 3 [(0, .int (iI ((i : Nat) : Int))), (1, .int (iI ((n : Nat) : Int))), (2, .null)] := hl
  have hP : va_P G.1 zCl [] H0 := va_nil
  have hD : va_D (zA M0 H0) [] := va_nilD
  refine lv_iload_n hx hb dJ16_checkIndex_0 rfl (lv_at hl 0 rfl) ?_
  refine z_zlt (tgt := 9) hx hb dJ16_checkIndex_1 (by decide) (by omega) (fun c1 => ?_) (fun c1 => ?_)
  · omega
  · refine lv_iload_n hx hb dJ16_checkIndex_4 rfl (lv_at hl 0 rfl) ?_
    refine lv_iload_n hx hb dJ16_checkIndex_5 rfl (lv_at hl 1 rfl) ?_
    refine z_clt (tgt := 16) hx hb dJ16_checkIndex_6 (by decide) (by omega) (fun c2 => ?_) (fun c2 => ?_)
    · refine lv_iload_n hx hb dJ16_checkIndex_16 rfl (lv_at hl 0 rfl) ?_
      exact z_iret hC hrt hlk hQ hS ⟨zle (z := 0) rfl (by omega), zle (z := 0) rfl (by omega)⟩ ⟨_, rfl, rfl⟩ dJ16_checkIndex_17
    · omega

abbrev rm_m_J15_checkIndex : Room := { frames := 1, cells := 0, slots := 0, locals := 22 }
set_option maxHeartbeats 4000000 in
theorem m_J15_checkIndex {l : Launch} {s0 : State} {G : zG} (hE : zE l s0 G) (H0 : Heap) (hO : zO s0 H0) (i n : Nat) (hi : i < n ∧ n < 2147483648) : zM l s0 yJ15_checkIndex cJ15_checkIndex 2 (some FieldType.int) rm_m_J15_checkIndex [.int (iI ((i : Nat) : Int)), .int (iI ((n : Nat) : Int))] H0 M0 (ri (fun z _ => z = i)) := by
  refine z_met hE (by decide +kernel) (Nat.le_of_ble_eq_true rfl) ?_
  intro pp ee ss mm args below meth cd Q ls hC hml hrt hlk hnm hH hQ hS hl
  have hx := hC.x
  have hb := hC.b
  have hl : lv_has ls 2 [(0, .int (iI ((i : Nat) : Int))), (1, .int (iI ((n : Nat) : Int)))] := hl
  have hP : va_P G.1 zCl [] H0 := va_nil
  have hD : va_D (zA M0 H0) [] := va_nilD
  refine lv_iload_n hx hb dJ15_checkIndex_0 rfl (lv_at hl 0 rfl) ?_
  refine lv_iload_n hx hb dJ15_checkIndex_1 rfl (lv_at hl 1 rfl) ?_
  refine lv_null hx hb dJ15_checkIndex_2 ?_
  refine z_go 0 0 (z_runS (As := [.int (iI ((i : Nat) : Int)), .int (iI ((n : Nat) : Int)), .null]) (rest := []) hC hml hl.1 (m_J16_checkIndex hE H0 (hO.ext0 (zS_F hS)) i n hi) (lw_S q379 q380 q87 q381) nd_J16_checkIndex rfl rfl (Nat.le_of_ble_eq_true rfl) ⟨Nat.le_of_ble_eq_true rfl, Nat.le_of_ble_eq_true rfl⟩ ⟨zfit (k := 0) (z := 0) rfl rfl (by omega), zfit (k := 0) (z := 0) rfl rfl (by omega)⟩ dJ15_checkIndex_3) ⟨zad (k := 0) rfl (by omega), zad (k := 0) rfl (by omega)⟩ hS (fun _ z => z.elim) (fun r H1 locs hp hF hS1 => ?_)
  obtain ⟨_, rfl, rfl⟩ := hp
  have hP := zpk hP hF
  have hP : va_P G.1 zCl ([]) H1 := hP
  have hD : va_D (zA M0 H0) ([]) := hD
  have hS := hS1
  exact z_iret hC hrt hlk hQ hS ⟨zle (z := 0) rfl (by omega), zle (z := 0) rfl (by omega)⟩ ⟨_, rfl, rfl⟩ dJ15_checkIndex_6

abbrev rm_m_J2_size : Room := { frames := 0, cells := 0, slots := 0, locals := 0 }
set_option maxHeartbeats 4000000 in
theorem m_J2_size {l : Launch} {s0 : State} {G : zG} (hE : zE l s0 G) (H0 : Heap) (hO : zO s0 H0) (lc n : Nat) (c : Nat → Nat) (arr : Nat) (md : Int) (h : zLs G lc n c arr md H0) : zM l s0 yJ2_size cJ2_size 1 (some FieldType.int) rm_m_J2_size [.ref lc] H0 M0 (ri (fun z _ => z = n)) := by
  refine z_met hE (by decide +kernel) (Nat.le_of_ble_eq_true rfl) ?_
  intro pp ee ss mm args below meth cd Q ls hC hml hrt hlk hnm hH hQ hS hl
  have hx := hC.x
  have hb := hC.b
  have hl : lv_has ls 1 [(0, .ref lc)] := hl
  have hP : va_P G.1 zCl [] H0 := va_nil
  have hD : va_D (zA M0 H0) [] := va_nilD
  refine lv_aload_n hx hb dJ2_size_0 rfl (lv_at hl 0 rfl) ?_
  refine z_get hC (k := 2) rfl in_J2 (zo hS h.1 id) (by decide) q127 (fun _ h => h) rfl dJ2_size_1 ?_
  exact z_iret hC hrt hlk hQ hS ⟨zle (z := 0) rfl (by omega), zle (z := 0) rfl (by omega)⟩ ⟨_, rfl, rfl⟩ dJ2_size_4

abbrev rm_m_J2_isEmpty : Room := { frames := 0, cells := 0, slots := 0, locals := 0 }
set_option maxHeartbeats 4000000 in
theorem m_J2_isEmpty {l : Launch} {s0 : State} {G : zG} (hE : zE l s0 G) (H0 : Heap) (hO : zO s0 H0) (lc n : Nat) (c : Nat → Nat) (arr : Nat) (md : Int) (h : zLs G lc n c arr md H0) : zM l s0 yJ2_isEmpty cJ2_isEmpty 1 (some FieldType.boolean) rm_m_J2_isEmpty [.ref lc] H0 M0 (ri (fun z _ => z = if n = 0 then 1 else 0)) := by
  refine z_met hE (by decide +kernel) (Nat.le_of_ble_eq_true rfl) ?_
  intro pp ee ss mm args below meth cd Q ls hC hml hrt hlk hnm hH hQ hS hl
  have hx := hC.x
  have hb := hC.b
  have hl : lv_has ls 1 [(0, .ref lc)] := hl
  have hP : va_P G.1 zCl [] H0 := va_nil
  have hD : va_D (zA M0 H0) [] := va_nilD
  have hn := h.n10
  refine lv_aload_n hx hb dJ2_isEmpty_0 rfl (lv_at hl 0 rfl) ?_
  refine z_get hC (k := 2) rfl in_J2 (zo hS h.1 id) (by decide) q127 (fun _ h => h) rfl dJ2_isEmpty_1 ?_
  refine z_zne (tgt := 11) hx hb dJ2_isEmpty_4 (by decide) (by omega) (fun c1 => ?_) (fun c1 => ?_)
  · refine lv_iconst (v := iI 0) hx hb dJ2_isEmpty_11 rfl ?_
    exact z_zret hC hrt hlk hQ hS ⟨zle (z := 0) rfl (by omega), zle (z := 0) rfl (by omega)⟩ (by omega) ⟨_, rfl, by rw [if_neg (by omega)]⟩ dJ2_isEmpty_12
  · refine lv_iconst (v := iI 1) hx hb dJ2_isEmpty_7 rfl ?_
    refine lv_goto (tgt := 12) hx hb dJ2_isEmpty_8 (by decide) ?_
    exact z_zret hC hrt hlk hQ hS ⟨zle (z := 0) rfl (by omega), zle (z := 0) rfl (by omega)⟩ (by omega) ⟨_, rfl, by rw [if_pos (by omega)]⟩ dJ2_isEmpty_12

abbrev rm_m_J2_elementData : Room := { frames := 0, cells := 0, slots := 0, locals := 0 }
set_option maxHeartbeats 4000000 in
theorem m_J2_elementData {l : Launch} {s0 : State} {G : zG} (hE : zE l s0 G) (H0 : Heap) (hO : zO s0 H0) (lc n : Nat) (c : Nat → Nat) (arr : Nat) (md : Int) (i : Nat) (h : zLs G lc n c arr md H0) (hi : i < n) : zM l s0 yJ2_elementData cJ2_elementData 2 (some (FieldType.object "java/lang/Object")) rm_m_J2_elementData [.ref lc, .int (iI ((i : Nat) : Int))] H0 M0 (rr (fun q _ => q = c i)) := by
  refine z_met hE (by decide +kernel) (Nat.le_of_ble_eq_true rfl) ?_
  intro pp ee ss mm args below meth cd Q ls hC hml hrt hlk hnm hH hQ hS hl
  have hx := hC.x
  have hb := hC.b
  have hl : lv_has ls 2 [(0, .ref lc), (1, .int (iI ((i : Nat) : Int)))] := hl
  have hP : va_P G.1 zCl [] H0 := va_nil
  have hD : va_D (zA M0 H0) [] := va_nilD
  have hn := h.n10
  refine lv_aload_n hx hb dJ2_elementData_0 rfl (lv_at hl 0 rfl) ?_
  refine z_get hC (k := 1) rfl in_J2 (zo hS h.1 id) (by decide) q124 (fun _ h => h) rfl dJ2_elementData_1 ?_
  refine lv_iload_n hx hb dJ2_elementData_4 rfl (lv_at hl 1 rfl) ?_
  refine z_aaldR hC (zo hS (h.arr (by omega)) id) (k := i) rfl (by omega) (q := (c i)) (lf_in hi) dJ2_elementData_5 ?_
  exact z_aret hC hrt hlk hQ hS ⟨zle (z := 0) rfl (by omega), zle (z := 0) rfl (by omega)⟩ ⟨_, rfl, rfl⟩ dJ2_elementData_6

abbrev rm_m_J2_get : Room := { frames := 2, cells := 0, slots := 0, locals := 43 }
set_option maxHeartbeats 4000000 in
theorem m_J2_get {l : Launch} {s0 : State} {G : zG} (hE : zE l s0 G) (H0 : Heap) (hO : zO s0 H0) (lc n : Nat) (c : Nat → Nat) (arr : Nat) (md : Int) (i : Nat) (h : zLs G lc n c arr md H0) (hi : i < n) : zM l s0 yJ2_get cJ2_get 2 (some (FieldType.object "java/lang/Object")) rm_m_J2_get [.ref lc, .int (iI ((i : Nat) : Int))] H0 M0 (rr (fun q _ => q = c i)) := by
  refine z_met hE (by decide +kernel) (Nat.le_of_ble_eq_true rfl) ?_
  intro pp ee ss mm args below meth cd Q ls hC hml hrt hlk hnm hH hQ hS hl
  have hx := hC.x
  have hb := hC.b
  have hl : lv_has ls 2 [(0, .ref lc), (1, .int (iI ((i : Nat) : Int)))] := hl
  have hP : va_P G.1 zCl [] H0 := va_nil
  have hD : va_D (zA M0 H0) [] := va_nilD
  have hn := h.n10
  refine lv_iload_n hx hb dJ2_get_0 rfl (lv_at hl 1 rfl) ?_
  refine lv_aload_n hx hb dJ2_get_1 rfl (lv_at hl 0 rfl) ?_
  refine z_get hC (k := 2) rfl in_J2 (zo hS h.1 id) (by decide) q127 (fun _ h => h) rfl dJ2_get_2 ?_
  refine z_go 0 0 (z_runS (As := [.int (iI ((i : Nat) : Int)), .int (iI ((n : Nat) : Int))]) (rest := []) hC hml hl.1 (m_J15_checkIndex hE H0 (hO.ext0 (zS_F hS)) i n (by omega)) (lw_S q376 q377 q86 q378) nd_J15_checkIndex rfl rfl (Nat.le_of_ble_eq_true rfl) ⟨Nat.le_of_ble_eq_true rfl, Nat.le_of_ble_eq_true rfl⟩ ⟨zfit (k := 0) (z := 0) rfl rfl (by omega), zfit (k := 0) (z := 0) rfl rfl (by omega)⟩ dJ2_get_5) ⟨zad (k := 0) rfl (by omega), zad (k := 0) rfl (by omega)⟩ hS (fun _ z => z.elim) (fun r H1 locs hp hF hS1 => ?_)
  obtain ⟨_, rfl, rfl⟩ := hp
  have hP := zpk hP hF
  have hP : va_P G.1 zCl ([]) H1 := hP
  have hD : va_D (zA M0 H0) ([]) := hD
  have hS := hS1
  refine lv_pop hx hb dJ2_get_8 rfl ?_
  refine lv_aload_n hx hb dJ2_get_9 rfl (lv_at hl 0 rfl) ?_
  refine lv_iload_n hx hb dJ2_get_10 rfl (lv_at hl 1 rfl) ?_
  refine z_go 0 0 (z_runV (As := [.int (iI ((i : Nat) : Int))]) (rest := []) hC hml hl.1 (m_J2_elementData hE H1 (hO.ext0 (zS_F hS)) lc n c arr md i (h.ext0 (zS_F hS)) hi) (lw_V q382 q383 q384 q65 q385) rfl nd_J2_elementData rfl (z_rv hC (ci := 8) rfl (zo hS h.1 id) rfl) rfl (Nat.le_of_ble_eq_true rfl) ⟨Nat.le_of_ble_eq_true rfl, Nat.le_of_ble_eq_true rfl⟩ ⟨zfit (k := 0) (z := 0) rfl rfl (by omega), zfit (k := 0) (z := 0) rfl rfl (by omega)⟩ dJ2_get_11) ⟨zad (k := 0) rfl (by omega), zad (k := 0) rfl (by omega)⟩ hS (fun _ z => z.elim) (fun r H2 locs hp hF hS1 => ?_)
  obtain ⟨_, rfl, rfl⟩ := hp
  have hP := zpk hP hF
  have hP : va_P G.1 zCl ([]) H2 := hP
  have hD : va_D (zA M0 H0) ([]) := hD
  have hS := hS1
  exact z_aret hC hrt hlk hQ hS ⟨zle (z := 0) rfl (by omega), zle (z := 0) rfl (by omega)⟩ ⟨_, rfl, rfl⟩ dJ2_get_14

abbrev rm_m_J0_init : Room := { frames := 1, cells := 0, slots := 0, locals := 20 }
set_option maxHeartbeats 4000000 in
theorem m_J0_init {l : Launch} {s0 : State} {G : zG} (hE : zE l s0 G) (H0 : Heap) (hO : zO s0 H0) (q : Nat)  : zM l s0 yJ0_init cJ0_init 1 (none : Option FieldType) rm_m_J0_init [.ref q] H0 M0 (rv (fun _ => True)) := by
  refine z_met hE (by decide +kernel) (Nat.le_of_ble_eq_true rfl) ?_
  intro pp ee ss mm args below meth cd Q ls hC hml hrt hlk hnm hH hQ hS hl
  have hx := hC.x
  have hb := hC.b
  have hl : lv_has ls 1 [(0, .ref q)] := hl
  have hP : va_P G.1 zCl [] H0 := va_nil
  have hD : va_D (zA M0 H0) [] := va_nilD
  refine lv_aload_n hx hb dJ0_init_0 rfl (lv_at hl 0 rfl) ?_
  refine W.objInit hx hb hC.o (hC.t _ q121) (hC.t _ q108) (hC.t _ q109) rfl (by rw [hml]; exact hl.1) rfl dJ0_init_1 (Nat.le_of_ble_eq_true rfl) (Nat.le_of_ble_eq_true rfl) ?_
  refine W.eq (g2 := F0 mm 4 ls []) rfl ?_
  exact z_vret hC hrt hlk hQ hS ⟨zle (z := 0) rfl (by omega), zle (z := 0) rfl (by omega)⟩ ⟨rfl, trivial⟩ dJ0_init_4

abbrev rm_m_J1_init : Room := { frames := 2, cells := 0, slots := 0, locals := 40 }
set_option maxHeartbeats 4000000 in
theorem m_J1_init {l : Launch} {s0 : State} {G : zG} (hE : zE l s0 G) (H0 : Heap) (hO : zO s0 H0) (q : Nat) (x : Int) (u v : Value) (hq : s0.heap.size ≤ q) (h : zAt G q (zOb 8 [.int (iI x), u, v]) H0) : zM l s0 yJ1_init cJ1_init 1 (none : Option FieldType) rm_m_J1_init [.ref q] H0 (fun z => z = q) (rv (fun h1 => zAt G q (zOb 8 [.int (iI 0), u, v]) h1)) := by
  refine z_met hE (by decide +kernel) (Nat.le_of_ble_eq_true rfl) ?_
  intro pp ee ss mm args below meth cd Q ls hC hml hrt hlk hnm hH hQ hS hl
  have hx := hC.x
  have hb := hC.b
  have hl : lv_has ls 1 [(0, .ref q)] := hl
  have hP : va_P G.1 zCl [(q, zOb 8 [.int (iI x), u, v])] H0 := zP1 h
  have hD : va_D (zA (fun z => z = q) H0) [(q, zOb 8 [.int (iI x), u, v])] := zD1 (Or.inl rfl)
  have hMo : ∀ z, (fun z => z = q) z → s0.heap.size ≤ z := fun z hz => hz ▸ hq
  refine lv_aload_n hx hb dJ1_init_0 rfl (lv_at hl 0 rfl) ?_
  refine z_go 0 0 (z_runI (As := []) (rest := []) hC hml hl.1 (m_J0_init hE H0 (hO.ext (zS_F hS) hMo) q ) q120 q63 q118 q119 rfl nd_J0_init rfl rfl (Nat.le_of_ble_eq_true rfl) ⟨Nat.le_of_ble_eq_true rfl, Nat.le_of_ble_eq_true rfl⟩ ⟨zfit (k := 0) (z := 0) rfl rfl (by omega), zfit (k := 0) (z := 0) rfl rfl (by omega)⟩ dJ1_init_1) ⟨zad (k := 0) rfl (by omega), zad (k := 0) rfl (by omega)⟩ hS (fun _ z => z.elim) (fun r H1 locs hp hF hS1 => ?_)
  obtain ⟨rfl, -⟩ := hp
  have hP := zpk hP hF
  have hP : va_P G.1 zCl ([(q, zOb 8 [.int (iI x), u, v])]) H1 := hP
  have hD : va_D (zA (fun z => z = q) H0) ([(q, zOb 8 [.int (iI x), u, v])]) := hD
  have hS := hS1
  refine lv_aload_n hx hb dJ1_init_4 rfl (lv_at hl 0 rfl) ?_
  refine lv_iconst (v := iI 0) hx hb dJ1_init_5 rfl ?_
  refine z_put hC hP hD hS 0 (k := 0) rfl rfl in_J2 tyJ2_ok nmJ2 (by decide) q128 (fun _ h => h) rfl rfl rfl rfl (Nat.le_of_ble_eq_true rfl) (ws' := [(q, zOb 8 [.int (iI 0), u, v])]) rfl dJ1_init_6 (fun H2 locs hP hD hS => ?_)
  exact z_vret hC hrt hlk hQ hS ⟨zle (z := 0) rfl (by omega), zle (z := 0) rfl (by omega)⟩ ⟨rfl, hP 0 _ rfl⟩ dJ1_init_9

abbrev rm_m_J2_init : Room := { frames := 3, cells := 0, slots := 0, locals := 60 }
set_option maxHeartbeats 4000000 in
theorem m_J2_init {l : Launch} {s0 : State} {G : zG} (hE : zE l s0 G) (H0 : Heap) (hO : zO s0 H0) (q : Nat) (hq : s0.heap.size ≤ q) (h : zAt G q (zOb 8 [.int (iI 0), .null, .int (iI 0)]) H0) : zM l s0 yJ2_init cJ2_init 1 (none : Option FieldType) rm_m_J2_init [.ref q] H0 (fun z => z = q) (rv (fun h1 => zAt G q (zOb 8 [.int (iI 0), .ref (G.2 12), .int (iI 0)]) h1)) := by
  refine z_met hE (by decide +kernel) (Nat.le_of_ble_eq_true rfl) ?_
  intro pp ee ss mm args below meth cd Q ls hC hml hrt hlk hnm hH hQ hS hl
  have hx := hC.x
  have hb := hC.b
  have hl : lv_has ls 1 [(0, .ref q)] := hl
  have hP : va_P G.1 zCl [(q, zOb 8 [.int (iI 0), .null, .int (iI 0)])] H0 := zP1 h
  have hD : va_D (zA (fun z => z = q) H0) [(q, zOb 8 [.int (iI 0), .null, .int (iI 0)])] := zD1 (Or.inl rfl)
  have hMo : ∀ z, (fun z => z = q) z → s0.heap.size ≤ z := fun z hz => hz ▸ hq
  refine lv_aload_n hx hb dJ2_init_0 rfl (lv_at hl 0 rfl) ?_
  refine z_go 0 0 (z_runI (As := []) (rest := []) hC hml hl.1 (m_J1_init hE H0 (hO.ext (zS_F hS) hMo) q 0 .null (.int (iI 0)) hq (hP 0 _ rfl)) q117 q64 q115 q116 rfl nd_J1_init rfl rfl (Nat.le_of_ble_eq_true rfl) ⟨Nat.le_of_ble_eq_true rfl, Nat.le_of_ble_eq_true rfl⟩ ⟨zfit (k := 0) (z := 0) rfl rfl (by omega), zfit (k := 0) (z := 0) rfl rfl (by omega)⟩ dJ2_init_1) ⟨zad (k := 0) rfl (by omega), zad (k := 0) rfl (by omega)⟩ hS (fun q z => by subst z; exact hD.2 0 _ rfl) (fun r H1 locs hp hF hS1 => ?_)
  obtain ⟨rfl, hm⟩ := hp
  obtain ⟨hP, hD⟩ := zjm hP hD hF 0 rfl hm
  have hP : va_P G.1 zCl ([(q, zOb 8 [.int (iI 0), .null, .int (iI 0)])]) H1 := hP
  have hD : va_D (zA (fun z => z = q) H0) ([(q, zOb 8 [.int (iI 0), .null, .int (iI 0)])]) := hD
  have hS := hS1
  refine lv_aload_n hx hb dJ2_init_4 rfl (lv_at hl 0 rfl) ?_
  refine z_gets hC (hO.ext (zS_F hS) hMo) (hE.2.2.2.1.2.1.1) q122 dJ2_init_5 ?_
  refine z_put hC hP hD hS 0 (k := 1) rfl rfl in_J2 tyJ2_ok nmJ2 (by decide) q124 (fun _ h => h) rfl rfl rfl rfl (Nat.le_of_ble_eq_true rfl) (ws' := [(q, zOb 8 [.int (iI 0), .ref (G.2 12), .int (iI 0)])]) rfl dJ2_init_8 (fun H2 locs hP hD hS => ?_)
  exact z_vret hC hrt hlk hQ hS ⟨zle (z := 0) rfl (by omega), zle (z := 0) rfl (by omega)⟩ ⟨rfl, hP 0 _ rfl⟩ dJ2_init_11

abbrev rm_m_J10_max : Room := { frames := 0, cells := 0, slots := 0, locals := 0 }
set_option maxHeartbeats 4000000 in
theorem m_J10_max {l : Launch} {s0 : State} {G : zG} (hE : zE l s0 G) (H0 : Heap) (hO : zO s0 H0) (a b : Int) (h : zi a ∧ zi b) : zM l s0 yJ10_max cJ10_max 2 (some FieldType.int) rm_m_J10_max [.int (iI a), .int (iI b)] H0 M0 (ri (fun z _ => z = if a < b then b else a)) := by
  refine z_met hE (by decide +kernel) (Nat.le_of_ble_eq_true rfl) ?_
  intro pp ee ss mm args below meth cd Q ls hC hml hrt hlk hnm hH hQ hS hl
  have hx := hC.x
  have hb := hC.b
  have hl : lv_has ls 2 [(0, .int (iI a)), (1, .int (iI b))] := hl
  have hP : va_P G.1 zCl [] H0 := va_nil
  have hD : va_D (zA M0 H0) [] := va_nilD
  refine lv_iload_n hx hb dJ10_max_0 rfl (lv_at hl 0 rfl) ?_
  refine lv_iload_n hx hb dJ10_max_1 rfl (lv_at hl 1 rfl) ?_
  refine z_clt (tgt := 9) hx hb dJ10_max_2 (by decide) (by omega) (fun c1 => ?_) (fun c1 => ?_)
  · refine lv_iload_n hx hb dJ10_max_9 rfl (lv_at hl 1 rfl) ?_
    exact z_iret hC hrt hlk hQ hS ⟨zle (z := 0) rfl (by omega), zle (z := 0) rfl (by omega)⟩ ⟨_, rfl, by rw [if_pos c1]⟩ dJ10_max_10
  · refine lv_iload_n hx hb dJ10_max_5 rfl (lv_at hl 0 rfl) ?_
    refine lv_goto (tgt := 10) hx hb dJ10_max_6 (by decide) ?_
    exact z_iret hC hrt hlk hQ hS ⟨zle (z := 0) rfl (by omega), zle (z := 0) rfl (by omega)⟩ ⟨_, rfl, by rw [if_neg (by omega)]⟩ dJ10_max_10

abbrev rm_m_J2_grow_2 : Room := { frames := 1, cells := 1, slots := 10, locals := 21 }
set_option maxHeartbeats 4000000 in
theorem m_J2_grow_2 {l : Launch} {s0 : State} {G : zG} (hE : zE l s0 G) (H0 : Heap) (hO : zO s0 H0) (lc : Nat) (md : Int) (hq : s0.heap.size ≤ lc) (h : zAt G lc (zOb 8 [.int (iI md), .ref (G.2 12), .int (iI 0)]) H0) : zM l s0 yJ2_grow_2 cJ2_grow_2 4 (some (FieldType.array (FieldType.object "java/lang/Object"))) rm_m_J2_grow_2 [.ref lc, .int (iI 1)] H0 (fun z => z = lc) (rr (fun q h1 => zAt G lc (zOb 8 [.int (iI md), .ref q, .int (iI 0)]) h1 ∧ NW G H0 h1 [(q, zR G 10 (fun _ => none))])) := by
  refine z_met hE (by decide +kernel) (Nat.le_of_ble_eq_true rfl) ?_
  intro pp ee ss mm args below meth cd Q ls hC hml hrt hlk hnm hH hQ hS hl
  have hx := hC.x
  have hb := hC.b
  have hl : lv_has ls 4 [(0, .ref lc), (1, .int (iI 1))] := hl
  have hP : va_P G.1 zCl [(lc, zOb 8 [.int (iI md), .ref (G.2 12), .int (iI 0)])] H0 := zP1 h
  have hD : va_D (zA (fun z => z = lc) H0) [(lc, zOb 8 [.int (iI md), .ref (G.2 12), .int (iI 0)])] := zD1 (Or.inl rfl)
  have hMo : ∀ z, (fun z => z = lc) z → s0.heap.size ≤ z := fun z hz => hz ▸ hq
  refine lv_aload_n hx hb dJ2_grow_2_0 rfl (lv_at hl 0 rfl) ?_
  refine z_get hC (k := 1) rfl in_J2 (hP 0 _ rfl) (by decide) q124 (fun _ h => h) rfl dJ2_grow_2_1 ?_
  refine z_tlen hC (hO.ext (zS_F hS) hMo) hE.2.2.2.1.2.1.2 (y := 0) rfl dJ2_grow_2_4 ?_
  refine lv_istore_n (lv' := [(2, .int (iI 0)), (0, .ref lc), (1, .int (iI 1))]) hx hb dJ2_grow_2_5 rfl hl (by decide) rfl (fun ls hl => ?_)
  refine lv_iload_n hx hb dJ2_grow_2_6 rfl (lv_at hl 0 rfl) ?_
  refine z_zgt (tgt := 20) hx hb dJ2_grow_2_7 (by decide) (by omega) (fun c1 => ?_) (fun c1 => ?_)
  · omega
  · refine lv_aload_n hx hb dJ2_grow_2_10 rfl (lv_at hl 1 rfl) ?_
    refine z_get hC (k := 1) rfl in_J2 (hP 0 _ rfl) (by decide) q124 (fun _ h => h) rfl dJ2_grow_2_11 ?_
    refine z_gets hC (hO.ext (zS_F hS) hMo) (hE.2.2.2.1.2.1.1) q122 dJ2_grow_2_14 ?_
    refine z_aeq (tgt := 45) hx hb dJ2_grow_2_17 (by decide)   (fun c2 => ?_) (fun c2 => ?_)
    · refine lv_aload_n hx hb dJ2_grow_2_45 rfl (lv_at hl 1 rfl) ?_
      refine lv_bipush (v := iI 10) hx hb dJ2_grow_2_46 (by decide) ?_
      refine lv_iload_n hx hb dJ2_grow_2_48 rfl (lv_at hl 2 rfl) ?_
      refine z_go 0 0 (z_runS (As := [.int (iI 10), .int (iI 1)]) (rest := [.ref lc]) hC hml hl.1 (m_J10_max hE H0 (hO.ext (zS_F hS) hMo) 10 1 (by decide)) (lw_S q1028 q607 q78 q608) nd_J10_max rfl rfl (Nat.le_of_ble_eq_true rfl) ⟨Nat.le_of_ble_eq_true rfl, Nat.le_of_ble_eq_true rfl⟩ ⟨zfit (k := 0) (z := 1) rfl rfl (by omega), zfit (k := 0) (z := 10) rfl rfl (by omega)⟩ dJ2_grow_2_49) ⟨zad (k := 0) rfl (by omega), zad (k := 0) rfl (by omega)⟩ hS (fun _ z => z.elim) (fun r H3 locs hp hF hS1 => ?_)
      obtain ⟨_, rfl, rfl⟩ := hp
      have hP := zpk hP hF
      have hP : va_P G.1 zCl ([(lc, zOb 8 [.int (iI md), .ref (G.2 12), .int (iI 0)])]) H3 := hP
      have hD : va_D (zA (fun z => z = lc) H0) ([(lc, zOb 8 [.int (iI md), .ref (G.2 12), .int (iI 0)])]) := hD
      have hS := hS1
      refine z_top (b := 10) (by decide) ?_
      refine z_newR hC hP hD hS (N := 10) (c1 := 1) (s1 := 10) q1029 rfl (by omega) ⟨zle (z := 1) rfl (by omega), zle (z := 10) rfl (by omega)⟩ ⟨by omega, by omega⟩ (ws' := fun q4 => [(lc, zOb 8 [.int (iI md), .ref (G.2 12), .int (iI 0)]), (q4, zR G 10 (fun _ => none))]) (fun _ => rfl) dJ2_grow_2_52 (fun q4 H5 hq0q4 hq1q4 hP hD hS hF => ?_)
      refine lv_dup_x1 hx hb dJ2_grow_2_55 rfl rfl ?_
      refine z_put hC hP hD hS 0 (k := 1) rfl rfl in_J2 tyJ2_ok nmJ2 (by decide) q124 (fun _ h => h) rfl rfl rfl rfl (Nat.le_of_ble_eq_true rfl) (ws' := [(lc, zOb 8 [.int (iI md), .ref q4, .int (iI 0)]), (q4, zR G 10 (fun _ => none))]) rfl dJ2_grow_2_56 (fun H6 locs hP hD hS => ?_)
      exact z_aretA hC hrt hlk hQ hS ⟨zle (z := 1) rfl (by omega), zle (z := 10) rfl (by omega)⟩ ⟨_, rfl, hP 0 _ rfl, zP1 (hP 1 _ rfl), zD1 hq0q4⟩ dJ2_grow_2_59
    · exact absurd rfl c2

abbrev rm_m_J2_grow : Room := { frames := 2, cells := 1, slots := 10, locals := 44 }
set_option maxHeartbeats 4000000 in
theorem m_J2_grow {l : Launch} {s0 : State} {G : zG} (hE : zE l s0 G) (H0 : Heap) (hO : zO s0 H0) (lc : Nat) (md : Int) (hq : s0.heap.size ≤ lc) (h : zAt G lc (zOb 8 [.int (iI md), .ref (G.2 12), .int (iI 0)]) H0) : zM l s0 yJ2_grow cJ2_grow 1 (some (FieldType.array (FieldType.object "java/lang/Object"))) rm_m_J2_grow [.ref lc] H0 (fun z => z = lc) (rr (fun q h1 => zAt G lc (zOb 8 [.int (iI md), .ref q, .int (iI 0)]) h1 ∧ NW G H0 h1 [(q, zR G 10 (fun _ => none))])) := by
  refine z_met hE (by decide +kernel) (Nat.le_of_ble_eq_true rfl) ?_
  intro pp ee ss mm args below meth cd Q ls hC hml hrt hlk hnm hH hQ hS hl
  have hx := hC.x
  have hb := hC.b
  have hl : lv_has ls 1 [(0, .ref lc)] := hl
  have hP : va_P G.1 zCl [(lc, zOb 8 [.int (iI md), .ref (G.2 12), .int (iI 0)])] H0 := zP1 h
  have hD : va_D (zA (fun z => z = lc) H0) [(lc, zOb 8 [.int (iI md), .ref (G.2 12), .int (iI 0)])] := zD1 (Or.inl rfl)
  have hMo : ∀ z, (fun z => z = lc) z → s0.heap.size ≤ z := fun z hz => hz ▸ hq
  refine lv_aload_n hx hb dJ2_grow_0 rfl (lv_at hl 0 rfl) ?_
  refine lv_aload_n hx hb dJ2_grow_1 rfl (lv_at hl 0 rfl) ?_
  refine z_get hC (k := 2) rfl in_J2 (hP 0 _ rfl) (by decide) q127 (fun _ h => h) rfl dJ2_grow_2 ?_
  refine lv_iconst (v := iI 1) hx hb dJ2_grow_5 rfl ?_
  refine z_add hx hb (z := 0 + 1) dJ2_grow_6 rfl ?_
  refine z_top (b := 1) (by decide) ?_
  refine z_go 1 10 (z_runV (As := [.int (iI 1)]) (rest := []) hC hml hl.1 (m_J2_grow_2 hE H0 (hO.ext (zS_F hS) hMo) lc md hq (hP 0 _ rfl)) (lw_V q989 q991 qs22 q65 q992) rfl nd_J2_grow_2 rfl (z_rv hC (ci := 8) rfl (hP 0 _ rfl) rfl) rfl (Nat.le_of_ble_eq_true rfl) ⟨Nat.le_of_ble_eq_true rfl, Nat.le_of_ble_eq_true rfl⟩ ⟨zfit (k := 1) (z := 1) rfl rfl (by omega), zfit (k := 10) (z := 10) rfl rfl (by omega)⟩ dJ2_grow_7) ⟨zad (k := 1) rfl (by omega), zad (k := 10) rfl (by omega)⟩ hS (fun q z => by subst z; exact hD.2 0 _ rfl) (fun r H1 locs hp hF hS1 => ?_)
  obtain ⟨q, rfl, hm, hN⟩ := hp
  obtain ⟨hP, hD⟩ := zjmn hP hD hS.1 hF 0 rfl hm hN
  have hP : va_P G.1 zCl ([(lc, zOb 8 [.int (iI md), .ref q, .int (iI 0)]), (q, zR G 10 (fun _ => none))]) H1 := hP
  have hD : va_D (zA (fun z => z = lc) H0) ([(lc, zOb 8 [.int (iI md), .ref q, .int (iI 0)]), (q, zR G 10 (fun _ => none))]) := hD
  have hS := hS1
  exact z_aretA hC hrt hlk hQ hS ⟨zle (z := 1) rfl (by omega), zle (z := 10) rfl (by omega)⟩ ⟨_, rfl, hP 0 _ rfl, zP1 (hP 1 _ rfl), hN.2⟩ dJ2_grow_10

abbrev rm_m_J2_add_2e : Room := { frames := 3, cells := 1, slots := 10, locals := 64 }
set_option maxHeartbeats 4000000 in
theorem m_J2_add_2e {l : Launch} {s0 : State} {G : zG} (hE : zE l s0 G) (H0 : Heap) (hO : zO s0 H0) (lc : Nat) (md : Int) (x : Nat) (hq : s0.heap.size ≤ lc) (h : zAt G lc (zOb 8 [.int (iI md), .ref (G.2 12), .int (iI 0)]) H0) (hy : zAny s0 H0 x) (hne : x ≠ lc) : zM l s0 yJ2_add_2 cJ2_add_2 4 (none : Option FieldType) rm_m_J2_add_2e [.ref lc, .ref x, .ref (G.2 12), .int (iI 0)] H0 (fun z => z = lc) (rv (fun h1 => ∃ q, zAt G lc (zOb 8 [.int (iI md), .ref q, .int (iI 1)]) h1 ∧ NW G H0 h1 [(q, zR G 10 (va_up (fun _ => none) 0 (some x)))])) := by
  refine z_met hE (by decide +kernel) (Nat.le_of_ble_eq_true rfl) ?_
  intro pp ee ss mm args below meth cd Q ls hC hml hrt hlk hnm hH hQ hS hl
  have hx := hC.x
  have hb := hC.b
  have hl : lv_has ls 4 [(0, .ref lc), (1, .ref x), (2, .ref (G.2 12)), (3, .int (iI 0))] := hl
  have hP : va_P G.1 zCl [(lc, zOb 8 [.int (iI md), .ref (G.2 12), .int (iI 0)])] H0 := zP1 h
  have hD : va_D (zA (fun z => z = lc) H0) [(lc, zOb 8 [.int (iI md), .ref (G.2 12), .int (iI 0)])] := zD1 (Or.inl rfl)
  have hMo : ∀ z, (fun z => z = lc) z → s0.heap.size ≤ z := fun z hz => hz ▸ hq
  refine lv_iload_n hx hb dJ2_add_2_0 rfl (lv_at hl 3 rfl) ?_
  refine lv_aload_n hx hb dJ2_add_2_1 rfl (lv_at hl 2 rfl) ?_
  refine z_tlen hC (hO.ext (zS_F hS) hMo) hE.2.2.2.1.2.1.2 (y := 0) rfl dJ2_add_2_2 ?_
  refine z_cne (tgt := 11) hx hb dJ2_add_2_3 (by decide) (by omega) (fun c1 => ?_) (fun c1 => ?_)
  · exact absurd rfl c1
  · refine lv_aload_n hx hb dJ2_add_2_6 rfl (lv_at hl 0 rfl) ?_
    refine z_go 1 10 (z_runV (As := []) (rest := []) hC hml hl.1 (m_J2_grow hE H0 (hO.ext (zS_F hS) hMo) lc md hq (hP 0 _ rfl)) (lw_V q985 q987 qs21 q65 q988) rfl nd_J2_grow rfl (z_rv hC (ci := 8) rfl (hP 0 _ rfl) rfl) rfl (Nat.le_of_ble_eq_true rfl) ⟨Nat.le_of_ble_eq_true rfl, Nat.le_of_ble_eq_true rfl⟩ ⟨zfit (k := 1) (z := 1) rfl rfl (by omega), zfit (k := 10) (z := 10) rfl rfl (by omega)⟩ dJ2_add_2_7) ⟨zad (k := 1) rfl (by omega), zad (k := 10) rfl (by omega)⟩ hS (fun q z => by subst z; exact hD.2 0 _ rfl) (fun r H2 locs hp hF hS1 => ?_)
    obtain ⟨q, rfl, hm, hN⟩ := hp
    obtain ⟨hP, hD⟩ := zjmn hP hD hS.1 hF 0 rfl hm hN
    have hP : va_P G.1 zCl ([(lc, zOb 8 [.int (iI md), .ref q, .int (iI 0)]), (q, zR G 10 (fun _ => none))]) H2 := hP
    have hD : va_D (zA (fun z => z = lc) H0) ([(lc, zOb 8 [.int (iI md), .ref q, .int (iI 0)]), (q, zR G 10 (fun _ => none))]) := hD
    have hS := hS1
    refine lv_astore_n (lv' := [(2, .ref q), (0, .ref lc), (1, .ref x), (3, .int (iI 0))]) hx hb dJ2_add_2_10 rfl hl (by decide) rfl (fun ls hl => ?_)
    refine lv_aload_n hx hb dJ2_add_2_11 rfl (lv_at hl 0 rfl) ?_
    refine lv_iload_n hx hb dJ2_add_2_12 rfl (lv_at hl 3 rfl) ?_
    refine lv_aload_n hx hb dJ2_add_2_13 rfl (lv_at hl 2 rfl) ?_
    refine z_aastR hC hP hD hS 1 (k := 0) rfl (hy.ext hF hne) rfl (by omega) (ws' := [(lc, zOb 8 [.int (iI md), .ref q, .int (iI 0)]), (q, zR G 10 (va_up (fun _ => none) 0 (some x)))]) rfl dJ2_add_2_14 (fun H3 locs hP hD hS hZ1 hZ2 => ?_)
    refine lv_aload_n hx hb dJ2_add_2_15 rfl (lv_at hl 1 rfl) ?_
    refine lv_iload_n hx hb dJ2_add_2_16 rfl (lv_at hl 3 rfl) ?_
    refine lv_iconst (v := iI 1) hx hb dJ2_add_2_17 rfl ?_
    refine z_add hx hb (z := 0 + 1) dJ2_add_2_18 rfl ?_
    refine z_put hC hP hD hS 0 (k := 2) rfl rfl in_J2 tyJ2_ok nmJ2 (by decide) q127 (fun _ h => h) rfl rfl rfl rfl (Nat.le_of_ble_eq_true rfl) (ws' := [(lc, zOb 8 [.int (iI md), .ref q, .int (iI (0 + 1))]), (q, zR G 10 (va_up (fun _ => none) 0 (some x)))]) rfl dJ2_add_2_19 (fun H4 locs hP hD hS => ?_)
    exact z_vret hC hrt hlk hQ hS ⟨zle (z := 1) rfl (by omega), zle (z := 10) rfl (by omega)⟩ ⟨rfl, q, hP 0 _ rfl, zP1 (hP 1 _ rfl), hN.2.set (p := 0) rfl⟩ dJ2_add_2_22

abbrev rm_m_J2_add_e : Room := { frames := 6, cells := 1, slots := 10, locals := 200 }
set_option maxHeartbeats 4000000 in
theorem m_J2_add_e {l : Launch} {s0 : State} {G : zG} (hE : zE l s0 G) (H0 : Heap) (hO : zO s0 H0) (lc : Nat) (md : Int) (x : Nat) (hq : s0.heap.size ≤ lc) (h : zAt G lc (zOb 8 [.int (iI md), .ref (G.2 12), .int (iI 0)]) H0) (hy : zAny s0 H0 x) (hne : x ≠ lc) : zM l s0 yJ2_add cJ2_add 2 (some FieldType.boolean) rm_m_J2_add_e [.ref lc, .ref x] H0 (fun z => z = lc) (ri (fun z h1 => z = 1 ∧ ∃ q, zAt G lc (zOb 8 [.int (iI (md + 1)), .ref q, .int (iI 1)]) h1 ∧ NW G H0 h1 [(q, zR G 10 (va_up (fun _ => none) 0 (some x)))])) := by
  refine z_met hE (by decide +kernel) (Nat.le_of_ble_eq_true rfl) ?_
  intro pp ee ss mm args below meth cd Q ls hC hml hrt hlk hnm hH hQ hS hl
  have hx := hC.x
  have hb := hC.b
  have hl : lv_has ls 2 [(0, .ref lc), (1, .ref x)] := hl
  have hP : va_P G.1 zCl [(lc, zOb 8 [.int (iI md), .ref (G.2 12), .int (iI 0)])] H0 := zP1 h
  have hD : va_D (zA (fun z => z = lc) H0) [(lc, zOb 8 [.int (iI md), .ref (G.2 12), .int (iI 0)])] := zD1 (Or.inl rfl)
  have hMo : ∀ z, (fun z => z = lc) z → s0.heap.size ≤ z := fun z hz => hz ▸ hq
  refine lv_aload_n hx hb dJ2_add_0 rfl (lv_at hl 0 rfl) ?_
  refine lv_dup hx hb dJ2_add_1 rfl ?_
  refine z_get hC (k := 0) rfl in_J2 (hP 0 _ rfl) (by decide) q131 (zsame_J2 hC) rfl dJ2_add_2 ?_
  refine lv_iconst (v := iI 1) hx hb dJ2_add_5 rfl ?_
  refine z_add hx hb (z := md + 1) dJ2_add_6 rfl ?_
  refine z_put hC hP hD hS 0 (k := 0) rfl rfl in_J2 tyJ2_ok nmJ2 (by decide) q131 (zsame_J2 hC) rfl rfl rfl rfl (Nat.le_of_ble_eq_true rfl) (ws' := [(lc, zOb 8 [.int (iI (md + 1)), .ref (G.2 12), .int (iI 0)])]) rfl dJ2_add_7 (fun H1 locs hP hD hS => ?_)
  refine lv_aload_n hx hb dJ2_add_10 rfl (lv_at hl 0 rfl) ?_
  refine lv_aload_n hx hb dJ2_add_11 rfl (lv_at hl 1 rfl) ?_
  refine lv_aload_n hx hb dJ2_add_12 rfl (lv_at hl 0 rfl) ?_
  refine z_get hC (k := 1) rfl in_J2 (hP 0 _ rfl) (by decide) q124 (fun _ h => h) rfl dJ2_add_13 ?_
  refine lv_aload_n hx hb dJ2_add_16 rfl (lv_at hl 0 rfl) ?_
  refine z_get hC (k := 2) rfl in_J2 (hP 0 _ rfl) (by decide) q127 (fun _ h => h) rfl dJ2_add_17 ?_
  have hF9 := zS_F hS
  refine z_go 1 10 (z_runV (As := [.ref x, .ref (G.2 12), .int (iI 0)]) (rest := []) hC hml hl.1 (m_J2_add_2e hE H1 (hO.ext (zS_F hS) hMo) lc (md + 1) x hq (hP 0 _ rfl) (hy.ext hF9 hne) hne) (lw_V q981 q983 qs20 q65 q984) rfl nd_J2_add_2 rfl (z_rv hC (ci := 8) rfl (hP 0 _ rfl) rfl) rfl (Nat.le_of_ble_eq_true rfl) ⟨Nat.le_of_ble_eq_true rfl, Nat.le_of_ble_eq_true rfl⟩ ⟨zfit (k := 1) (z := 1) rfl rfl (by omega), zfit (k := 10) (z := 10) rfl rfl (by omega)⟩ dJ2_add_20) ⟨zad (k := 1) rfl (by omega), zad (k := 10) rfl (by omega)⟩ hS (fun q z => by subst z; exact hD.2 0 _ rfl) (fun r H2 locs hp hF hS1 => ?_)
  obtain ⟨rfl, q, hm, hN⟩ := hp
  obtain ⟨hP, hD⟩ := zjmn hP hD hS.1 hF 0 rfl hm hN
  have hP : va_P G.1 zCl ([(lc, zOb 8 [.int (iI (md + 1)), .ref q, .int (iI 1)]), (q, zR G 10 (va_up (fun _ => none) 0 (some x)))]) H2 := hP
  have hD : va_D (zA (fun z => z = lc) H0) ([(lc, zOb 8 [.int (iI (md + 1)), .ref q, .int (iI 1)]), (q, zR G 10 (va_up (fun _ => none) 0 (some x)))]) := hD
  have hS := hS1
  refine lv_iconst (v := iI 1) hx hb dJ2_add_23 rfl ?_
  exact z_zret hC hrt hlk hQ hS ⟨zle (z := 1) rfl (by omega), zle (z := 10) rfl (by omega)⟩ (by omega) ⟨_, rfl, rfl, q, hP 0 _ rfl, zP1 (hP 1 _ rfl), hN.2.weaken (fun _ _ _ z => Nat.le_trans hF9.1 z)⟩ dJ2_add_24

abbrev rm_m_J2_add_2f : Room := { frames := 0, cells := 0, slots := 0, locals := 0 }
set_option maxHeartbeats 4000000 in
theorem m_J2_add_2f {l : Launch} {s0 : State} {G : zG} (hE : zE l s0 G) (H0 : Heap) (hO : zO s0 H0) (lc n : Nat) (c : Nat → Nat) (arr : Nat) (md : Int) (x : Nat) (hq : s0.heap.size ≤ lc) (ha : s0.heap.size ≤ arr) (hla : lc ≠ arr) (hn : n < 10) (h : zAt G lc (zOb 8 [.int (iI md), .ref arr, .int (iI (n : Int))]) H0) (h2 : zAt G arr (zR G 10 (lf n c)) H0) (hy : zAny s0 H0 x) (hne : x ≠ lc) : zM l s0 yJ2_add_2 cJ2_add_2 4 (none : Option FieldType) rm_m_J2_add_2f [.ref lc, .ref x, .ref arr, .int (iI ((n : Nat) : Int))] H0 (fun z => z = lc ∨ z = arr) (rv (fun h1 => zAt G lc (zOb 8 [.int (iI md), .ref arr, .int (iI ((n + 1 : Nat) : Int))]) h1 ∧ zAt G arr (zR G 10 (va_up (lf n c) n (some x))) h1)) := by
  refine z_met hE (by decide +kernel) (Nat.le_of_ble_eq_true rfl) ?_
  intro pp ee ss mm args below meth cd Q ls hC hml hrt hlk hnm hH hQ hS hl
  have hx := hC.x
  have hb := hC.b
  have hl : lv_has ls 4 [(0, .ref lc), (1, .ref x), (2, .ref arr), (3, .int (iI ((n : Nat) : Int)))] := hl
  have hP : va_P G.1 zCl [(lc, zOb 8 [.int (iI md), .ref arr, .int (iI ((n : Nat) : Int))]), (arr, zR G 10 (lf n c))] H0 := zP2 h h2
  have hD : va_D (zA (fun z => z = lc ∨ z = arr) H0) [(lc, zOb 8 [.int (iI md), .ref arr, .int (iI ((n : Nat) : Int))]), (arr, zR G 10 (lf n c))] := zD2 (Or.inl (Or.inl rfl)) (Or.inl (Or.inr rfl)) hla
  have hMo : ∀ z, (fun z => z = lc ∨ z = arr) z → s0.heap.size ≤ z := fun z hz => hz.elim (fun y => y ▸ hq) (fun y => y ▸ ha)
  refine lv_iload_n hx hb dJ2_add_2_0 rfl (lv_at hl 3 rfl) ?_
  refine lv_aload_n hx hb dJ2_add_2_1 rfl (lv_at hl 2 rfl) ?_
  refine z_alen hC 3 (hP 1 _ rfl) rfl (y := 10) rfl dJ2_add_2_2 ?_
  refine z_cne (tgt := 11) hx hb dJ2_add_2_3 (by decide) (by omega) (fun c1 => ?_) (fun c1 => ?_)
  · refine lv_aload_n hx hb dJ2_add_2_11 rfl (lv_at hl 2 rfl) ?_
    refine lv_iload_n hx hb dJ2_add_2_12 rfl (lv_at hl 3 rfl) ?_
    refine lv_aload_n hx hb dJ2_add_2_13 rfl (lv_at hl 1 rfl) ?_
    refine z_aastR hC hP hD hS 1 (k := n) rfl hy rfl (by omega) (ws' := [(lc, zOb 8 [.int (iI md), .ref arr, .int (iI ((n : Nat) : Int))]), (arr, zR G 10 (va_up (lf n c) n (some x)))]) rfl dJ2_add_2_14 (fun H2 locs hP hD hS hZ1 hZ2 => ?_)
    refine lv_aload_n hx hb dJ2_add_2_15 rfl (lv_at hl 0 rfl) ?_
    refine lv_iload_n hx hb dJ2_add_2_16 rfl (lv_at hl 3 rfl) ?_
    refine lv_iconst (v := iI 1) hx hb dJ2_add_2_17 rfl ?_
    refine z_add hx hb (z := ((n : Nat) : Int) + 1) dJ2_add_2_18 rfl ?_
    refine z_top (b := ((n + 1 : Nat) : Int)) (by omega) ?_
    refine z_put hC hP hD hS 0 (k := 2) rfl rfl in_J2 tyJ2_ok nmJ2 (by decide) q127 (fun _ h => h) rfl rfl rfl rfl (Nat.le_of_ble_eq_true rfl) (ws' := [(lc, zOb 8 [.int (iI md), .ref arr, .int (iI ((n + 1 : Nat) : Int))]), (arr, zR G 10 (va_up (lf n c) n (some x)))]) rfl dJ2_add_2_19 (fun H3 locs hP hD hS => ?_)
    exact z_vret hC hrt hlk hQ hS ⟨zle (z := 0) rfl (by omega), zle (z := 0) rfl (by omega)⟩ ⟨rfl, hP 0 _ rfl, hP 1 _ rfl⟩ dJ2_add_2_22
  · omega

abbrev rm_m_J2_add_f : Room := { frames := 6, cells := 1, slots := 10, locals := 200 }
set_option maxHeartbeats 4000000 in
theorem m_J2_add_f {l : Launch} {s0 : State} {G : zG} (hE : zE l s0 G) (H0 : Heap) (hO : zO s0 H0) (lc n : Nat) (c : Nat → Nat) (arr : Nat) (md : Int) (x : Nat) (hq : s0.heap.size ≤ lc) (ha : s0.heap.size ≤ arr) (hla : lc ≠ arr) (hn : n < 10) (h : zAt G lc (zOb 8 [.int (iI md), .ref arr, .int (iI (n : Int))]) H0) (h2 : zAt G arr (zR G 10 (lf n c)) H0) (hy : zAny s0 H0 x) (hne : x ≠ lc) : zM l s0 yJ2_add cJ2_add 2 (some FieldType.boolean) rm_m_J2_add_f [.ref lc, .ref x] H0 (fun z => z = lc ∨ z = arr) (ri (fun z h1 => z = 1 ∧ zAt G lc (zOb 8 [.int (iI (md + 1)), .ref arr, .int (iI ((n + 1 : Nat) : Int))]) h1 ∧ zAt G arr (zR G 10 (va_up (lf n c) n (some x))) h1)) := by
  refine z_met hE (by decide +kernel) (Nat.le_of_ble_eq_true rfl) ?_
  intro pp ee ss mm args below meth cd Q ls hC hml hrt hlk hnm hH hQ hS hl
  have hx := hC.x
  have hb := hC.b
  have hl : lv_has ls 2 [(0, .ref lc), (1, .ref x)] := hl
  have hP : va_P G.1 zCl [(lc, zOb 8 [.int (iI md), .ref arr, .int (iI ((n : Nat) : Int))]), (arr, zR G 10 (lf n c))] H0 := zP2 h h2
  have hD : va_D (zA (fun z => z = lc ∨ z = arr) H0) [(lc, zOb 8 [.int (iI md), .ref arr, .int (iI ((n : Nat) : Int))]), (arr, zR G 10 (lf n c))] := zD2 (Or.inl (Or.inl rfl)) (Or.inl (Or.inr rfl)) hla
  have hMo : ∀ z, (fun z => z = lc ∨ z = arr) z → s0.heap.size ≤ z := fun z hz => hz.elim (fun y => y ▸ hq) (fun y => y ▸ ha)
  refine lv_aload_n hx hb dJ2_add_0 rfl (lv_at hl 0 rfl) ?_
  refine lv_dup hx hb dJ2_add_1 rfl ?_
  refine z_get hC (k := 0) rfl in_J2 (hP 0 _ rfl) (by decide) q131 (zsame_J2 hC) rfl dJ2_add_2 ?_
  refine lv_iconst (v := iI 1) hx hb dJ2_add_5 rfl ?_
  refine z_add hx hb (z := md + 1) dJ2_add_6 rfl ?_
  refine z_putO hC hP hD hS 0 (k := 0) rfl rfl in_J2 tyJ2_ok nmJ2 (by decide) q131 (zsame_J2 hC) rfl rfl rfl rfl (Nat.le_of_ble_eq_true rfl) (ws' := [(lc, zOb 8 [.int (iI (md + 1)), .ref arr, .int (iI ((n : Nat) : Int))]), (arr, zR G 10 (lf n c))]) rfl dJ2_add_7 (fun H1 locs hP hD hS hZ1 hZ2 => ?_)
  have hy1 : zAny s0 H1 x := by
    obtain ⟨cellV, g1, g2⟩ := hy
    exact ⟨cellV, by rw [hZ2 x hne]; exact g1, g2⟩
  refine lv_aload_n hx hb dJ2_add_10 rfl (lv_at hl 0 rfl) ?_
  refine lv_aload_n hx hb dJ2_add_11 rfl (lv_at hl 1 rfl) ?_
  refine lv_aload_n hx hb dJ2_add_12 rfl (lv_at hl 0 rfl) ?_
  refine z_get hC (k := 1) rfl in_J2 (hP 0 _ rfl) (by decide) q124 (fun _ h => h) rfl dJ2_add_13 ?_
  refine lv_aload_n hx hb dJ2_add_16 rfl (lv_at hl 0 rfl) ?_
  refine z_get hC (k := 2) rfl in_J2 (hP 0 _ rfl) (by decide) q127 (fun _ h => h) rfl dJ2_add_17 ?_
  refine z_go 0 0 (z_runV (As := [.ref x, .ref arr, .int (iI ((n : Nat) : Int))]) (rest := []) hC hml hl.1 (m_J2_add_2f hE H1 (hO.ext (zS_F hS) hMo) lc n c arr (md + 1) x hq ha hla hn (hP 0 _ rfl) (hP 1 _ rfl) hy1 hne) (lw_V q981 q983 qs20 q65 q984) rfl nd_J2_add_2 rfl (z_rv hC (ci := 8) rfl (hP 0 _ rfl) rfl) rfl (Nat.le_of_ble_eq_true rfl) ⟨Nat.le_of_ble_eq_true rfl, Nat.le_of_ble_eq_true rfl⟩ ⟨zfit (k := 0) (z := 1) rfl rfl (by omega), zfit (k := 0) (z := 10) rfl rfl (by omega)⟩ dJ2_add_20) ⟨zad (k := 0) rfl (by omega), zad (k := 0) rfl (by omega)⟩ hS (fun q z => z.elim (fun y => by rw [y]; exact hD.2 0 _ rfl) (fun y => by rw [y]; exact hD.2 1 _ rfl)) (fun r H2 locs hp hF hS1 => ?_)
  obtain ⟨rfl, hm1, hm2⟩ := hp
  obtain ⟨hP, hD⟩ := zjm2 hP hD hF 0 1 rfl rfl hm1 hm2
  have hP : va_P G.1 zCl ([(lc, zOb 8 [.int (iI (md + 1)), .ref arr, .int (iI ((n + 1 : Nat) : Int))]), (arr, zR G 10 (va_up (lf n c) n (some x)))]) H2 := hP
  have hD : va_D (zA (fun z => z = lc ∨ z = arr) H0) ([(lc, zOb 8 [.int (iI (md + 1)), .ref arr, .int (iI ((n + 1 : Nat) : Int))]), (arr, zR G 10 (va_up (lf n c) n (some x)))]) := hD
  have hS := hS1
  refine lv_iconst (v := iI 1) hx hb dJ2_add_23 rfl ?_
  exact z_zret hC hrt hlk hQ hS ⟨zle (z := 1) rfl (by omega), zle (z := 10) rfl (by omega)⟩ (by omega) ⟨_, rfl, rfl, hP 0 _ rfl, hP 1 _ rfl⟩ dJ2_add_24

/-- a list grows by one -/
theorem m_J2_add {l : Launch} {s0 : State} {G : zG} (hE : zE l s0 G) (H0 : Heap) (hO : zO s0 H0) (lc n : Nat) (c : Nat → Nat) (arr : Nat) (md : Int) (x : Nat) (hq : s0.heap.size ≤ lc) (ha : arr ≠ G.2 12 → s0.heap.size ≤ arr ∧ lc ≠ arr) (hn : n < 10) (h : zLs G lc n c arr md H0) (hy : zAny s0 H0 x) (hne : x ≠ lc) :
    zM l s0 yJ2_add cJ2_add 2 (some .boolean) rm_m_J2_add_f [.ref lc, .ref x] H0 (fun z => z = lc ∨ (z = arr ∧ arr ≠ G.2 12)) (ri (fun z h1 => z = 1 ∧ ∃ arr1, zLs G lc (n + 1) (va_up c n x) arr1 (md + 1) h1 ∧ ((arr1 = arr ∧ arr ≠ G.2 12) ∨ H0.size ≤ arr1))) := by
  have hG : G.2 12 < s0.heap.size := zT.old hE.2.2.2.1.2.1.2
  obtain ⟨h1, h2⟩ := h
  rcases h2 with ⟨rfl, rfl⟩ | ⟨h10, hne2, h2⟩
  · refine (m_J2_add_e hE H0 hO lc md x hq h1 hy hne).mono (fun q hq => Or.inl hq) ?_
    rintro r h ⟨z, e1, e2, q, e3, e4⟩
    refine ⟨z, e1, e2, q, ⟨e3, Or.inr ⟨by omega, ?_, ?_⟩⟩, Or.inr (e4.2.2 0 _ rfl)⟩
    · have h5 : H0.size ≤ q := e4.2.2 0 _ rfl
      have := hO.1
      omega
    · have e5 := e4.1 0 _ rfl
      rw [← lf_add 0 c x]
      have : lf 0 c = fun _ => none := by funext j; simp [lf]
      rw [this]; exact e5
  · refine (m_J2_add_f hE H0 hO lc n c arr md x hq (ha hne2).1 (ha hne2).2 hn h1 h2 hy hne).mono (fun q hq => hq.imp id (fun e => ⟨e, hne2⟩)) ?_
    rintro r h ⟨z, e1, e2, e3, e4⟩
    rw [lf_add] at e4
    exact ⟨z, e1, e2, arr, ⟨e3, Or.inr ⟨by omega, hne2, e4⟩⟩, Or.inl ⟨rfl, hne2⟩⟩
abbrev rm_m_J2_clear : Room := { frames := 0, cells := 0, slots := 0, locals := 0 }
set_option maxHeartbeats 4000000 in
theorem m_J2_clear {l : Launch} {s0 : State} {G : zG} (hE : zE l s0 G) (H0 : Heap) (hO : zO s0 H0) (lc n : Nat) (c : Nat → Nat) (arr : Nat) (md : Int) (hq : s0.heap.size ≤ lc) (ha : s0.heap.size ≤ arr) (hla : lc ≠ arr) (hn : n ≤ 10) (h : zAt G lc (zOb 8 [.int (iI md), .ref arr, .int (iI (n : Int))]) H0) (h2 : zAt G arr (zR G 10 (lf n c)) H0) : zM l s0 yJ2_clear cJ2_clear 4 (none : Option FieldType) rm_m_J2_clear [.ref lc] H0 (fun z => z = lc ∨ z = arr) (rv (fun h1 => zAt G lc (zOb 8 [.int (iI (md + 1)), .ref arr, .int (iI 0)]) h1 ∧ zAt G arr (zR G 10 (lf 0 c)) h1)) := by
  refine z_met hE (by decide +kernel) (Nat.le_of_ble_eq_true rfl) ?_
  intro pp ee ss mm args below meth cd Q ls hC hml hrt hlk hnm hH hQ hS hl
  have hx := hC.x
  have hb := hC.b
  have hl : lv_has ls 4 [(0, .ref lc)] := hl
  have hP : va_P G.1 zCl [(lc, zOb 8 [.int (iI md), .ref arr, .int (iI ((n : Nat) : Int))]), (arr, zR G 10 (lf n c))] H0 := zP2 h h2
  have hD : va_D (zA (fun z => z = lc ∨ z = arr) H0) [(lc, zOb 8 [.int (iI md), .ref arr, .int (iI ((n : Nat) : Int))]), (arr, zR G 10 (lf n c))] := zD2 (Or.inl (Or.inl rfl)) (Or.inl (Or.inr rfl)) hla
  have hMo : ∀ z, (fun z => z = lc ∨ z = arr) z → s0.heap.size ≤ z := fun z hz => hz.elim (fun y => y ▸ hq) (fun y => y ▸ ha)
  refine lv_aload_n hx hb dJ2_clear_0 rfl (lv_at hl 0 rfl) ?_
  refine lv_dup hx hb dJ2_clear_1 rfl ?_
  refine z_get hC (k := 0) rfl in_J2 (hP 0 _ rfl) (by decide) q131 (zsame_J2 hC) rfl dJ2_clear_2 ?_
  refine lv_iconst (v := iI 1) hx hb dJ2_clear_5 rfl ?_
  refine z_add hx hb (z := md + 1) dJ2_clear_6 rfl ?_
  refine z_put hC hP hD hS 0 (k := 0) rfl rfl in_J2 tyJ2_ok nmJ2 (by decide) q131 (zsame_J2 hC) rfl rfl rfl rfl (Nat.le_of_ble_eq_true rfl) (ws' := [(lc, zOb 8 [.int (iI (md + 1)), .ref arr, .int (iI ((n : Nat) : Int))]), (arr, zR G 10 (lf n c))]) rfl dJ2_clear_7 (fun H1 locs hP hD hS => ?_)
  refine lv_aload_n hx hb dJ2_clear_10 rfl (lv_at hl 0 rfl) ?_
  refine z_get hC (k := 1) rfl in_J2 (hP 0 _ rfl) (by decide) q124 (fun _ h => h) rfl dJ2_clear_11 ?_
  refine lv_astore_n (lv' := [(1, .ref arr), (0, .ref lc)]) hx hb dJ2_clear_14 rfl hl (by decide) rfl (fun ls hl => ?_)
  refine lv_aload_n hx hb dJ2_clear_15 rfl (lv_at hl 1 rfl) ?_
  refine z_get hC (k := 2) rfl in_J2 (hP 0 _ rfl) (by decide) q127 (fun _ h => h) rfl dJ2_clear_16 ?_
  refine lv_istore_n (lv' := [(2, .int (iI ((n : Nat) : Int))), (1, .ref arr), (0, .ref lc)]) hx hb dJ2_clear_19 rfl hl (by decide) rfl (fun ls hl => ?_)
  refine lv_aload_n hx hb dJ2_clear_20 rfl (lv_at hl 2 rfl) ?_
  refine lv_iconst (v := iI 0) hx hb dJ2_clear_21 rfl ?_
  refine lv_dup_x1 hx hb dJ2_clear_22 rfl rfl ?_
  refine z_put hC hP hD hS 0 (k := 2) rfl rfl in_J2 tyJ2_ok nmJ2 (by decide) q127 (fun _ h => h) rfl rfl rfl rfl (Nat.le_of_ble_eq_true rfl) (ws' := [(lc, zOb 8 [.int (iI (md + 1)), .ref arr, .int (iI 0)]), (arr, zR G 10 (lf n c))]) rfl dJ2_clear_23 (fun H2 locs hP hD hS => ?_)
  refine lv_istore_n (lv' := [(3, .int (iI 0)), (2, .int (iI ((n : Nat) : Int))), (1, .ref arr), (0, .ref lc)]) hx hb dJ2_clear_26 rfl hl (by decide) rfl (fun ls hl => ?_)
  have lp3 : ∀ (dlp3 : Nat) (i : Nat) (f : Nat → Option Nat), n - i = dlp3 → (i ≤ n) → (∀ j, j < i → f j = none) → (∀ j, i ≤ j → f j = lf n c j) → ∀ (H4 : Heap) (locs : List Loc) (ls : Array Slot), va_P G.1 zCl ([(lc, zOb 8 [.int (iI (md + 1)), .ref arr, .int (iI 0)]), (arr, zR G 10 f)]) H4 → va_D (zA (fun z => z = lc ∨ z = arr) H0) ([(lc, zOb 8 [.int (iI (md + 1)), .ref arr, .int (iI 0)]), (arr, zR G 10 f)]) → va_S (zA (fun z => z = lc ∨ z = arr) H0) H0 H4 locs → lv_has ls 4 [(3, .int (iI ((i : Nat) : Int))), (2, .int (iI ((n : Nat) : Int))), (1, .ref arr), (0, .ref lc)] → W pp l ee rm_m_J2_clear ss mm args below meth cd H4 locs 0 0 Q (F0 mm 27 ls []) := by
    intro dlp3
    induction dlp3 using Nat.strongRecOn with
    | ind dlp3 ihlp3 =>
      intro i f hdlp3 hi hf hg H4 locs ls  hP hD hS hl
      refine lv_iload_n hx hb dJ2_clear_27 rfl (lv_at hl 0 rfl) ?_
      refine lv_iload_n hx hb dJ2_clear_28 rfl (lv_at hl 1 rfl) ?_
      refine z_cge (tgt := 42) hx hb dJ2_clear_29 (by decide) (by omega) (fun c5 => ?_) (fun c5 => ?_)
      · have e0 : f = lf 0 c := by
          funext j
          rcases Nat.lt_or_ge j i with hj | hj
          · rw [hf j hj]; simp [lf]
          · rw [hg j hj]; simp [lf]; omega
        subst e0
        exact z_vret hC hrt hlk hQ hS ⟨zle (z := 0) rfl (by omega), zle (z := 0) rfl (by omega)⟩ ⟨rfl, hP 0 _ rfl, hP 1 _ rfl⟩ dJ2_clear_42
      · refine lv_aload_n hx hb dJ2_clear_32 rfl (lv_at hl 2 rfl) ?_
        refine lv_iload_n hx hb dJ2_clear_33 rfl (lv_at hl 0 rfl) ?_
        refine lv_null hx hb dJ2_clear_34 ?_
        refine z_aastRN hC hP hD hS 1 (k := i) rfl rfl (by omega) (ws' := [(lc, zOb 8 [.int (iI (md + 1)), .ref arr, .int (iI 0)]), (arr, zR G 10 (va_up f i none))]) rfl dJ2_clear_35 (fun H6 locs hP hD hS => ?_)
        refine z_iinc (z := ((i + 1 : Nat) : Int)) (lv' := [(3, .int (iI ((i + 1 : Nat) : Int))), (2, .int (iI ((n : Nat) : Int))), (1, .ref arr), (0, .ref lc)]) hx hb dJ2_clear_36 hl (k := 0) rfl (by omega) (by decide) rfl (fun ls hl => ?_)
        refine lv_goto (tgt := 27) hx hb dJ2_clear_39 (by decide) ?_
        exact W.widen (by omega) (by omega) (ihlp3 (n - (i + 1)) (by omega) (i + 1) (va_up f i none) rfl (by omega) (fun j hj => if e : j = i then by rw [e]; simp [va_up] else by rw [va_up_ne _ _ e]; exact hf j (by omega)) (fun j hj => by rw [va_up_ne _ _ (by omega)]; exact hg j (by omega)) _ _ _  hP hD hS hl)
  exact W.widen (by omega) (by omega) (lp3 _ 0 (lf n c) rfl (Nat.zero_le n) (fun j hj => absurd hj (Nat.not_lt_zero j)) (fun j _ => rfl) _ _ _  hP hD hS hl)

abbrev rm_m_J2_fastRemove : Room := { frames := 0, cells := 0, slots := 0, locals := 0 }
set_option maxHeartbeats 4000000 in
theorem m_J2_fastRemove {l : Launch} {s0 : State} {G : zG} (hE : zE l s0 G) (H0 : Heap) (hO : zO s0 H0) (lc n : Nat) (c : Nat → Nat) (arr : Nat) (md : Int) (hq : s0.heap.size ≤ lc) (ha : s0.heap.size ≤ arr) (hla : lc ≠ arr) (hn : n < 10) (h : zAt G lc (zOb 8 [.int (iI md), .ref arr, .int (iI ((n + 1 : Nat) : Int))]) H0) (h2 : zAt G arr (zR G 10 (lf (n + 1) c)) H0) : zM l s0 yJ2_fastRemove cJ2_fastRemove 4 (none : Option FieldType) rm_m_J2_fastRemove [.ref lc, .ref arr, .int (iI ((n : Nat) : Int))] H0 (fun z => z = lc ∨ z = arr) (rv (fun h1 => zAt G lc (zOb 8 [.int (iI (md + 1)), .ref arr, .int (iI (n : Int))]) h1 ∧ zAt G arr (zR G 10 (lf n c)) h1)) := by
  refine z_met hE (by decide +kernel) (Nat.le_of_ble_eq_true rfl) ?_
  intro pp ee ss mm args below meth cd Q ls hC hml hrt hlk hnm hH hQ hS hl
  have hx := hC.x
  have hb := hC.b
  have hl : lv_has ls 4 [(0, .ref lc), (1, .ref arr), (2, .int (iI ((n : Nat) : Int)))] := hl
  have hP : va_P G.1 zCl [(lc, zOb 8 [.int (iI md), .ref arr, .int (iI ((n + 1 : Nat) : Int))]), (arr, zR G 10 (lf (n + 1) c))] H0 := zP2 h h2
  have hD : va_D (zA (fun z => z = lc ∨ z = arr) H0) [(lc, zOb 8 [.int (iI md), .ref arr, .int (iI ((n + 1 : Nat) : Int))]), (arr, zR G 10 (lf (n + 1) c))] := zD2 (Or.inl (Or.inl rfl)) (Or.inl (Or.inr rfl)) hla
  have hMo : ∀ z, (fun z => z = lc ∨ z = arr) z → s0.heap.size ≤ z := fun z hz => hz.elim (fun y => y ▸ hq) (fun y => y ▸ ha)
  refine lv_aload_n hx hb dJ2_fastRemove_0 rfl (lv_at hl 0 rfl) ?_
  refine lv_dup hx hb dJ2_fastRemove_1 rfl ?_
  refine z_get hC (k := 0) rfl in_J2 (hP 0 _ rfl) (by decide) q131 (zsame_J2 hC) rfl dJ2_fastRemove_2 ?_
  refine lv_iconst (v := iI 1) hx hb dJ2_fastRemove_5 rfl ?_
  refine z_add hx hb (z := md + 1) dJ2_fastRemove_6 rfl ?_
  refine z_put hC hP hD hS 0 (k := 0) rfl rfl in_J2 tyJ2_ok nmJ2 (by decide) q131 (zsame_J2 hC) rfl rfl rfl rfl (Nat.le_of_ble_eq_true rfl) (ws' := [(lc, zOb 8 [.int (iI (md + 1)), .ref arr, .int (iI ((n + 1 : Nat) : Int))]), (arr, zR G 10 (lf (n + 1) c))]) rfl dJ2_fastRemove_7 (fun H1 locs hP hD hS => ?_)
  refine lv_aload_n hx hb dJ2_fastRemove_10 rfl (lv_at hl 0 rfl) ?_
  refine z_get hC (k := 2) rfl in_J2 (hP 0 _ rfl) (by decide) q127 (fun _ h => h) rfl dJ2_fastRemove_11 ?_
  refine lv_iconst (v := iI 1) hx hb dJ2_fastRemove_14 rfl ?_
  refine z_sub hx hb (z := ((n + 1 : Nat) : Int) - 1) dJ2_fastRemove_15 rfl ?_
  refine z_top (b := ((n : Nat) : Int)) (by omega) ?_
  refine lv_dup hx hb dJ2_fastRemove_16 rfl ?_
  refine lv_istore_n (lv' := [(3, .int (iI ((n : Nat) : Int))), (0, .ref lc), (1, .ref arr), (2, .int (iI ((n : Nat) : Int)))]) hx hb dJ2_fastRemove_17 rfl hl (by decide) rfl (fun ls hl => ?_)
  refine lv_iload_n hx hb dJ2_fastRemove_18 rfl (lv_at hl 3 rfl) ?_
  refine z_cle (tgt := 34) hx hb dJ2_fastRemove_19 (by decide) (by omega) (fun c2 => ?_) (fun c2 => ?_)
  · refine lv_aload_n hx hb dJ2_fastRemove_34 rfl (lv_at hl 2 rfl) ?_
    refine lv_aload_n hx hb dJ2_fastRemove_35 rfl (lv_at hl 1 rfl) ?_
    refine lv_iload_n hx hb dJ2_fastRemove_36 rfl (lv_at hl 0 rfl) ?_
    refine lv_dup_x1 hx hb dJ2_fastRemove_37 rfl rfl ?_
    refine z_put hC hP hD hS 0 (k := 2) rfl rfl in_J2 tyJ2_ok nmJ2 (by decide) q127 (fun _ h => h) rfl rfl rfl rfl (Nat.le_of_ble_eq_true rfl) (ws' := [(lc, zOb 8 [.int (iI (md + 1)), .ref arr, .int (iI ((n : Nat) : Int))]), (arr, zR G 10 (lf (n + 1) c))]) rfl dJ2_fastRemove_38 (fun H3 locs hP hD hS => ?_)
    refine lv_null hx hb dJ2_fastRemove_41 ?_
    refine z_aastRN hC hP hD hS 1 (k := n) rfl rfl (by omega) (ws' := [(lc, zOb 8 [.int (iI (md + 1)), .ref arr, .int (iI ((n : Nat) : Int))]), (arr, zR G 10 (va_up (lf (n + 1) c) n none))]) rfl dJ2_fastRemove_42 (fun H4 locs hP hD hS => ?_)
    exact z_vret hC hrt hlk hQ hS ⟨zle (z := 0) rfl (by omega), zle (z := 0) rfl (by omega)⟩ ⟨rfl, hP 0 _ rfl, by rw [← lf_del n c]; exact hP 1 _ rfl⟩ dJ2_fastRemove_43
  · omega

abbrev rm_m_J2_remove : Room := { frames := 2, cells := 0, slots := 0, locals := 43 }
set_option maxHeartbeats 4000000 in
theorem m_J2_remove {l : Launch} {s0 : State} {G : zG} (hE : zE l s0 G) (H0 : Heap) (hO : zO s0 H0) (lc n : Nat) (c : Nat → Nat) (arr : Nat) (md : Int) (hq : s0.heap.size ≤ lc) (ha : s0.heap.size ≤ arr) (hla : lc ≠ arr) (hn : n < 10) (h : zAt G lc (zOb 8 [.int (iI md), .ref arr, .int (iI ((n + 1 : Nat) : Int))]) H0) (h2 : zAt G arr (zR G 10 (lf (n + 1) c)) H0) : zM l s0 yJ2_remove cJ2_remove 4 (some (FieldType.object "java/lang/Object")) rm_m_J2_remove [.ref lc, .int (iI ((n : Nat) : Int))] H0 (fun z => z = lc ∨ z = arr) (rr (fun q h1 => q = c n ∧ zAt G lc (zOb 8 [.int (iI (md + 1)), .ref arr, .int (iI (n : Int))]) h1 ∧ zAt G arr (zR G 10 (lf n c)) h1)) := by
  refine z_met hE (by decide +kernel) (Nat.le_of_ble_eq_true rfl) ?_
  intro pp ee ss mm args below meth cd Q ls hC hml hrt hlk hnm hH hQ hS hl
  have hx := hC.x
  have hb := hC.b
  have hl : lv_has ls 4 [(0, .ref lc), (1, .int (iI ((n : Nat) : Int)))] := hl
  have hP : va_P G.1 zCl [(lc, zOb 8 [.int (iI md), .ref arr, .int (iI ((n + 1 : Nat) : Int))]), (arr, zR G 10 (lf (n + 1) c))] H0 := zP2 h h2
  have hD : va_D (zA (fun z => z = lc ∨ z = arr) H0) [(lc, zOb 8 [.int (iI md), .ref arr, .int (iI ((n + 1 : Nat) : Int))]), (arr, zR G 10 (lf (n + 1) c))] := zD2 (Or.inl (Or.inl rfl)) (Or.inl (Or.inr rfl)) hla
  have hMo : ∀ z, (fun z => z = lc ∨ z = arr) z → s0.heap.size ≤ z := fun z hz => hz.elim (fun y => y ▸ hq) (fun y => y ▸ ha)
  refine lv_iload_n hx hb dJ2_remove_0 rfl (lv_at hl 1 rfl) ?_
  refine lv_aload_n hx hb dJ2_remove_1 rfl (lv_at hl 0 rfl) ?_
  refine z_get hC (k := 2) rfl in_J2 (hP 0 _ rfl) (by decide) q127 (fun _ h => h) rfl dJ2_remove_2 ?_
  refine z_go 0 0 (z_runS (As := [.int (iI ((n : Nat) : Int)), .int (iI ((n + 1 : Nat) : Int))]) (rest := []) hC hml hl.1 (m_J15_checkIndex hE H0 (hO.ext (zS_F hS) hMo) n (n + 1) (by omega)) (lw_S q376 q377 q86 q378) nd_J15_checkIndex rfl rfl (Nat.le_of_ble_eq_true rfl) ⟨Nat.le_of_ble_eq_true rfl, Nat.le_of_ble_eq_true rfl⟩ ⟨zfit (k := 0) (z := 0) rfl rfl (by omega), zfit (k := 0) (z := 0) rfl rfl (by omega)⟩ dJ2_remove_5) ⟨zad (k := 0) rfl (by omega), zad (k := 0) rfl (by omega)⟩ hS (fun _ z => z.elim) (fun r H1 locs hp hF hS1 => ?_)
  obtain ⟨_, rfl, rfl⟩ := hp
  have hP := zpk hP hF
  have hP : va_P G.1 zCl ([(lc, zOb 8 [.int (iI md), .ref arr, .int (iI ((n + 1 : Nat) : Int))]), (arr, zR G 10 (lf (n + 1) c))]) H1 := hP
  have hD : va_D (zA (fun z => z = lc ∨ z = arr) H0) ([(lc, zOb 8 [.int (iI md), .ref arr, .int (iI ((n + 1 : Nat) : Int))]), (arr, zR G 10 (lf (n + 1) c))]) := hD
  have hS := hS1
  refine lv_pop hx hb dJ2_remove_8 rfl ?_
  refine lv_aload_n hx hb dJ2_remove_9 rfl (lv_at hl 0 rfl) ?_
  refine z_get hC (k := 1) rfl in_J2 (hP 0 _ rfl) (by decide) q124 (fun _ h => h) rfl dJ2_remove_10 ?_
  refine lv_astore_n (lv' := [(2, .ref arr), (0, .ref lc), (1, .int (iI ((n : Nat) : Int)))]) hx hb dJ2_remove_13 rfl hl (by decide) rfl (fun ls hl => ?_)
  refine lv_aload_n hx hb dJ2_remove_14 rfl (lv_at hl 0 rfl) ?_
  refine lv_iload_n hx hb dJ2_remove_15 rfl (lv_at hl 2 rfl) ?_
  refine z_aaldR hC (hP 1 _ rfl) (k := n) rfl (by omega) (q := (c n)) (lf_in (by omega)) dJ2_remove_16 ?_
  refine lv_astore_n (lv' := [(3, .ref (c n)), (2, .ref arr), (0, .ref lc), (1, .int (iI ((n : Nat) : Int)))]) hx hb dJ2_remove_17 rfl hl (by decide) rfl (fun ls hl => ?_)
  refine lv_aload_n hx hb dJ2_remove_18 rfl (lv_at hl 2 rfl) ?_
  refine lv_aload_n hx hb dJ2_remove_19 rfl (lv_at hl 1 rfl) ?_
  refine lv_iload_n hx hb dJ2_remove_20 rfl (lv_at hl 3 rfl) ?_
  refine z_go 0 0 (z_runV (As := [.ref arr, .int (iI ((n : Nat) : Int))]) (rest := []) hC hml hl.1 (m_J2_fastRemove hE H1 (hO.ext (zS_F hS) hMo) lc n c arr md hq ha hla hn (hP 0 _ rfl) (hP 1 _ rfl)) (lw_V q1398 q1400 qs28 q65 q1401) rfl nd_J2_fastRemove rfl (z_rv hC (ci := 8) rfl (hP 0 _ rfl) rfl) rfl (Nat.le_of_ble_eq_true rfl) ⟨Nat.le_of_ble_eq_true rfl, Nat.le_of_ble_eq_true rfl⟩ ⟨zfit (k := 0) (z := 0) rfl rfl (by omega), zfit (k := 0) (z := 0) rfl rfl (by omega)⟩ dJ2_remove_21) ⟨zad (k := 0) rfl (by omega), zad (k := 0) rfl (by omega)⟩ hS (fun q z => z.elim (fun y => by rw [y]; exact hD.2 0 _ rfl) (fun y => by rw [y]; exact hD.2 1 _ rfl)) (fun r H2 locs hp hF hS1 => ?_)
  obtain ⟨rfl, hm1, hm2⟩ := hp
  obtain ⟨hP, hD⟩ := zjm2 hP hD hF 0 1 rfl rfl hm1 hm2
  have hP : va_P G.1 zCl ([(lc, zOb 8 [.int (iI (md + 1)), .ref arr, .int (iI ((n : Nat) : Int))]), (arr, zR G 10 (lf n c))]) H2 := hP
  have hD : va_D (zA (fun z => z = lc ∨ z = arr) H0) ([(lc, zOb 8 [.int (iI (md + 1)), .ref arr, .int (iI ((n : Nat) : Int))]), (arr, zR G 10 (lf n c))]) := hD
  have hS := hS1
  refine lv_aload_n hx hb dJ2_remove_24 rfl (lv_at hl 0 rfl) ?_
  exact z_aret hC hrt hlk hQ hS ⟨zle (z := 0) rfl (by omega), zle (z := 0) rfl (by omega)⟩ ⟨_, rfl, rfl, hP 0 _ rfl, hP 1 _ rfl⟩ dJ2_remove_25

