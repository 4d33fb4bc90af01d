/-! LISTS more: looking for an element, iterators; small Integers; Optional; floorMod -/
set_option maxRecDepth 100000
abbrev rm_m_J27_equals : Room := { frames := 0, cells := 0, slots := 0, locals := 0 }
set_option maxHeartbeats 4000000 in
theorem m_J27_equals {l : Launch} {s0 : State} {G : zG} (hE : zE l s0 G) (H0 : Heap) (hO : zO s0 H0) (a b : Nat)  : zM l s0 yJ27_equals cJ27_equals 2 (some FieldType.boolean) rm_m_J27_equals [.ref a, .ref b] H0 M0 (ri (fun z _ => z = if a = b then 1 else 0)) := by
  refine z_met hE (by decide +kernel) (Nat.le_of_ble_eq_true rfl) ?_
  intro pp ee ss mm args below meth cd Q ls hC hml hrt hlk hnm hH hQ hS hl
  have hx := hC.x
  have hb := hC.b
  have hl : lv_has ls 2 [(0, .ref a), (1, .ref b)] := hl
  have hP : va_P G.1 zCl [] H0 := va_nil
  have hD : va_D (zA M0 H0) [] := va_nilD
  refine lv_aload_n hx hb dJ27_equals_0 rfl (lv_at hl 0 rfl) ?_
  refine lv_aload_n hx hb dJ27_equals_1 rfl (lv_at hl 1 rfl) ?_
  refine z_ane (tgt := 9) hx hb dJ27_equals_2 (by decide)   (fun c1 => ?_) (fun c1 => ?_)
  · refine lv_iconst (v := iI 0) hx hb dJ27_equals_9 rfl ?_
    exact z_zret hC hrt hlk hQ hS ⟨zle (z := 0) rfl (by omega), zle (z := 0) rfl (by omega)⟩ (by omega) ⟨_, rfl, by rw [if_neg c1]⟩ dJ27_equals_10
  · refine lv_iconst (v := iI 1) hx hb dJ27_equals_5 rfl ?_
    refine lv_goto (tgt := 10) hx hb dJ27_equals_6 (by decide) ?_
    exact z_zret hC hrt hlk hQ hS ⟨zle (z := 0) rfl (by omega), zle (z := 0) rfl (by omega)⟩ (by omega) ⟨_, rfl, by rw [if_pos c1]⟩ dJ27_equals_10

abbrev rm_m_J2_indexOfRange : Room := { frames := 1, cells := 0, slots := 0, locals := 21 }
set_option maxHeartbeats 4000000 in
theorem m_J2_indexOfRange {l : Launch} {s0 : State} {G : zG} (hE : zE l s0 G) (H0 : Heap) (hO : zO s0 H0) (lc n : Nat) (c : Nat → Nat) (arr : Nat) (md : Int) (i : Nat) (fs : List Value) (h : zLs G lc n c arr md H0) (hi : i < n) (hd : ∀ j, j < n → c j = c i → j = i) (ho : zAt G (c i) (zOb 4 fs) H0) : zM l s0 yJ2_indexOfRange cJ2_indexOfRange 6 (some FieldType.int) rm_m_J2_indexOfRange [.ref lc, .ref (c i), .int (iI 0), .int (iI ((n : Nat) : Int))] H0 M0 (ri (fun z _ => z = i)) := by
  refine z_met hE (by decide +kernel) (Nat.le_of_ble_eq_true rfl) ?_
  intro pp ee ss mm args below meth cd Q ls hC hml hrt hlk hnm hH hQ hS hl
  have hx := hC.x
  have hb := hC.b
  have hl : lv_has ls 6 [(0, .ref lc), (1, .ref (c i)), (2, .int (iI 0)), (3, .int (iI ((n : Nat) : Int)))] := hl
  have hP : va_P G.1 zCl [] H0 := va_nil
  have hD : va_D (zA M0 H0) [] := va_nilD
  have hn := h.n10
  refine lv_aload_n hx hb dJ2_indexOfRange_0 rfl (lv_at hl 0 rfl) ?_
  refine z_get hC (k := 1) rfl in_J2 (zo hS h.1 id) (by decide) q124 (fun _ h => h) rfl dJ2_indexOfRange_1 ?_
  refine lv_astore (lv' := [(4, .ref arr), (0, .ref lc), (1, .ref (c i)), (2, .int (iI 0)), (3, .int (iI ((n : Nat) : Int)))]) hx hb dJ2_indexOfRange_4 hl (by decide) rfl (fun ls hl => ?_)
  refine lv_aload_n hx hb dJ2_indexOfRange_6 rfl (lv_at hl 2 rfl) ?_
  refine lv_ifnonnull (tgt := 39) hx hb dJ2_indexOfRange_7 (by decide) ?_
  refine lv_iload_n hx hb dJ2_indexOfRange_39 rfl (lv_at hl 3 rfl) ?_
  refine lv_istore (lv' := [(5, .int (iI 0)), (4, .ref arr), (0, .ref lc), (1, .ref (c i)), (2, .int (iI 0)), (3, .int (iI ((n : Nat) : Int)))]) hx hb dJ2_indexOfRange_40 hl (by decide) rfl (fun ls hl => ?_)
  have lp1 : ∀ (dlp1 : Nat) (j : Nat), n - j = dlp1 → (j ≤ i) → ∀ (H2 : Heap) (locs : List Loc) (ls : Array Slot), va_P G.1 zCl ([]) H2 → va_D (zA M0 H0) ([]) → va_S (zA M0 H0) H0 H2 locs → lv_has ls 6 [(5, .int (iI ((j : Nat) : Int))), (4, .ref arr), (0, .ref lc), (1, .ref (c i)), (2, .int (iI 0)), (3, .int (iI ((n : Nat) : Int)))] → W pp l ee rm_m_J2_indexOfRange ss mm args below meth cd H2 locs 0 0 Q (F0 mm 42 ls []) := by
    intro dlp1
    induction dlp1 using Nat.strongRecOn with
    | ind dlp1 ihlp1 =>
      intro j hdlp1 hj H2 locs ls  hP hD hS hl
      refine lv_iload hx hb dJ2_indexOfRange_42 (lv_at hl 0 rfl) ?_
      refine lv_iload_n hx hb dJ2_indexOfRange_44 rfl (lv_at hl 5 rfl) ?_
      refine z_cge (tgt := 69) hx hb dJ2_indexOfRange_45 (by decide) (by omega) (fun c3 => ?_) (fun c3 => ?_)
      · omega
      · refine lv_aload_n hx hb dJ2_indexOfRange_48 rfl (lv_at hl 3 rfl) ?_
        refine lv_aload hx hb dJ2_indexOfRange_49 (lv_at hl 1 rfl) ?_
        refine lv_iload hx hb dJ2_indexOfRange_51 (lv_at hl 0 rfl) ?_
        refine z_aaldR hC (zo hS (h.arr (by omega)) id) (k := j) rfl (by omega) (q := (c j)) (lf_in (by omega)) dJ2_indexOfRange_53 ?_
        refine z_go 0 0 (z_runA (n := 1) (As := [.ref (c j)]) (rest := []) hC hml hl.1 (m_J27_equals hE H2 (hO.ext0 (zS_F hS)) (c i) (c j) ) q499 q464 q466 q468 q465 q1961 q463 ⟨by decide +kernel, by decide +kernel, by decide +kernel⟩ rfl (z_rv hC (ci := 4) rfl (zo hS ho id) rfl) rfl (Nat.le_of_ble_eq_true rfl) ⟨Nat.le_of_ble_eq_true rfl, Nat.le_of_ble_eq_true rfl⟩ ⟨zfit (k := 0) (z := 0) rfl rfl (by omega), zfit (k := 0) (z := 0) rfl rfl (by omega)⟩ dJ2_indexOfRange_54) ⟨zad (k := 0) rfl (by omega), zad (k := 0) rfl (by omega)⟩ hS (fun _ z => z.elim) (fun r H4 locs hp hF hS1 => ?_)
        obtain ⟨_, rfl, rfl⟩ := hp
        have hP := zpk hP hF
        have hP : va_P G.1 zCl ([]) H4 := hP
        have hD : va_D (zA M0 H0) ([]) := hD
        have hS := hS1
        by_cases ec : c i = c j
        · have ej := hd j (by omega) ec.symm
          subst ej
          refine z_top (b := 1) (if_pos ec) ?_
          refine z_zeq (tgt := 63) hx hb dJ2_indexOfRange_57 (by decide) (by omega) (fun c5 => ?_) (fun c5 => ?_)
          · omega
          · refine lv_iload hx hb dJ2_indexOfRange_60 (lv_at hl 0 rfl) ?_
            exact z_iret hC hrt hlk hQ hS ⟨zle (z := 0) rfl (by omega), zle (z := 0) rfl (by omega)⟩ ⟨_, rfl, rfl⟩ dJ2_indexOfRange_62
        · refine z_top (b := 0) (if_neg ec) ?_
          refine z_zeq (tgt := 63) hx hb dJ2_indexOfRange_57 (by decide) (by omega) (fun c6 => ?_) (fun c6 => ?_)
          · refine z_iinc (z := ((j + 1 : Nat) : Int)) (lv' := [(5, .int (iI ((j + 1 : Nat) : Int))), (4, .ref arr), (0, .ref lc), (1, .ref (c i)), (2, .int (iI 0)), (3, .int (iI ((n : Nat) : Int)))]) hx hb dJ2_indexOfRange_63 hl (k := 0) rfl (by omega) (by decide) rfl (fun ls hl => ?_)
            refine lv_goto (tgt := 42) hx hb dJ2_indexOfRange_66 (by decide) ?_
            exact W.widen (by omega) (by omega) (ihlp1 (n - (j + 1)) (by omega) (j + 1) rfl (Nat.succ_le_of_lt (Nat.lt_of_le_of_ne hj (fun e => ec (by rw [e])))) _ _ _  hP hD hS hl)
          · exact absurd rfl c6
  exact W.widen (by omega) (by omega) (lp1 _ 0 rfl (Nat.zero_le _) _ _ _  hP hD hS hl)

abbrev rm_m_J2_indexOf : Room := { frames := 2, cells := 0, slots := 0, locals := 46 }
set_option maxHeartbeats 4000000 in
theorem m_J2_indexOf {l : Launch} {s0 : State} {G : zG} (hE : zE l s0 G) (H0 : Heap) (hO : zO s0 H0) (lc n : Nat) (c : Nat → Nat) (arr : Nat) (md : Int) (i : Nat) (fs : List Value) (h : zLs G lc n c arr md H0) (hi : i < n) (hd : ∀ j, j < n → c j = c i → j = i) (ho : zAt G (c i) (zOb 4 fs) H0) : zM l s0 yJ2_indexOf cJ2_indexOf 2 (some FieldType.int) rm_m_J2_indexOf [.ref lc, .ref (c i)] H0 M0 (ri (fun z _ => z = i)) := by
  refine z_met hE (by decide +kernel) (Nat.le_of_ble_eq_true rfl) ?_
  intro pp ee ss mm args below meth cd Q ls hC hml hrt hlk hnm hH hQ hS hl
  have hx := hC.x
  have hb := hC.b
  have hl : lv_has ls 2 [(0, .ref lc), (1, .ref (c i))] := hl
  have hP : va_P G.1 zCl [] H0 := va_nil
  have hD : va_D (zA M0 H0) [] := va_nilD
  have hn := h.n10
  refine lv_aload_n hx hb dJ2_indexOf_0 rfl (lv_at hl 0 rfl) ?_
  refine lv_aload_n hx hb dJ2_indexOf_1 rfl (lv_at hl 1 rfl) ?_
  refine lv_iconst (v := iI 0) hx hb dJ2_indexOf_2 rfl ?_
  refine lv_aload_n hx hb dJ2_indexOf_3 rfl (lv_at hl 0 rfl) ?_
  refine z_get hC (k := 2) rfl in_J2 (zo hS h.1 id) (by decide) q127 (fun _ h => h) rfl dJ2_indexOf_4 ?_
  refine z_go 0 0 (z_runV (As := [.ref (c i), .int (iI 0), .int (iI ((n : Nat) : Int))]) (rest := []) hC hml hl.1 (m_J2_indexOfRange hE H0 (hO.ext0 (zS_F hS)) lc n c arr md i fs (h.ext0 (zS_F hS)) hi hd (zo hS ho id)) (lw_V q459 q460 q461 q65 q462) rfl nd_J2_indexOfRange rfl (z_rv hC (ci := 8) rfl (zo hS h.1 id) rfl) rfl (Nat.le_of_ble_eq_true rfl) ⟨Nat.le_of_ble_eq_true rfl, Nat.le_of_ble_eq_true rfl⟩ ⟨zfit (k := 0) (z := 0) rfl rfl (by omega), zfit (k := 0) (z := 0) rfl rfl (by omega)⟩ dJ2_indexOf_7) ⟨zad (k := 0) rfl (by omega), zad (k := 0) rfl (by omega)⟩ hS (fun _ z => z.elim) (fun r H1 locs hp hF hS1 => ?_)
  obtain ⟨_, rfl, rfl⟩ := hp
  have hP := zpk hP hF
  have hP : va_P G.1 zCl ([]) H1 := hP
  have hD : va_D (zA M0 H0) ([]) := hD
  have hS := hS1
  exact z_iret hC hrt hlk hQ hS ⟨zle (z := 0) rfl (by omega), zle (z := 0) rfl (by omega)⟩ ⟨_, rfl, rfl⟩ dJ2_indexOf_10

abbrev rm_m_J17_init : Room := { frames := 1, cells := 0, slots := 0, locals := 20 }
set_option maxHeartbeats 4000000 in
theorem m_J17_init {l : Launch} {s0 : State} {G : zG} (hE : zE l s0 G) (H0 : Heap) (hO : zO s0 H0) (lc n : Nat) (c : Nat → Nat) (arr : Nat) (md : Int) (q : Nat) (hq : s0.heap.size ≤ q) (hql : q ≠ lc) (h0 : zAt G q (zOb 9 [.int (iI 0), .int (iI 0), .int (iI 0), .null]) H0) (h : zLs G lc n c arr md H0) : zM l s0 yJ17_init cJ17_init 2 (none : Option FieldType) rm_m_J17_init [.ref q, .ref lc] H0 (fun z => z = q) (rv (fun h1 => zAt G q (zOb 9 [.int (iI 0), .int (iI (-1)), .int (iI md), .ref lc]) h1)) := by
  refine z_met hE (by decide +kernel) (Nat.le_of_ble_eq_true rfl) ?_
  intro pp ee ss mm args below meth cd Q ls hC hml hrt hlk hnm hH hQ hS hl
  have hx := hC.x
  have hb := hC.b
  have hl : lv_has ls 2 [(0, .ref q), (1, .ref lc)] := hl
  have hP : va_P G.1 zCl [(q, zOb 9 [.int (iI 0), .int (iI 0), .int (iI 0), .null])] H0 := zP1 h0
  have hD : va_D (zA (fun z => z = q) H0) [(q, zOb 9 [.int (iI 0), .int (iI 0), .int (iI 0), .null])] := zD1 (Or.inl rfl)
  have hMo : ∀ z, (fun z => z = q) z → s0.heap.size ≤ z := fun z hz => hz ▸ hq
  refine lv_aload_n hx hb dJ17_init_0 rfl (lv_at hl 0 rfl) ?_
  refine lv_aload_n hx hb dJ17_init_1 rfl (lv_at hl 1 rfl) ?_
  refine z_putF hC hnm hP hD hS 0 (k := 3) rfl rfl in_J17 tyJ17_ok nmJ17 (by decide) q187 (fun _ h => h) rfl rfl rfl rfl rfl (Nat.le_of_ble_eq_true rfl) (ws' := [(q, zOb 9 [.int (iI 0), .int (iI 0), .int (iI 0), .ref lc])]) rfl dJ17_init_2 (fun H1 locs hP hD hS => ?_)
  refine lv_aload_n hx hb dJ17_init_5 rfl (lv_at hl 0 rfl) ?_
  refine W.objInit hx hb hC.o (hC.t _ q183) (hC.t _ q108) (hC.t _ q109) rfl (by rw [hml]; exact hl.1) rfl dJ17_init_6 (Nat.le_of_ble_eq_true rfl) (Nat.le_of_ble_eq_true rfl) ?_
  refine W.eq (g2 := F0 mm 9 ls []) rfl ?_
  refine lv_aload_n hx hb dJ17_init_9 rfl (lv_at hl 0 rfl) ?_
  refine lv_iconst (v := iI (-1)) hx hb dJ17_init_10 rfl ?_
  refine z_put hC hP hD hS 0 (k := 1) rfl rfl in_J17 tyJ17_ok nmJ17 (by decide) q185 (fun _ h => h) rfl rfl rfl rfl (Nat.le_of_ble_eq_true rfl) (ws' := [(q, zOb 9 [.int (iI 0), .int (iI (-1)), .int (iI 0), .ref lc])]) rfl dJ17_init_11 (fun H2 locs hP hD hS => ?_)
  refine lv_aload_n hx hb dJ17_init_14 rfl (lv_at hl 0 rfl) ?_
  refine lv_aload_n hx hb dJ17_init_15 rfl (lv_at hl 0 rfl) ?_
  refine z_get hC (k := 3) rfl in_J17 (hP 0 _ rfl) (by decide) q187 (fun _ h => h) rfl dJ17_init_16 ?_
  refine z_get hC (k := 0) rfl in_J2 (zo hS h.1 hql.symm) (by decide) q129 (zsame_J2 hC) rfl dJ17_init_19 ?_
  refine z_put hC hP hD hS 0 (k := 2) rfl rfl in_J17 tyJ17_ok nmJ17 (by decide) q186 (fun _ h => h) rfl rfl rfl rfl (Nat.le_of_ble_eq_true rfl) (ws' := [(q, zOb 9 [.int (iI 0), .int (iI (-1)), .int (iI md), .ref lc])]) rfl dJ17_init_22 (fun H3 locs hP hD hS => ?_)
  exact z_vret hC hrt hlk hQ hS ⟨zle (z := 0) rfl (by omega), zle (z := 0) rfl (by omega)⟩ ⟨rfl, hP 0 _ rfl⟩ dJ17_init_25

abbrev rm_m_J2_iterator : Room := { frames := 2, cells := 1, slots := 4, locals := 41 }
set_option maxHeartbeats 4000000 in
theorem m_J2_iterator {l : Launch} {s0 : State} {G : zG} (hE : zE l s0 G) (H0 : Heap) (hO : zO s0 H0) (lc n : Nat) (c : Nat → Nat) (arr : Nat) (md : Int) (h : zLs G lc n c arr md H0) : zM l s0 yJ2_iterator cJ2_iterator 1 (some (FieldType.object "java/util/Iterator")) rm_m_J2_iterator [.ref lc] H0 M0 (rr (fun q h1 => NW G H0 h1 [(q, zOb 9 [.int (iI 0), .int (iI (-1)), .int (iI md), .ref lc])])) := by
  refine z_met hE (by decide +kernel) (Nat.le_of_ble_eq_true rfl) ?_
  intro pp ee ss mm args below meth cd Q ls hC hml hrt hlk hnm hH hQ hS hl
  have hx := hC.x
  have hb := hC.b
  have hl : lv_has ls 1 [(0, .ref lc)] := hl
  have hP : va_P G.1 zCl [] H0 := va_nil
  have hD : va_D (zA M0 H0) [] := va_nilD
  refine z_new hC hP hD hS (c1 := 1) (s1 := 4) (fs := [.int (iI 0), .int (iI 0), .int (iI 0), .null]) (ci := 9) rfl in_J17 tyJ17_ok q178 q179 q88 df_J17 ⟨zle (z := 1) rfl (by omega), zle (z := 4) rfl (by omega)⟩ ⟨by omega, by omega⟩ (ws' := fun q1 => [(q1, zOb 9 [.int (iI 0), .int (iI 0), .int (iI 0), .null])]) (fun _ => rfl) dJ2_iterator_0 (fun q1 H2 hq0q1 hq1q1 hP hD hS hF => ?_)
  refine lv_dup hx hb dJ2_iterator_3 rfl ?_
  refine lv_aload_n hx hb dJ2_iterator_4 rfl (lv_at hl 0 rfl) ?_
  have hlt := h.1.lt
  refine z_go 1 4 (z_runI (As := [.ref lc]) (rest := [.ref q1]) hC hml hl.1 (m_J17_init hE H2 (hO.ext0 (zS_F hS)) lc n c arr md q1 (Nat.le_trans hO.1 hq0q1) (fun e => by omega) (hP 0 _ rfl) (h.ext0 (zS_F hS))) q182 q88 q180 q181 rfl nd_J17_init rfl rfl (Nat.le_of_ble_eq_true rfl) ⟨Nat.le_of_ble_eq_true rfl, Nat.le_of_ble_eq_true rfl⟩ ⟨zfit (k := 0) (z := 1) rfl rfl (by omega), zfit (k := 0) (z := 4) rfl rfl (by omega)⟩ dJ2_iterator_5) ⟨zad (k := 0) rfl (by omega), zad (k := 0) rfl (by omega)⟩ hS (fun q z => by subst z; exact hD.2 0 _ rfl) (fun r H3 locs hp hF hS1 => ?_)
  obtain ⟨rfl, hm⟩ := hp
  obtain ⟨hP, hD⟩ := zjm hP hD hF 0 rfl hm
  have hP : va_P G.1 zCl ([(q1, zOb 9 [.int (iI 0), .int (iI (-1)), .int (iI md), .ref lc])]) H3 := hP
  have hD : va_D (zA M0 H0) ([(q1, zOb 9 [.int (iI 0), .int (iI (-1)), .int (iI md), .ref lc])]) := hD
  have hS := hS1
  exact z_aret hC hrt hlk hQ hS ⟨zle (z := 1) rfl (by omega), zle (z := 4) rfl (by omega)⟩ ⟨_, rfl, hP, zdn hD⟩ dJ2_iterator_8

abbrev rm_m_J17_hasNext : Room := { frames := 0, cells := 0, slots := 0, locals := 0 }
set_option maxHeartbeats 4000000 in
theorem m_J17_hasNext {l : Launch} {s0 : State} {G : zG} (hE : zE l s0 G) (H0 : Heap) (hO : zO s0 H0) (lc n : Nat) (c : Nat → Nat) (arr : Nat) (md : Int) (q i : Nat) (r : Int) (h : zLs G lc n c arr md H0) (h0 : zAt G q (zOb 9 [.int (iI (i : Int)), .int (iI r), .int (iI md), .ref lc]) H0) (hi : i ≤ n) : zM l s0 yJ17_hasNext cJ17_hasNext 1 (some FieldType.boolean) rm_m_J17_hasNext [.ref q] H0 M0 (ri (fun z _ => z = if i < n then 1 else 0)) := by
  refine z_met hE (by decide +kernel) (Nat.le_of_ble_eq_true rfl) ?_
  intro pp ee ss mm args below meth cd Q ls hC hml hrt hlk hnm hH hQ hS hl
  have hx := hC.x
  have hb := hC.b
  have hl : lv_has ls 1 [(0, .ref q)] := hl
  have hP : va_P G.1 zCl [] H0 := va_nil
  have hD : va_D (zA M0 H0) [] := va_nilD
  have hn := h.n10
  refine lv_aload_n hx hb dJ17_hasNext_0 rfl (lv_at hl 0 rfl) ?_
  refine z_get hC (k := 0) rfl in_J17 (zo hS h0 id) (by decide) q184 (fun _ h => h) rfl dJ17_hasNext_1 ?_
  refine lv_aload_n hx hb dJ17_hasNext_4 rfl (lv_at hl 0 rfl) ?_
  refine z_get hC (k := 3) rfl in_J17 (zo hS h0 id) (by decide) q187 (fun _ h => h) rfl dJ17_hasNext_5 ?_
  refine z_getn hC (k := 2) rfl in_J2 (zo hS h.1 id) (by decide) q126 (fun _ h => h) rfl dJ17_hasNext_8 ?_
  refine z_ceq (tgt := 18) hx hb dJ17_hasNext_11 (by decide) (by omega) (fun c1 => ?_) (fun c1 => ?_)
  · refine lv_iconst (v := iI 0) hx hb dJ17_hasNext_18 rfl ?_
    exact z_zret hC hrt hlk hQ hS ⟨zle (z := 0) rfl (by omega), zle (z := 0) rfl (by omega)⟩ (by omega) ⟨_, rfl, by rw [if_neg (by omega)]⟩ dJ17_hasNext_19
  · refine lv_iconst (v := iI 1) hx hb dJ17_hasNext_14 rfl ?_
    refine lv_goto (tgt := 19) hx hb dJ17_hasNext_15 (by decide) ?_
    exact z_zret hC hrt hlk hQ hS ⟨zle (z := 0) rfl (by omega), zle (z := 0) rfl (by omega)⟩ (by omega) ⟨_, rfl, by rw [if_pos (by omega)]⟩ dJ17_hasNext_19

abbrev rm_m_J17_checkForComodification : Room := { frames := 0, cells := 0, slots := 0, locals := 0 }
set_option maxHeartbeats 4000000 in
theorem m_J17_checkForComodification {l : Launch} {s0 : State} {G : zG} (hE : zE l s0 G) (H0 : Heap) (hO : zO s0 H0) (lc n : Nat) (c : Nat → Nat) (arr : Nat) (md : Int) (q i : Nat) (r : Int) (h : zLs G lc n c arr md H0) (h0 : zAt G q (zOb 9 [.int (iI (i : Int)), .int (iI r), .int (iI md), .ref lc]) H0) : zM l s0 yJ17_checkForComodification cJ17_checkForComodification 1 (none : Option FieldType) rm_m_J17_checkForComodification [.ref q] H0 M0 (rv (fun _ => True)) := by
  refine z_met hE (by decide +kernel) (Nat.le_of_ble_eq_true rfl) ?_
  intro pp ee ss mm args below meth cd Q ls hC hml hrt hlk hnm hH hQ hS hl
  have hx := hC.x
  have hb := hC.b
  have hl : lv_has ls 1 [(0, .ref q)] := hl
  have hP : va_P G.1 zCl [] H0 := va_nil
  have hD : va_D (zA M0 H0) [] := va_nilD
  refine lv_aload_n hx hb dJ17_checkForComodification_0 rfl (lv_at hl 0 rfl) ?_
  refine z_get hC (k := 3) rfl in_J17 (zo hS h0 id) (by decide) q187 (fun _ h => h) rfl dJ17_checkForComodification_1 ?_
  refine z_get hC (k := 0) rfl in_J2 (zo hS h.1 id) (by decide) q129 (zsame_J2 hC) rfl dJ17_checkForComodification_4 ?_
  refine lv_aload_n hx hb dJ17_checkForComodification_7 rfl (lv_at hl 0 rfl) ?_
  refine z_get hC (k := 2) rfl in_J17 (zo hS h0 id) (by decide) q186 (fun _ h => h) rfl dJ17_checkForComodification_8 ?_
  refine z_ceqT hx hb dJ17_checkForComodification_11 22 (by decide) ?_
  exact z_vret hC hrt hlk hQ hS ⟨zle (z := 0) rfl (by omega), zle (z := 0) rfl (by omega)⟩ ⟨rfl, trivial⟩ dJ17_checkForComodification_22

abbrev rm_m_J17_next : Room := { frames := 1, cells := 0, slots := 0, locals := 20 }
set_option maxHeartbeats 4000000 in
theorem m_J17_next {l : Launch} {s0 : State} {G : zG} (hE : zE l s0 G) (H0 : Heap) (hO : zO s0 H0) (lc n : Nat) (c : Nat → Nat) (arr : Nat) (md : Int) (q i : Nat) (r : Int) (hq : s0.heap.size ≤ q) (hql : q ≠ lc ∧ q ≠ arr) (h : zLs G lc n c arr md H0) (h0 : zAt G q (zOb 9 [.int (iI (i : Int)), .int (iI r), .int (iI md), .ref lc]) H0) (hi : i < n) : zM l s0 yJ17_next cJ17_next 3 (some (FieldType.object "java/lang/Object")) rm_m_J17_next [.ref q] H0 (fun z => z = q) (rr (fun y h1 => y = c i ∧ zAt G q (zOb 9 [.int (iI ((i + 1 : Nat) : Int)), .int (iI (i : Int)), .int (iI md), .ref lc]) h1)) := by
  refine z_met hE (by decide +kernel) (Nat.le_of_ble_eq_true rfl) ?_
  intro pp ee ss mm args below meth cd Q ls hC hml hrt hlk hnm hH hQ hS hl
  have hx := hC.x
  have hb := hC.b
  have hl : lv_has ls 3 [(0, .ref q)] := hl
  have hP : va_P G.1 zCl [(q, zOb 9 [.int (iI ((i : Nat) : Int)), .int (iI r), .int (iI md), .ref lc])] H0 := zP1 h0
  have hD : va_D (zA (fun z => z = q) H0) [(q, zOb 9 [.int (iI ((i : Nat) : Int)), .int (iI r), .int (iI md), .ref lc])] := zD1 (Or.inl rfl)
  have hMo : ∀ z, (fun z => z = q) z → s0.heap.size ≤ z := fun z hz => hz ▸ hq
  have hn := h.n10
  refine lv_aload_n hx hb dJ17_next_0 rfl (lv_at hl 0 rfl) ?_
  refine z_go 0 0 (z_runV (As := []) (rest := []) hC hml hl.1 (m_J17_checkForComodification hE H0 (hO.ext (zS_F hS) hMo) lc n c arr md q i r (h.ext0 (zS_F (M := M0) va_S.rf)) (hP 0 _ rfl)) (lw_V q216 q217 q218 q88 q219) rfl nd_J17_checkForComodification rfl (z_rv hC (ci := 9) rfl (hP 0 _ rfl) rfl) rfl (Nat.le_of_ble_eq_true rfl) ⟨Nat.le_of_ble_eq_true rfl, Nat.le_of_ble_eq_true rfl⟩ ⟨zfit (k := 0) (z := 0) rfl rfl (by omega), zfit (k := 0) (z := 0) rfl rfl (by omega)⟩ dJ17_next_1) ⟨zad (k := 0) rfl (by omega), zad (k := 0) rfl (by omega)⟩ hS (fun _ z => z.elim) (fun r H1 locs hp hF hS1 => ?_)
  obtain ⟨rfl, -⟩ := hp
  have hP := zpk hP hF
  have hP : va_P G.1 zCl ([(q, zOb 9 [.int (iI ((i : Nat) : Int)), .int (iI r), .int (iI md), .ref lc])]) H1 := hP
  have hD : va_D (zA (fun z => z = q) H0) ([(q, zOb 9 [.int (iI ((i : Nat) : Int)), .int (iI r), .int (iI md), .ref lc])]) := hD
  have hS := hS1
  refine lv_aload_n hx hb dJ17_next_4 rfl (lv_at hl 0 rfl) ?_
  refine z_get hC (k := 0) rfl in_J17 (hP 0 _ rfl) (by decide) q184 (fun _ h => h) rfl dJ17_next_5 ?_
  refine lv_istore_n (lv' := [(1, .int (iI ((i : Nat) : Int))), (0, .ref q)]) hx hb dJ17_next_8 rfl hl (by decide) rfl (fun ls hl => ?_)
  refine lv_iload_n hx hb dJ17_next_9 rfl (lv_at hl 0 rfl) ?_
  refine lv_aload_n hx hb dJ17_next_10 rfl (lv_at hl 1 rfl) ?_
  refine z_get hC (k := 3) rfl in_J17 (hP 0 _ rfl) (by decide) q187 (fun _ h => h) rfl dJ17_next_11 ?_
  refine z_getn hC (k := 2) rfl in_J2 (zo hS h.1 hql.1.symm) (by decide) q126 (fun _ h => h) rfl dJ17_next_14 ?_
  refine z_clt (tgt := 28) hx hb dJ17_next_17 (by decide) (by omega) (fun c2 => ?_) (fun c2 => ?_)
  · refine lv_aload_n hx hb dJ17_next_28 rfl (lv_at hl 1 rfl) ?_
    refine z_get hC (k := 3) rfl in_J17 (hP 0 _ rfl) (by decide) q187 (fun _ h => h) rfl dJ17_next_29 ?_
    refine z_get hC (k := 1) rfl in_J2 (zo hS h.1 hql.1.symm) (by decide) q125 (fun _ h => h) rfl dJ17_next_32 ?_
    refine lv_astore_n (lv' := [(2, .ref arr), (1, .int (iI ((i : Nat) : Int))), (0, .ref q)]) hx hb dJ17_next_35 rfl hl (by decide) rfl (fun ls hl => ?_)
    refine lv_iload_n hx hb dJ17_next_36 rfl (lv_at hl 1 rfl) ?_
    refine lv_aload_n hx hb dJ17_next_37 rfl (lv_at hl 0 rfl) ?_
    refine z_alen hC 3 (zo hS (h.arr (by omega)) hql.2.symm) rfl (y := 10) rfl dJ17_next_38 ?_
    refine z_clt (tgt := 50) hx hb dJ17_next_39 (by decide) (by omega) (fun c3 => ?_) (fun c3 => ?_)
    · refine lv_aload_n hx hb dJ17_next_50 rfl (lv_at hl 2 rfl) ?_
      refine lv_iload_n hx hb dJ17_next_51 rfl (lv_at hl 1 rfl) ?_
      refine lv_iconst (v := iI 1) hx hb dJ17_next_52 rfl ?_
      refine z_add hx hb (z := ((i : Nat) : Int) + 1) dJ17_next_53 rfl ?_
      refine z_top (b := ((i + 1 : Nat) : Int)) (by omega) ?_
      refine z_put hC hP hD hS 0 (k := 0) rfl rfl in_J17 tyJ17_ok nmJ17 (by decide) q184 (fun _ h => h) rfl rfl rfl rfl (Nat.le_of_ble_eq_true rfl) (ws' := [(q, zOb 9 [.int (iI ((i + 1 : Nat) : Int)), .int (iI r), .int (iI md), .ref lc])]) rfl dJ17_next_54 (fun H4 locs hP hD hS => ?_)
      refine lv_aload_n hx hb dJ17_next_57 rfl (lv_at hl 0 rfl) ?_
      refine lv_aload_n hx hb dJ17_next_58 rfl (lv_at hl 2 rfl) ?_
      refine lv_iload_n hx hb dJ17_next_59 rfl (lv_at hl 1 rfl) ?_
      refine lv_dup_x1 hx hb dJ17_next_60 rfl rfl ?_
      refine z_put hC hP hD hS 0 (k := 1) rfl rfl in_J17 tyJ17_ok nmJ17 (by decide) q185 (fun _ h => h) rfl rfl rfl rfl (Nat.le_of_ble_eq_true rfl) (ws' := [(q, zOb 9 [.int (iI ((i + 1 : Nat) : Int)), .int (iI ((i : Nat) : Int)), .int (iI md), .ref lc])]) rfl dJ17_next_61 (fun H5 locs hP hD hS => ?_)
      refine z_aaldR hC (zo hS (h.arr (by omega)) hql.2.symm) (k := i) rfl (by omega) (q := (c i)) (lf_in hi) dJ17_next_64 ?_
      exact z_aret hC hrt hlk hQ hS ⟨zle (z := 0) rfl (by omega), zle (z := 0) rfl (by omega)⟩ ⟨_, rfl, rfl, hP 0 _ rfl⟩ dJ17_next_65
    · omega
  · omega

abbrev rm_m_J19_valueOf : Room := { frames := 0, cells := 0, slots := 0, locals := 0 }
set_option maxHeartbeats 4000000 in
theorem m_J19_valueOf {l : Launch} {s0 : State} {G : zG} (hE : zE l s0 G) (H0 : Heap) (hO : zO s0 H0) (i : Nat) (hi : i ≤ 127) : zM l s0 yJ19_valueOf cJ19_valueOf 1 (some (FieldType.object "java/lang/Integer")) rm_m_J19_valueOf [.int (iI ((i : Nat) : Int))] H0 M0 (rr (fun q _ => q = G.2 (1000 + (i + 128)))) := by
  refine z_met hE (by decide +kernel) (Nat.le_of_ble_eq_true rfl) ?_
  intro pp ee ss mm args below meth cd Q ls hC hml hrt hlk hnm hH hQ hS hl
  have hx := hC.x
  have hb := hC.b
  have hl : lv_has ls 1 [(0, .int (iI ((i : Nat) : Int)))] := hl
  have hP : va_P G.1 zCl [] H0 := va_nil
  have hD : va_D (zA M0 H0) [] := va_nilD
  refine lv_iload_n hx hb dJ19_valueOf_0 rfl (lv_at hl 0 rfl) ?_
  refine lv_bipush (v := iI (-128)) hx hb dJ19_valueOf_1 (by decide) ?_
  refine z_clt (tgt := 23) hx hb dJ19_valueOf_3 (by decide) (by omega) (fun c1 => ?_) (fun c1 => ?_)
  · omega
  · refine lv_iload_n hx hb dJ19_valueOf_6 rfl (lv_at hl 0 rfl) ?_
    refine z_gets hC (hO.ext0 (zS_F hS)) (hE.2.2.2.1.2.2.2.1.1) q1089 dJ19_valueOf_7 ?_
    refine z_cgt (tgt := 23) hx hb dJ19_valueOf_10 (by decide) (by omega) (fun c2 => ?_) (fun c2 => ?_)
    · omega
    · refine z_gets hC (hO.ext0 (zS_F hS)) (hE.2.2.2.1.2.2.2.1.2.1) q1091 dJ19_valueOf_13 ?_
      refine lv_iload_n hx hb dJ19_valueOf_16 rfl (lv_at hl 0 rfl) ?_
      refine lv_sipush (v := iI 128) hx hb dJ19_valueOf_17 (by decide) ?_
      refine z_add hx hb (z := ((i : Nat) : Int) + 128) dJ19_valueOf_20 rfl ?_
      refine z_top (b := ((i + 128 : Nat) : Int)) (by omega) ?_
      refine z_taald hC (hO.ext0 (zS_F hS)) hE.2.2.2.1.2.2.2.1.2.2.1 (k := i + 128) rfl (by omega) (q := (G.2 (1000 + (i + 128)))) rfl dJ19_valueOf_21 ?_
      exact z_aret hC hrt hlk hQ hS ⟨zle (z := 0) rfl (by omega), zle (z := 0) rfl (by omega)⟩ ⟨_, rfl, rfl⟩ dJ19_valueOf_22

abbrev rm_m_J19_intValue : Room := { frames := 0, cells := 0, slots := 0, locals := 0 }
set_option maxHeartbeats 4000000 in
theorem m_J19_intValue {l : Launch} {s0 : State} {G : zG} (hE : zE l s0 G) (H0 : Heap) (hO : zO s0 H0) (i : Nat) (hi : i < 256) : zM l s0 yJ19_intValue cJ19_intValue 1 (some FieldType.int) rm_m_J19_intValue [.ref (G.2 (1000 + i))] H0 M0 (ri (fun z _ => z = (i : Int) - 128)) := by
  refine z_met hE (by decide +kernel) (Nat.le_of_ble_eq_true rfl) ?_
  intro pp ee ss mm args below meth cd Q ls hC hml hrt hlk hnm hH hQ hS hl
  have hx := hC.x
  have hb := hC.b
  have hl : lv_has ls 1 [(0, .ref (G.2 (1000 + i)))] := hl
  have hP : va_P G.1 zCl [] H0 := va_nil
  have hD : va_D (zA M0 H0) [] := va_nilD
  refine lv_aload_n hx hb dJ19_intValue_0 rfl (lv_at hl 0 rfl) ?_
  refine z_getC hC (hO.ext0 (zS_F hS)) hi (y := (i : Int) - 128) rfl q1101 dJ19_intValue_1 ?_
  exact z_iret hC hrt hlk hQ hS ⟨zle (z := 0) rfl (by omega), zle (z := 0) rfl (by omega)⟩ ⟨_, rfl, rfl⟩ dJ19_intValue_4

abbrev rm_m_J19_bitCount : Room := { frames := 0, cells := 0, slots := 0, locals := 0 }
set_option maxHeartbeats 4000000 in
theorem m_J19_bitCount {l : Launch} {s0 : State} {G : zG} (hE : zE l s0 G) (H0 : Heap) (hO : zO s0 H0) (k : Nat) (hk : k < 16) : zM l s0 yJ19_bitCount cJ19_bitCount 1 (some FieldType.int) rm_m_J19_bitCount [.int (nI k)] H0 M0 (ri (fun z _ => z = bitc k)) := by
  refine z_met hE (by decide +kernel) (Nat.le_of_ble_eq_true rfl) ?_
  intro pp ee ss mm args below meth cd Q ls hC hml hrt hlk hnm hH hQ hS hl
  have hx := hC.x
  have hb := hC.b
  have hl : lv_has ls 1 [(0, .int (nI k))] := hl
  have hP : va_P G.1 zCl [] H0 := va_nil
  have hD : va_D (zA M0 H0) [] := va_nilD
  refine lv_iload_n hx hb dJ19_bitCount_0 rfl (lv_at hl 0 rfl) ?_
  refine lv_iload_n hx hb dJ19_bitCount_1 rfl (lv_at hl 0 rfl) ?_
  refine lv_iconst (v := iI 1) hx hb dJ19_bitCount_2 rfl ?_
  refine lv_iushr (v := ((nI k).toUInt32 >>> ((iI 1).toUInt32 &&& Int32.toUInt32 31)).toInt32) hx hb dJ19_bitCount_3 rfl ?_
  refine lv_ldcw (v := (1431655765 : Int32)) hx hb hC.o (hC.t _ q346) dJ19_bitCount_4 ?_
  refine lv_iand hx hb dJ19_bitCount_7 ?_
  refine lv_isub hx hb dJ19_bitCount_8 ?_
  refine lv_istore_n (lv' := [(0, .int ((nI k) - ((((nI k).toUInt32 >>> ((iI 1).toUInt32 &&& Int32.toUInt32 31)).toInt32) &&& (1431655765 : Int32))))]) hx hb dJ19_bitCount_9 rfl hl (by decide) rfl (fun ls hl => ?_)
  refine lv_iload_n hx hb dJ19_bitCount_10 rfl (lv_at hl 0 rfl) ?_
  refine lv_ldcw (v := (858993459 : Int32)) hx hb hC.o (hC.t _ q347) dJ19_bitCount_11 ?_
  refine lv_iand hx hb dJ19_bitCount_14 ?_
  refine lv_iload_n hx hb dJ19_bitCount_15 rfl (lv_at hl 0 rfl) ?_
  refine lv_iconst (v := iI 2) hx hb dJ19_bitCount_16 rfl ?_
  refine lv_iushr (v := (((nI k) - ((((nI k).toUInt32 >>> ((iI 1).toUInt32 &&& Int32.toUInt32 31)).toInt32) &&& (1431655765 : Int32))).toUInt32 >>> ((iI 2).toUInt32 &&& Int32.toUInt32 31)).toInt32) hx hb dJ19_bitCount_17 rfl ?_
  refine lv_ldcw (v := (858993459 : Int32)) hx hb hC.o (hC.t _ q347) dJ19_bitCount_18 ?_
  refine lv_iand hx hb dJ19_bitCount_21 ?_
  refine lv_iadd hx hb dJ19_bitCount_22 ?_
  refine lv_istore_n (lv' := [(0, .int ((((nI k) - ((((nI k).toUInt32 >>> ((iI 1).toUInt32 &&& Int32.toUInt32 31)).toInt32) &&& (1431655765 : Int32))) &&& (858993459 : Int32)) + (((((nI k) - ((((nI k).toUInt32 >>> ((iI 1).toUInt32 &&& Int32.toUInt32 31)).toInt32) &&& (1431655765 : Int32))).toUInt32 >>> ((iI 2).toUInt32 &&& Int32.toUInt32 31)).toInt32) &&& (858993459 : Int32))))]) hx hb dJ19_bitCount_23 rfl hl (by decide) rfl (fun ls hl => ?_)
  refine lv_iload_n hx hb dJ19_bitCount_24 rfl (lv_at hl 0 rfl) ?_
  refine lv_iload_n hx hb dJ19_bitCount_25 rfl (lv_at hl 0 rfl) ?_
  refine lv_iconst (v := iI 4) hx hb dJ19_bitCount_26 rfl ?_
  refine lv_iushr (v := (((((nI k) - ((((nI k).toUInt32 >>> ((iI 1).toUInt32 &&& Int32.toUInt32 31)).toInt32) &&& (1431655765 : Int32))) &&& (858993459 : Int32)) + (((((nI k) - ((((nI k).toUInt32 >>> ((iI 1).toUInt32 &&& Int32.toUInt32 31)).toInt32) &&& (1431655765 : Int32))).toUInt32 >>> ((iI 2).toUInt32 &&& Int32.toUInt32 31)).toInt32) &&& (858993459 : Int32))).toUInt32 >>> ((iI 4).toUInt32 &&& Int32.toUInt32 31)).toInt32) hx hb dJ19_bitCount_27 rfl ?_
  refine lv_iadd hx hb dJ19_bitCount_28 ?_
  refine lv_ldcw (v := (252645135 : Int32)) hx hb hC.o (hC.t _ q348) dJ19_bitCount_29 ?_
  refine lv_iand hx hb dJ19_bitCount_32 ?_
  refine lv_istore_n (lv' := [(0, .int ((((((nI k) - ((((nI k).toUInt32 >>> ((iI 1).toUInt32 &&& Int32.toUInt32 31)).toInt32) &&& (1431655765 : Int32))) &&& (858993459 : Int32)) + (((((nI k) - ((((nI k).toUInt32 >>> ((iI 1).toUInt32 &&& Int32.toUInt32 31)).toInt32) &&& (1431655765 : Int32))).toUInt32 >>> ((iI 2).toUInt32 &&& Int32.toUInt32 31)).toInt32) &&& (858993459 : Int32))) + ((((((nI k) - ((((nI k).toUInt32 >>> ((iI 1).toUInt32 &&& Int32.toUInt32 31)).toInt32) &&& (1431655765 : Int32))) &&& (858993459 : Int32)) + (((((nI k) - ((((nI k).toUInt32 >>> ((iI 1).toUInt32 &&& Int32.toUInt32 31)).toInt32) &&& (1431655765 : Int32))).toUInt32 >>> ((iI 2).toUInt32 &&& Int32.toUInt32 31)).toInt32) &&& (858993459 : Int32))).toUInt32 >>> ((iI 4).toUInt32 &&& Int32.toUInt32 31)).toInt32)) &&& (252645135 : Int32)))]) hx hb dJ19_bitCount_33 rfl hl (by decide) rfl (fun ls hl => ?_)
  refine lv_iload_n hx hb dJ19_bitCount_34 rfl (lv_at hl 0 rfl) ?_
  refine lv_iload_n hx hb dJ19_bitCount_35 rfl (lv_at hl 0 rfl) ?_
  refine lv_bipush (v := iI 8) hx hb dJ19_bitCount_36 (by decide) ?_
  refine lv_iushr (v := (((((((nI k) - ((((nI k).toUInt32 >>> ((iI 1).toUInt32 &&& Int32.toUInt32 31)).toInt32) &&& (1431655765 : Int32))) &&& (858993459 : Int32)) + (((((nI k) - ((((nI k).toUInt32 >>> ((iI 1).toUInt32 &&& Int32.toUInt32 31)).toInt32) &&& (1431655765 : Int32))).toUInt32 >>> ((iI 2).toUInt32 &&& Int32.toUInt32 31)).toInt32) &&& (858993459 : Int32))) + ((((((nI k) - ((((nI k).toUInt32 >>> ((iI 1).toUInt32 &&& Int32.toUInt32 31)).toInt32) &&& (1431655765 : Int32))) &&& (858993459 : Int32)) + (((((nI k) - ((((nI k).toUInt32 >>> ((iI 1).toUInt32 &&& Int32.toUInt32 31)).toInt32) &&& (1431655765 : Int32))).toUInt32 >>> ((iI 2).toUInt32 &&& Int32.toUInt32 31)).toInt32) &&& (858993459 : Int32))).toUInt32 >>> ((iI 4).toUInt32 &&& Int32.toUInt32 31)).toInt32)) &&& (252645135 : Int32)).toUInt32 >>> ((iI 8).toUInt32 &&& Int32.toUInt32 31)).toInt32) hx hb dJ19_bitCount_38 rfl ?_
  refine lv_iadd hx hb dJ19_bitCount_39 ?_
  refine lv_istore_n (lv' := [(0, .int (((((((nI k) - ((((nI k).toUInt32 >>> ((iI 1).toUInt32 &&& Int32.toUInt32 31)).toInt32) &&& (1431655765 : Int32))) &&& (858993459 : Int32)) + (((((nI k) - ((((nI k).toUInt32 >>> ((iI 1).toUInt32 &&& Int32.toUInt32 31)).toInt32) &&& (1431655765 : Int32))).toUInt32 >>> ((iI 2).toUInt32 &&& Int32.toUInt32 31)).toInt32) &&& (858993459 : Int32))) + ((((((nI k) - ((((nI k).toUInt32 >>> ((iI 1).toUInt32 &&& Int32.toUInt32 31)).toInt32) &&& (1431655765 : Int32))) &&& (858993459 : Int32)) + (((((nI k) - ((((nI k).toUInt32 >>> ((iI 1).toUInt32 &&& Int32.toUInt32 31)).toInt32) &&& (1431655765 : Int32))).toUInt32 >>> ((iI 2).toUInt32 &&& Int32.toUInt32 31)).toInt32) &&& (858993459 : Int32))).toUInt32 >>> ((iI 4).toUInt32 &&& Int32.toUInt32 31)).toInt32)) &&& (252645135 : Int32)) + ((((((((nI k) - ((((nI k).toUInt32 >>> ((iI 1).toUInt32 &&& Int32.toUInt32 31)).toInt32) &&& (1431655765 : Int32))) &&& (858993459 : Int32)) + (((((nI k) - ((((nI k).toUInt32 >>> ((iI 1).toUInt32 &&& Int32.toUInt32 31)).toInt32) &&& (1431655765 : Int32))).toUInt32 >>> ((iI 2).toUInt32 &&& Int32.toUInt32 31)).toInt32) &&& (858993459 : Int32))) + ((((((nI k) - ((((nI k).toUInt32 >>> ((iI 1).toUInt32 &&& Int32.toUInt32 31)).toInt32) &&& (1431655765 : Int32))) &&& (858993459 : Int32)) + (((((nI k) - ((((nI k).toUInt32 >>> ((iI 1).toUInt32 &&& Int32.toUInt32 31)).toInt32) &&& (1431655765 : Int32))).toUInt32 >>> ((iI 2).toUInt32 &&& Int32.toUInt32 31)).toInt32) &&& (858993459 : Int32))).toUInt32 >>> ((iI 4).toUInt32 &&& Int32.toUInt32 31)).toInt32)) &&& (252645135 : Int32)).toUInt32 >>> ((iI 8).toUInt32 &&& Int32.toUInt32 31)).toInt32)))]) hx hb dJ19_bitCount_40 rfl hl (by decide) rfl (fun ls hl => ?_)
  refine lv_iload_n hx hb dJ19_bitCount_41 rfl (lv_at hl 0 rfl) ?_
  refine lv_iload_n hx hb dJ19_bitCount_42 rfl (lv_at hl 0 rfl) ?_
  refine lv_bipush (v := iI 16) hx hb dJ19_bitCount_43 (by decide) ?_
  refine lv_iushr (v := ((((((((nI k) - ((((nI k).toUInt32 >>> ((iI 1).toUInt32 &&& Int32.toUInt32 31)).toInt32) &&& (1431655765 : Int32))) &&& (858993459 : Int32)) + (((((nI k) - ((((nI k).toUInt32 >>> ((iI 1).toUInt32 &&& Int32.toUInt32 31)).toInt32) &&& (1431655765 : Int32))).toUInt32 >>> ((iI 2).toUInt32 &&& Int32.toUInt32 31)).toInt32) &&& (858993459 : Int32))) + ((((((nI k) - ((((nI k).toUInt32 >>> ((iI 1).toUInt32 &&& Int32.toUInt32 31)).toInt32) &&& (1431655765 : Int32))) &&& (858993459 : Int32)) + (((((nI k) - ((((nI k).toUInt32 >>> ((iI 1).toUInt32 &&& Int32.toUInt32 31)).toInt32) &&& (1431655765 : Int32))).toUInt32 >>> ((iI 2).toUInt32 &&& Int32.toUInt32 31)).toInt32) &&& (858993459 : Int32))).toUInt32 >>> ((iI 4).toUInt32 &&& Int32.toUInt32 31)).toInt32)) &&& (252645135 : Int32)) + ((((((((nI k) - ((((nI k).toUInt32 >>> ((iI 1).toUInt32 &&& Int32.toUInt32 31)).toInt32) &&& (1431655765 : Int32))) &&& (858993459 : Int32)) + (((((nI k) - ((((nI k).toUInt32 >>> ((iI 1).toUInt32 &&& Int32.toUInt32 31)).toInt32) &&& (1431655765 : Int32))).toUInt32 >>> ((iI 2).toUInt32 &&& Int32.toUInt32 31)).toInt32) &&& (858993459 : Int32))) + ((((((nI k) - ((((nI k).toUInt32 >>> ((iI 1).toUInt32 &&& Int32.toUInt32 31)).toInt32) &&& (1431655765 : Int32))) &&& (858993459 : Int32)) + (((((nI k) - ((((nI k).toUInt32 >>> ((iI 1).toUInt32 &&& Int32.toUInt32 31)).toInt32) &&& (1431655765 : Int32))).toUInt32 >>> ((iI 2).toUInt32 &&& Int32.toUInt32 31)).toInt32) &&& (858993459 : Int32))).toUInt32 >>> ((iI 4).toUInt32 &&& Int32.toUInt32 31)).toInt32)) &&& (252645135 : Int32)).toUInt32 >>> ((iI 8).toUInt32 &&& Int32.toUInt32 31)).toInt32)).toUInt32 >>> ((iI 16).toUInt32 &&& Int32.toUInt32 31)).toInt32) hx hb dJ19_bitCount_45 rfl ?_
  refine lv_iadd hx hb dJ19_bitCount_46 ?_
  refine lv_istore_n (lv' := [(0, .int ((((((((nI k) - ((((nI k).toUInt32 >>> ((iI 1).toUInt32 &&& Int32.toUInt32 31)).toInt32) &&& (1431655765 : Int32))) &&& (858993459 : Int32)) + (((((nI k) - ((((nI k).toUInt32 >>> ((iI 1).toUInt32 &&& Int32.toUInt32 31)).toInt32) &&& (1431655765 : Int32))).toUInt32 >>> ((iI 2).toUInt32 &&& Int32.toUInt32 31)).toInt32) &&& (858993459 : Int32))) + ((((((nI k) - ((((nI k).toUInt32 >>> ((iI 1).toUInt32 &&& Int32.toUInt32 31)).toInt32) &&& (1431655765 : Int32))) &&& (858993459 : Int32)) + (((((nI k) - ((((nI k).toUInt32 >>> ((iI 1).toUInt32 &&& Int32.toUInt32 31)).toInt32) &&& (1431655765 : Int32))).toUInt32 >>> ((iI 2).toUInt32 &&& Int32.toUInt32 31)).toInt32) &&& (858993459 : Int32))).toUInt32 >>> ((iI 4).toUInt32 &&& Int32.toUInt32 31)).toInt32)) &&& (252645135 : Int32)) + ((((((((nI k) - ((((nI k).toUInt32 >>> ((iI 1).toUInt32 &&& Int32.toUInt32 31)).toInt32) &&& (1431655765 : Int32))) &&& (858993459 : Int32)) + (((((nI k) - ((((nI k).toUInt32 >>> ((iI 1).toUInt32 &&& Int32.toUInt32 31)).toInt32) &&& (1431655765 : Int32))).toUInt32 >>> ((iI 2).toUInt32 &&& Int32.toUInt32 31)).toInt32) &&& (858993459 : Int32))) + ((((((nI k) - ((((nI k).toUInt32 >>> ((iI 1).toUInt32 &&& Int32.toUInt32 31)).toInt32) &&& (1431655765 : Int32))) &&& (858993459 : Int32)) + (((((nI k) - ((((nI k).toUInt32 >>> ((iI 1).toUInt32 &&& Int32.toUInt32 31)).toInt32) &&& (1431655765 : Int32))).toUInt32 >>> ((iI 2).toUInt32 &&& Int32.toUInt32 31)).toInt32) &&& (858993459 : Int32))).toUInt32 >>> ((iI 4).toUInt32 &&& Int32.toUInt32 31)).toInt32)) &&& (252645135 : Int32)).toUInt32 >>> ((iI 8).toUInt32 &&& Int32.toUInt32 31)).toInt32)) + (((((((((nI k) - ((((nI k).toUInt32 >>> ((iI 1).toUInt32 &&& Int32.toUInt32 31)).toInt32) &&& (1431655765 : Int32))) &&& (858993459 : Int32)) + (((((nI k) - ((((nI k).toUInt32 >>> ((iI 1).toUInt32 &&& Int32.toUInt32 31)).toInt32) &&& (1431655765 : Int32))).toUInt32 >>> ((iI 2).toUInt32 &&& Int32.toUInt32 31)).toInt32) &&& (858993459 : Int32))) + ((((((nI k) - ((((nI k).toUInt32 >>> ((iI 1).toUInt32 &&& Int32.toUInt32 31)).toInt32) &&& (1431655765 : Int32))) &&& (858993459 : Int32)) + (((((nI k) - ((((nI k).toUInt32 >>> ((iI 1).toUInt32 &&& Int32.toUInt32 31)).toInt32) &&& (1431655765 : Int32))).toUInt32 >>> ((iI 2).toUInt32 &&& Int32.toUInt32 31)).toInt32) &&& (858993459 : Int32))).toUInt32 >>> ((iI 4).toUInt32 &&& Int32.toUInt32 31)).toInt32)) &&& (252645135 : Int32)) + ((((((((nI k) - ((((nI k).toUInt32 >>> ((iI 1).toUInt32 &&& Int32.toUInt32 31)).toInt32) &&& (1431655765 : Int32))) &&& (858993459 : Int32)) + (((((nI k) - ((((nI k).toUInt32 >>> ((iI 1).toUInt32 &&& Int32.toUInt32 31)).toInt32) &&& (1431655765 : Int32))).toUInt32 >>> ((iI 2).toUInt32 &&& Int32.toUInt32 31)).toInt32) &&& (858993459 : Int32))) + ((((((nI k) - ((((nI k).toUInt32 >>> ((iI 1).toUInt32 &&& Int32.toUInt32 31)).toInt32) &&& (1431655765 : Int32))) &&& (858993459 : Int32)) + (((((nI k) - ((((nI k).toUInt32 >>> ((iI 1).toUInt32 &&& Int32.toUInt32 31)).toInt32) &&& (1431655765 : Int32))).toUInt32 >>> ((iI 2).toUInt32 &&& Int32.toUInt32 31)).toInt32) &&& (858993459 : Int32))).toUInt32 >>> ((iI 4).toUInt32 &&& Int32.toUInt32 31)).toInt32)) &&& (252645135 : Int32)).toUInt32 >>> ((iI 8).toUInt32 &&& Int32.toUInt32 31)).toInt32)).toUInt32 >>> ((iI 16).toUInt32 &&& Int32.toUInt32 31)).toInt32)))]) hx hb dJ19_bitCount_47 rfl hl (by decide) rfl (fun ls hl => ?_)
  refine lv_iload_n hx hb dJ19_bitCount_48 rfl (lv_at hl 0 rfl) ?_
  refine lv_bipush (v := iI 63) hx hb dJ19_bitCount_49 (by decide) ?_
  refine lv_iand hx hb dJ19_bitCount_51 ?_
  have hv : ((((((((nI k) - ((((nI k).toUInt32 >>> ((iI 1).toUInt32 &&& Int32.toUInt32 31)).toInt32) &&& (1431655765 : Int32))) &&& (858993459 : Int32)) + (((((nI k) - ((((nI k).toUInt32 >>> ((iI 1).toUInt32 &&& Int32.toUInt32 31)).toInt32) &&& (1431655765 : Int32))).toUInt32 >>> ((iI 2).toUInt32 &&& Int32.toUInt32 31)).toInt32) &&& (858993459 : Int32))) + ((((((nI k) - ((((nI k).toUInt32 >>> ((iI 1).toUInt32 &&& Int32.toUInt32 31)).toInt32) &&& (1431655765 : Int32))) &&& (858993459 : Int32)) + (((((nI k) - ((((nI k).toUInt32 >>> ((iI 1).toUInt32 &&& Int32.toUInt32 31)).toInt32) &&& (1431655765 : Int32))).toUInt32 >>> ((iI 2).toUInt32 &&& Int32.toUInt32 31)).toInt32) &&& (858993459 : Int32))).toUInt32 >>> ((iI 4).toUInt32 &&& Int32.toUInt32 31)).toInt32)) &&& (252645135 : Int32)) + ((((((((nI k) - ((((nI k).toUInt32 >>> ((iI 1).toUInt32 &&& Int32.toUInt32 31)).toInt32) &&& (1431655765 : Int32))) &&& (858993459 : Int32)) + (((((nI k) - ((((nI k).toUInt32 >>> ((iI 1).toUInt32 &&& Int32.toUInt32 31)).toInt32) &&& (1431655765 : Int32))).toUInt32 >>> ((iI 2).toUInt32 &&& Int32.toUInt32 31)).toInt32) &&& (858993459 : Int32))) + ((((((nI k) - ((((nI k).toUInt32 >>> ((iI 1).toUInt32 &&& Int32.toUInt32 31)).toInt32) &&& (1431655765 : Int32))) &&& (858993459 : Int32)) + (((((nI k) - ((((nI k).toUInt32 >>> ((iI 1).toUInt32 &&& Int32.toUInt32 31)).toInt32) &&& (1431655765 : Int32))).toUInt32 >>> ((iI 2).toUInt32 &&& Int32.toUInt32 31)).toInt32) &&& (858993459 : Int32))).toUInt32 >>> ((iI 4).toUInt32 &&& Int32.toUInt32 31)).toInt32)) &&& (252645135 : Int32)).toUInt32 >>> ((iI 8).toUInt32 &&& Int32.toUInt32 31)).toInt32)) + (((((((((nI k) - ((((nI k).toUInt32 >>> ((iI 1).toUInt32 &&& Int32.toUInt32 31)).toInt32) &&& (1431655765 : Int32))) &&& (858993459 : Int32)) + (((((nI k) - ((((nI k).toUInt32 >>> ((iI 1).toUInt32 &&& Int32.toUInt32 31)).toInt32) &&& (1431655765 : Int32))).toUInt32 >>> ((iI 2).toUInt32 &&& Int32.toUInt32 31)).toInt32) &&& (858993459 : Int32))) + ((((((nI k) - ((((nI k).toUInt32 >>> ((iI 1).toUInt32 &&& Int32.toUInt32 31)).toInt32) &&& (1431655765 : Int32))) &&& (858993459 : Int32)) + (((((nI k) - ((((nI k).toUInt32 >>> ((iI 1).toUInt32 &&& Int32.toUInt32 31)).toInt32) &&& (1431655765 : Int32))).toUInt32 >>> ((iI 2).toUInt32 &&& Int32.toUInt32 31)).toInt32) &&& (858993459 : Int32))).toUInt32 >>> ((iI 4).toUInt32 &&& Int32.toUInt32 31)).toInt32)) &&& (252645135 : Int32)) + ((((((((nI k) - ((((nI k).toUInt32 >>> ((iI 1).toUInt32 &&& Int32.toUInt32 31)).toInt32) &&& (1431655765 : Int32))) &&& (858993459 : Int32)) + (((((nI k) - ((((nI k).toUInt32 >>> ((iI 1).toUInt32 &&& Int32.toUInt32 31)).toInt32) &&& (1431655765 : Int32))).toUInt32 >>> ((iI 2).toUInt32 &&& Int32.toUInt32 31)).toInt32) &&& (858993459 : Int32))) + ((((((nI k) - ((((nI k).toUInt32 >>> ((iI 1).toUInt32 &&& Int32.toUInt32 31)).toInt32) &&& (1431655765 : Int32))) &&& (858993459 : Int32)) + (((((nI k) - ((((nI k).toUInt32 >>> ((iI 1).toUInt32 &&& Int32.toUInt32 31)).toInt32) &&& (1431655765 : Int32))).toUInt32 >>> ((iI 2).toUInt32 &&& Int32.toUInt32 31)).toInt32) &&& (858993459 : Int32))).toUInt32 >>> ((iI 4).toUInt32 &&& Int32.toUInt32 31)).toInt32)) &&& (252645135 : Int32)).toUInt32 >>> ((iI 8).toUInt32 &&& Int32.toUInt32 31)).toInt32)).toUInt32 >>> ((iI 16).toUInt32 &&& Int32.toUInt32 31)).toInt32)) &&& (iI 63) = iI (bitc k) := by
    have key : ∀ j : Fin 16, ((((((((nI j.val) - ((((nI j.val).toUInt32 >>> ((iI 1).toUInt32 &&& Int32.toUInt32 31)).toInt32) &&& (1431655765 : Int32))) &&& (858993459 : Int32)) + (((((nI j.val) - ((((nI j.val).toUInt32 >>> ((iI 1).toUInt32 &&& Int32.toUInt32 31)).toInt32) &&& (1431655765 : Int32))).toUInt32 >>> ((iI 2).toUInt32 &&& Int32.toUInt32 31)).toInt32) &&& (858993459 : Int32))) + ((((((nI j.val) - ((((nI j.val).toUInt32 >>> ((iI 1).toUInt32 &&& Int32.toUInt32 31)).toInt32) &&& (1431655765 : Int32))) &&& (858993459 : Int32)) + (((((nI j.val) - ((((nI j.val).toUInt32 >>> ((iI 1).toUInt32 &&& Int32.toUInt32 31)).toInt32) &&& (1431655765 : Int32))).toUInt32 >>> ((iI 2).toUInt32 &&& Int32.toUInt32 31)).toInt32) &&& (858993459 : Int32))).toUInt32 >>> ((iI 4).toUInt32 &&& Int32.toUInt32 31)).toInt32)) &&& (252645135 : Int32)) + ((((((((nI j.val) - ((((nI j.val).toUInt32 >>> ((iI 1).toUInt32 &&& Int32.toUInt32 31)).toInt32) &&& (1431655765 : Int32))) &&& (858993459 : Int32)) + (((((nI j.val) - ((((nI j.val).toUInt32 >>> ((iI 1).toUInt32 &&& Int32.toUInt32 31)).toInt32) &&& (1431655765 : Int32))).toUInt32 >>> ((iI 2).toUInt32 &&& Int32.toUInt32 31)).toInt32) &&& (858993459 : Int32))) + ((((((nI j.val) - ((((nI j.val).toUInt32 >>> ((iI 1).toUInt32 &&& Int32.toUInt32 31)).toInt32) &&& (1431655765 : Int32))) &&& (858993459 : Int32)) + (((((nI j.val) - ((((nI j.val).toUInt32 >>> ((iI 1).toUInt32 &&& Int32.toUInt32 31)).toInt32) &&& (1431655765 : Int32))).toUInt32 >>> ((iI 2).toUInt32 &&& Int32.toUInt32 31)).toInt32) &&& (858993459 : Int32))).toUInt32 >>> ((iI 4).toUInt32 &&& Int32.toUInt32 31)).toInt32)) &&& (252645135 : Int32)).toUInt32 >>> ((iI 8).toUInt32 &&& Int32.toUInt32 31)).toInt32)) + (((((((((nI j.val) - ((((nI j.val).toUInt32 >>> ((iI 1).toUInt32 &&& Int32.toUInt32 31)).toInt32) &&& (1431655765 : Int32))) &&& (858993459 : Int32)) + (((((nI j.val) - ((((nI j.val).toUInt32 >>> ((iI 1).toUInt32 &&& Int32.toUInt32 31)).toInt32) &&& (1431655765 : Int32))).toUInt32 >>> ((iI 2).toUInt32 &&& Int32.toUInt32 31)).toInt32) &&& (858993459 : Int32))) + ((((((nI j.val) - ((((nI j.val).toUInt32 >>> ((iI 1).toUInt32 &&& Int32.toUInt32 31)).toInt32) &&& (1431655765 : Int32))) &&& (858993459 : Int32)) + (((((nI j.val) - ((((nI j.val).toUInt32 >>> ((iI 1).toUInt32 &&& Int32.toUInt32 31)).toInt32) &&& (1431655765 : Int32))).toUInt32 >>> ((iI 2).toUInt32 &&& Int32.toUInt32 31)).toInt32) &&& (858993459 : Int32))).toUInt32 >>> ((iI 4).toUInt32 &&& Int32.toUInt32 31)).toInt32)) &&& (252645135 : Int32)) + ((((((((nI j.val) - ((((nI j.val).toUInt32 >>> ((iI 1).toUInt32 &&& Int32.toUInt32 31)).toInt32) &&& (1431655765 : Int32))) &&& (858993459 : Int32)) + (((((nI j.val) - ((((nI j.val).toUInt32 >>> ((iI 1).toUInt32 &&& Int32.toUInt32 31)).toInt32) &&& (1431655765 : Int32))).toUInt32 >>> ((iI 2).toUInt32 &&& Int32.toUInt32 31)).toInt32) &&& (858993459 : Int32))) + ((((((nI j.val) - ((((nI j.val).toUInt32 >>> ((iI 1).toUInt32 &&& Int32.toUInt32 31)).toInt32) &&& (1431655765 : Int32))) &&& (858993459 : Int32)) + (((((nI j.val) - ((((nI j.val).toUInt32 >>> ((iI 1).toUInt32 &&& Int32.toUInt32 31)).toInt32) &&& (1431655765 : Int32))).toUInt32 >>> ((iI 2).toUInt32 &&& Int32.toUInt32 31)).toInt32) &&& (858993459 : Int32))).toUInt32 >>> ((iI 4).toUInt32 &&& Int32.toUInt32 31)).toInt32)) &&& (252645135 : Int32)).toUInt32 >>> ((iI 8).toUInt32 &&& Int32.toUInt32 31)).toInt32)).toUInt32 >>> ((iI 16).toUInt32 &&& Int32.toUInt32 31)).toInt32)) &&& (iI 63) = iI (bitc j.val) := by decide +kernel
    exact key ⟨k, hk⟩
  rw [hv]
  exact z_iret hC hrt hlk hQ hS ⟨zle (z := 0) rfl (by omega), zle (z := 0) rfl (by omega)⟩ ⟨_, rfl, rfl⟩ dJ19_bitCount_52

abbrev rm_m_J10_floorMod : Room := { frames := 0, cells := 0, slots := 0, locals := 0 }
set_option maxHeartbeats 4000000 in
theorem m_J10_floorMod {l : Launch} {s0 : State} {G : zG} (hE : zE l s0 G) (H0 : Heap) (hO : zO s0 H0) (a b : Int) (ha : zi a) (hb2 : 0 < b ∧ b < 2147483648) : zM l s0 yJ10_floorMod cJ10_floorMod 3 (some FieldType.int) rm_m_J10_floorMod [.int (iI a), .int (iI b)] H0 M0 (ri (fun z _ => z = a % b)) := by
  refine z_met hE (by decide +kernel) (Nat.le_of_ble_eq_true rfl) ?_
  intro pp ee ss mm args below meth cd Q ls hC hml hrt hlk hnm hH hQ hS hl
  have hx := hC.x
  have hb := hC.b
  have hl : lv_has ls 3 [(0, .int (iI a)), (1, .int (iI b))] := hl
  have hP : va_P G.1 zCl [] H0 := va_nil
  have hD : va_D (zA M0 H0) [] := va_nilD
  refine lv_iload_n hx hb dJ10_floorMod_0 rfl (lv_at hl 0 rfl) ?_
  refine lv_iload_n hx hb dJ10_floorMod_1 rfl (lv_at hl 1 rfl) ?_
  refine z_rem hx hb (z := Int.tmod a b) dJ10_floorMod_2 (by omega) rfl ?_
  refine lv_istore_n (lv' := [(2, .int (iI (Int.tmod a b))), (0, .int (iI a)), (1, .int (iI b))]) hx hb dJ10_floorMod_3 rfl hl (by decide) rfl (fun ls hl => ?_)
  refine lv_iload_n hx hb dJ10_floorMod_4 rfl (lv_at hl 1 rfl) ?_
  refine lv_iload_n hx hb dJ10_floorMod_5 rfl (lv_at hl 2 rfl) ?_
  refine lv_ixor hx hb dJ10_floorMod_6 ?_
  refine lv_if_ge (tgt := 18) hx hb dJ10_floorMod_7 (by decide) (fun cx => ?_) (fun cx => ?_)
  · rw [iI_x0 ha ⟨by omega, hb2.2⟩ (by omega)] at cx
    refine lv_iload_n hx hb dJ10_floorMod_18 rfl (lv_at hl 0 rfl) ?_
    exact z_iret hC hrt hlk hQ hS ⟨zle (z := 0) rfl (by omega), zle (z := 0) rfl (by omega)⟩ ⟨_, rfl, Int.tmod_eq_emod_of_nonneg cx⟩ dJ10_floorMod_19
  · rw [iI_x0 ha ⟨by omega, hb2.2⟩ (by omega)] at cx
    have hr := iI_fm (a := a) (b := b) (by omega) hb2.1
    refine lv_iload_n hx hb dJ10_floorMod_10 rfl (lv_at hl 0 rfl) ?_
    refine z_zeq (tgt := 18) hx hb dJ10_floorMod_11 (by decide) (by omega) (fun c1 => ?_) (fun c1 => ?_)
    · refine lv_iload_n hx hb dJ10_floorMod_18 rfl (lv_at hl 0 rfl) ?_
      exact z_iret hC hrt hlk hQ hS ⟨zle (z := 0) rfl (by omega), zle (z := 0) rfl (by omega)⟩ ⟨_, rfl, by omega⟩ dJ10_floorMod_19
    · refine lv_iload_n hx hb dJ10_floorMod_14 rfl (lv_at hl 0 rfl) ?_
      refine lv_iload_n hx hb dJ10_floorMod_15 rfl (lv_at hl 2 rfl) ?_
      refine z_add hx hb (z := (Int.tmod a b) + b) dJ10_floorMod_16 rfl ?_
      exact z_iret hC hrt hlk hQ hS ⟨zle (z := 0) rfl (by omega), zle (z := 0) rfl (by omega)⟩ ⟨_, rfl, by omega⟩ dJ10_floorMod_17

