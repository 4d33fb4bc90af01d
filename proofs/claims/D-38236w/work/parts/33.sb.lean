/-! THE JDK: bytes are copied; builders of texts -/
set_option maxRecDepth 100000
def asc (n : Nat) (f : Nat → Int) : Prop := ∀ j, j < n → 0 ≤ f j ∧ f j < 128
abbrev rm_m_J10_min : Room := { frames := 0, cells := 0, slots := 0, locals := 0 }
set_option maxHeartbeats 4000000 in
theorem m_J10_min {l : Launch} {s0 : State} {G : zG} (hE : zE l s0 G) (H0 : Heap) (hO : zO s0 H0) (a b : Int) (h : zi a ∧ zi b) : zM l s0 yJ10_min cJ10_min 2 (some FieldType.int) rm_m_J10_min [.int (iI a), .int (iI b)] H0 M0 (ri (fun y _ => y = if a ≤ b then a else b)) := by
  refine z_met hE (by decide +kernel) (Nat.le_of_ble_eq_true rfl) ?_
  intro pp ee ss mm args below meth cd Q ls hC hml hrt hlk hnm hH hQ hS hl
  have hx := hC.x
  have hb := hC.b
  have hl : lv_has ls 2 [(0, .int (iI a)), (1, .int (iI b))] := hl
  have hP : va_P G.1 zCl [] H0 := va_nil
  have hD : va_D (zA M0 H0) [] := va_nilD
  refine lv_iload_n hx hb dJ10_min_0 rfl (lv_at hl 0 rfl) ?_
  refine lv_iload_n hx hb dJ10_min_1 rfl (lv_at hl 1 rfl) ?_
  refine z_cgt (tgt := 9) hx hb dJ10_min_2 (by decide) (by omega) (fun c1 => ?_) (fun c1 => ?_)
  · refine lv_iload_n hx hb dJ10_min_9 rfl (lv_at hl 1 rfl) ?_
    exact z_iret hC hrt hlk hQ hS ⟨zle (z := 0) rfl (by omega), zle (z := 0) rfl (by omega)⟩ ⟨_, rfl, by rw [if_neg (by omega)]⟩ dJ10_min_10
  · refine lv_iload_n hx hb dJ10_min_5 rfl (lv_at hl 0 rfl) ?_
    refine lv_goto (tgt := 10) hx hb dJ10_min_6 (by decide) ?_
    exact z_iret hC hrt hlk hQ hS ⟨zle (z := 0) rfl (by omega), zle (z := 0) rfl (by omega)⟩ ⟨_, rfl, by rw [if_pos (by omega)]⟩ dJ10_min_10

abbrev rm_m_J9_newLength : Room := { frames := 1, cells := 0, slots := 0, locals := 21 }
set_option maxHeartbeats 4000000 in
theorem m_J9_newLength {l : Launch} {s0 : State} {G : zG} (hE : zE l s0 G) (H0 : Heap) (hO : zO s0 H0) (a b c : Nat) (h : a ≤ 1000 ∧ b ≤ c ∧ 0 < c ∧ c ≤ 3000) : zM l s0 yJ9_newLength cJ9_newLength 4 (some FieldType.int) rm_m_J9_newLength [.int (iI ((a : Nat) : Int)), .int (iI ((b : Nat) : Int)), .int (iI ((c : Nat) : Int))] H0 M0 (ri (fun y _ => y = ((a + c : Nat) : Int))) := by
  refine z_met hE (by decide +kernel) (Nat.le_of_ble_eq_true rfl) ?_
  intro pp ee ss mm args below meth cd Q ls hC hml hrt hlk hnm hH hQ hS hl
  have hx := hC.x
  have hb := hC.b
  have hl : lv_has ls 4 [(0, .int (iI ((a : Nat) : Int))), (1, .int (iI ((b : Nat) : Int))), (2, .int (iI ((c : Nat) : Int)))] := hl
  have hP : va_P G.1 zCl [] H0 := va_nil
  have hD : va_D (zA M0 H0) [] := va_nilD
  refine lv_iload_n hx hb dJ9_newLength_0 rfl (lv_at hl 0 rfl) ?_
  refine lv_iload_n hx hb dJ9_newLength_1 rfl (lv_at hl 1 rfl) ?_
  refine lv_iload_n hx hb dJ9_newLength_2 rfl (lv_at hl 2 rfl) ?_
  refine z_go 0 0 (z_runS (As := [.int (iI ((b : Nat) : Int)), .int (iI ((c : Nat) : Int))]) (rest := [.int (iI ((a : Nat) : Int))]) hC hml hl.1 (m_J10_max hE H0 (hO.ext0 (zS_F hS)) (b : Int) (c : Int) ⟨⟨by omega, by omega⟩, ⟨by omega, by omega⟩⟩) (lw_S q606 q607 q78 q608) nd_J10_max rfl rfl (Nat.le_of_ble_eq_true rfl) ⟨Nat.le_of_ble_eq_true rfl, Nat.le_of_ble_eq_true rfl⟩ ⟨zfit (k := 0) (z := 0) rfl rfl (by omega), zfit (k := 0) (z := 0) rfl rfl (by omega)⟩ dJ9_newLength_3) ⟨zad (k := 0) rfl (by omega), zad (k := 0) rfl (by omega)⟩ hS (fun _ z => z.elim) (fun r H1 locs hp hF hS1 => ?_)
  obtain ⟨_, rfl, rfl⟩ := hp
  have hP := zpk hP hF
  have hP : va_P G.1 zCl ([]) H1 := hP
  have hD : va_D (zA M0 H0) ([]) := hD
  have hS := hS1
  refine z_top (b := ((c : Nat) : Int)) (by split <;> omega) ?_
  refine z_add hx hb (z := ((a : Nat) : Int) + ((c : Nat) : Int)) dJ9_newLength_6 rfl ?_
  refine z_top (b := ((a + c : Nat) : Int)) (by omega) ?_
  refine lv_istore_n (lv' := [(3, .int (iI ((a + c : Nat) : Int))), (0, .int (iI ((a : Nat) : Int))), (1, .int (iI ((b : Nat) : Int))), (2, .int (iI ((c : Nat) : Int)))]) hx hb dJ9_newLength_7 rfl hl (by decide) rfl (fun ls hl => ?_)
  refine lv_iconst (v := iI 0) hx hb dJ9_newLength_8 rfl ?_
  refine lv_iload_n hx hb dJ9_newLength_9 rfl (lv_at hl 0 rfl) ?_
  refine z_cge (tgt := 21) hx hb dJ9_newLength_10 (by decide) (by omega) (fun c2 => ?_) (fun c2 => ?_)
  · omega
  · refine lv_iload_n hx hb dJ9_newLength_13 rfl (lv_at hl 0 rfl) ?_
    refine lv_ldc (v := iI 2147483639) hx hb hC.o (hC.t _ q609) dJ9_newLength_14 ?_
    refine z_cgt (tgt := 21) hx hb dJ9_newLength_16 (by decide) (by omega) (fun c3 => ?_) (fun c3 => ?_)
    · omega
    · refine lv_iload_n hx hb dJ9_newLength_19 rfl (lv_at hl 0 rfl) ?_
      exact z_iret hC hrt hlk hQ hS ⟨zle (z := 0) rfl (by omega), zle (z := 0) rfl (by omega)⟩ ⟨_, rfl, rfl⟩ dJ9_newLength_20

abbrev rm_m_J11_copyOf : Room := { frames := 1, cells := 1, slots := 200, locals := 60 }
set_option maxHeartbeats 4000000 in
theorem m_J11_copyOf {l : Launch} {s0 : State} {G : zG} (hE : zE l s0 G) (H0 : Heap) (hO : zO s0 H0) (a n0 k : Nat) (f : Nat → Int) (h : zAt G a (zB G n0 f) H0) (hk : n0 < k ∧ k ≤ 200) (hf : asc n0 f) : zM l s0 yJ11_copyOf cJ11_copyOf 3 (some (FieldType.array FieldType.byte)) rm_m_J11_copyOf [.ref a, .int (iI ((k : Nat) : Int))] H0 M0 (rr (fun q h1 => NW G H0 h1 [(q, zB G k (fun j => if j < n0 then f j else 0))])) := by
  refine z_met hE (by decide +kernel) (Nat.le_of_ble_eq_true rfl) ?_
  intro pp ee ss mm args below meth cd Q ls hC hml hrt hlk hnm hH hQ hS hl
  have hx := hC.x
  have hb := hC.b
  have hl : lv_has ls 3 [(0, .ref a), (1, .int (iI ((k : Nat) : Int)))] := hl
  have hP : va_P G.1 zCl [] H0 := va_nil
  have hD : va_D (zA M0 H0) [] := va_nilD
  refine lv_iload_n hx hb dJ11_copyOf_0 rfl (lv_at hl 1 rfl) ?_
  refine lv_aload_n hx hb dJ11_copyOf_1 rfl (lv_at hl 0 rfl) ?_
  refine z_alen hC 2 (zo hS h id) rfl (y := ((n0 : Nat) : Int)) rfl dJ11_copyOf_2 ?_
  refine z_cne (tgt := 14) hx hb dJ11_copyOf_3 (by decide) (by omega) (fun c1 => ?_) (fun c1 => ?_)
  · refine lv_iload_n hx hb dJ11_copyOf_14 rfl (lv_at hl 1 rfl) ?_
    refine z_newb hC hP hD hS (N := k) (c1 := 1) (s1 := 200) rfl (by omega) ⟨zle (z := 1) rfl (by omega), zle (z := 200) rfl (by omega)⟩ ⟨by omega, by omega⟩ (ws' := fun q2 => [(q2, zB G k (fun _ => 0))]) (fun _ => rfl) dJ11_copyOf_15 (fun q2 H3 hq0q2 hq1q2 hP hD hS hF => ?_)
    refine lv_astore_n (lv' := [(2, .ref q2), (0, .ref a), (1, .int (iI ((k : Nat) : Int)))]) hx hb dJ11_copyOf_17 rfl hl (by decide) rfl (fun ls hl => ?_)
    refine lv_aload_n hx hb dJ11_copyOf_18 rfl (lv_at hl 1 rfl) ?_
    refine lv_iconst (v := iI 0) hx hb dJ11_copyOf_19 rfl ?_
    refine lv_aload_n hx hb dJ11_copyOf_20 rfl (lv_at hl 0 rfl) ?_
    refine lv_iconst (v := iI 0) hx hb dJ11_copyOf_21 rfl ?_
    refine lv_aload_n hx hb dJ11_copyOf_22 rfl (lv_at hl 1 rfl) ?_
    refine z_alen hC 2 (zo hS h id) rfl (y := ((n0 : Nat) : Int)) rfl dJ11_copyOf_23 ?_
    refine lv_iload_n hx hb dJ11_copyOf_24 rfl (lv_at hl 2 rfl) ?_
    refine z_go 1 200 (z_runS (As := [.int (iI ((n0 : Nat) : Int)), .int (iI ((k : Nat) : Int))]) (rest := [.int (iI 0), .ref q2, .int (iI 0), .ref a]) hC hml hl.1 (m_J10_min hE H3 (hO.ext0 (zS_F hS)) (n0 : Int) (k : Int) ⟨⟨by omega, by omega⟩, ⟨by omega, by omega⟩⟩) (lw_S q624 q625 q78 q626) nd_J10_min rfl rfl (Nat.le_of_ble_eq_true rfl) ⟨Nat.le_of_ble_eq_true rfl, Nat.le_of_ble_eq_true rfl⟩ ⟨zfit (k := 0) (z := 1) rfl rfl (by omega), zfit (k := 0) (z := 200) rfl rfl (by omega)⟩ dJ11_copyOf_25) ⟨zad (k := 0) rfl (by omega), zad (k := 0) rfl (by omega)⟩ hS (fun _ z => z.elim) (fun r H4 locs hp hF hS1 => ?_)
    obtain ⟨_, rfl, rfl⟩ := hp
    have hP := zpk hP hF
    have hP : va_P G.1 zCl ([(q2, zB G k (fun _ => 0))]) H4 := hP
    have hD : va_D (zA M0 H0) ([(q2, zB G k (fun _ => 0))]) := hD
    have hS := hS1
    refine z_top (b := ((n0 : Nat) : Int)) (by split <;> omega) ?_
    refine z_copyb hC (hml.trans hl.1.symm) q627 hP hD hS 0 (k := n0) (zo hS h id) rfl rfl (by omega) hf (ws' := [(q2, zB G k (fun j => if j < n0 then f j else 0))]) rfl (by decide +kernel) (by decide +kernel) dJ11_copyOf_28 (fun H5 locs hP hD hS => ?_)
    refine lv_aload_n hx hb dJ11_copyOf_31 rfl (lv_at hl 0 rfl) ?_
    exact z_aretA hC hrt hlk hQ hS ⟨zle (z := 1) rfl (by omega), zle (z := 200) rfl (by omega)⟩ ⟨_, rfl, hP, zdn hD⟩ dJ11_copyOf_32
  · omega

abbrev rm_m_J23_init : Room := { frames := 1, cells := 1, slots := 16, locals := 20 }
set_option maxHeartbeats 4000000 in
theorem m_J23_init {l : Launch} {s0 : State} {G : zG} (hE : zE l s0 G) (H0 : Heap) (hO : zO s0 H0) (q : Nat) (hq : s0.heap.size ≤ q) (h : zAt G q (zOb 11 [.null, .int (iI 0), .int (iI 0), .int (iI 0)]) H0) : zM l s0 yJ23_init cJ23_init 2 (none : Option FieldType) rm_m_J23_init [.ref q, .int (iI 16)] H0 (fun z => z = q) (rv (fun h1 => ∃ arr, zAt G q (zOb 11 [.ref arr, .int (iI 0), .int (iI 0), .int (iI 0)]) h1 ∧ NW G H0 h1 [(arr, zB G 16 (fun _ => 0))])) := by
  refine z_met hE (by decide +kernel) (Nat.le_of_ble_eq_true rfl) ?_
  intro pp ee ss mm args below meth cd Q ls hC hml hrt hlk hnm hH hQ hS hl
  have hx := hC.x
  have hb := hC.b
  have hl : lv_has ls 2 [(0, .ref q), (1, .int (iI 16))] := hl
  have hP : va_P G.1 zCl [(q, zOb 11 [.null, .int (iI 0), .int (iI 0), .int (iI 0)])] H0 := zP1 h
  have hD : va_D (zA (fun z => z = q) H0) [(q, zOb 11 [.null, .int (iI 0), .int (iI 0), .int (iI 0)])] := zD1 (Or.inl rfl)
  have hMo : ∀ z, (fun z => z = q) z → s0.heap.size ≤ z := fun z hz => hz ▸ hq
  refine lv_aload_n hx hb dJ23_init_0 rfl (lv_at hl 0 rfl) ?_
  refine W.objInit hx hb hC.o (hC.t _ q557) (hC.t _ q108) (hC.t _ q109) rfl (by rw [hml]; exact hl.1) rfl dJ23_init_1 (Nat.le_of_ble_eq_true rfl) (Nat.le_of_ble_eq_true rfl) ?_
  refine W.eq (g2 := F0 mm 4 ls []) rfl ?_
  refine z_gets hC (hO.ext (zS_F hS) hMo) (hE.2.2.2.1.2.2.2.2.1) q558 dJ23_init_4 ?_
  refine z_zeq (tgt := 25) hx hb dJ23_init_7 (by decide) (by omega) (fun c1 => ?_) (fun c1 => ?_)
  · omega
  · refine lv_aload_n hx hb dJ23_init_10 rfl (lv_at hl 0 rfl) ?_
    refine lv_iload_n hx hb dJ23_init_11 rfl (lv_at hl 1 rfl) ?_
    refine z_newb hC hP hD hS (N := 16) (c1 := 1) (s1 := 16) rfl (by omega) ⟨zle (z := 1) rfl (by omega), zle (z := 16) rfl (by omega)⟩ ⟨by omega, by omega⟩ (ws' := fun q2 => [(q, zOb 11 [.null, .int (iI 0), .int (iI 0), .int (iI 0)]), (q2, zB G 16 (fun _ => 0))]) (fun _ => rfl) dJ23_init_12 (fun q2 H3 hq0q2 hq1q2 hP hD hS hF => ?_)
    refine z_put hC hP hD hS 0 (k := 0) rfl rfl in_J24 tyJ24_ok nmJ24 (by decide) q566 (fun _ h => h) rfl rfl rfl rfl (Nat.le_of_ble_eq_true rfl) (ws' := [(q, zOb 11 [.ref q2, .int (iI 0), .int (iI 0), .int (iI 0)]), (q2, zB G 16 (fun _ => 0))]) rfl dJ23_init_14 (fun H4 locs hP hD hS => ?_)
    refine lv_aload_n hx hb dJ23_init_17 rfl (lv_at hl 0 rfl) ?_
    refine lv_iconst (v := iI 0) hx hb dJ23_init_18 rfl ?_
    refine z_put hC hP hD hS 0 (k := 1) rfl rfl in_J24 tyJ24_ok nmJ24 (by decide) q567 (fun _ h => h) rfl rfl rfl rfl (Nat.le_of_ble_eq_true rfl) (ws' := [(q, zOb 11 [.ref q2, .int (iI 0), .int (iI 0), .int (iI 0)]), (q2, zB G 16 (fun _ => 0))]) rfl dJ23_init_19 (fun H5 locs hP hD hS => ?_)
    refine lv_goto (tgt := 38) hx hb dJ23_init_22 (by decide) ?_
    exact z_vret hC hrt hlk hQ hS ⟨zle (z := 1) rfl (by omega), zle (z := 16) rfl (by omega)⟩ ⟨rfl, _, hP 0 _ rfl, zP1 (hP 1 _ rfl), zD1 hq0q2⟩ dJ23_init_38

abbrev rm_m_J24_init : Room := { frames := 2, cells := 1, slots := 16, locals := 41 }
set_option maxHeartbeats 4000000 in
theorem m_J24_init {l : Launch} {s0 : State} {G : zG} (hE : zE l s0 G) (H0 : Heap) (hO : zO s0 H0) (q : Nat) (hq : s0.heap.size ≤ q) (h : zAt G q (zOb 11 [.null, .int (iI 0), .int (iI 0), .int (iI 0)]) H0) : zM l s0 yJ24_init cJ24_init 1 (none : Option FieldType) rm_m_J24_init [.ref q] H0 (fun z => z = q) (rv (fun h1 => ∃ arr, zAt G q (zOb 11 [.ref arr, .int (iI 0), .int (iI 0), .int (iI 0)]) h1 ∧ NW G H0 h1 [(arr, zB G 16 (fun _ => 0))])) := by
  refine z_met hE (by decide +kernel) (Nat.le_of_ble_eq_true rfl) ?_
  intro pp ee ss mm args below meth cd Q ls hC hml hrt hlk hnm hH hQ hS hl
  have hx := hC.x
  have hb := hC.b
  have hl : lv_has ls 1 [(0, .ref q)] := hl
  have hP : va_P G.1 zCl [(q, zOb 11 [.null, .int (iI 0), .int (iI 0), .int (iI 0)])] H0 := zP1 h
  have hD : va_D (zA (fun z => z = q) H0) [(q, zOb 11 [.null, .int (iI 0), .int (iI 0), .int (iI 0)])] := zD1 (Or.inl rfl)
  have hMo : ∀ z, (fun z => z = q) z → s0.heap.size ≤ z := fun z hz => hz ▸ hq
  refine lv_aload_n hx hb dJ24_init_0 rfl (lv_at hl 0 rfl) ?_
  refine lv_bipush (v := iI 16) hx hb dJ24_init_1 (by decide) ?_
  refine z_go 1 16 (z_runI (As := [.int (iI 16)]) (rest := []) hC hml hl.1 (m_J23_init hE H0 (hO.ext (zS_F hS) hMo) q hq (hP 0 _ rfl)) q556 q97 q554 q555 rfl nd_J23_init rfl rfl (Nat.le_of_ble_eq_true rfl) ⟨Nat.le_of_ble_eq_true rfl, Nat.le_of_ble_eq_true rfl⟩ ⟨zfit (k := 1) (z := 1) rfl rfl (by omega), zfit (k := 16) (z := 16) rfl rfl (by omega)⟩ dJ24_init_3) ⟨zad (k := 1) rfl (by omega), zad (k := 16) rfl (by omega)⟩ hS (fun q z => by subst z; exact hD.2 0 _ rfl) (fun r H1 locs hp hF hS1 => ?_)
  obtain ⟨rfl, arr, hm, hN⟩ := hp
  obtain ⟨hP, hD⟩ := zjmn hP hD hS.1 hF 0 rfl hm hN
  have hP : va_P G.1 zCl ([(q, zOb 11 [.ref arr, .int (iI 0), .int (iI 0), .int (iI 0)]), (arr, zB G 16 (fun _ => 0))]) H1 := hP
  have hD : va_D (zA (fun z => z = q) H0) ([(q, zOb 11 [.ref arr, .int (iI 0), .int (iI 0), .int (iI 0)]), (arr, zB G 16 (fun _ => 0))]) := hD
  have hS := hS1
  exact z_vret hC hrt hlk hQ hS ⟨zle (z := 1) rfl (by omega), zle (z := 16) rfl (by omega)⟩ ⟨rfl, _, hP 0 _ rfl, zP1 (hP 1 _ rfl), zD1 (hN.2.2 0 _ rfl)⟩ dJ24_init_6

abbrev rm_m_J23_length : Room := { frames := 0, cells := 0, slots := 0, locals := 0 }
set_option maxHeartbeats 4000000 in
theorem m_J23_length {l : Launch} {s0 : State} {G : zG} (hE : zE l s0 G) (H0 : Heap) (hO : zO s0 H0) (q arr n : Nat) (hq0 : zAt G q (zOb 11 [.ref arr, .int (iI 0), .int (iI 0), .int (iI ((n : Nat) : Int))]) H0) : zM l s0 yJ23_length cJ23_length 1 (some FieldType.int) rm_m_J23_length [.ref q] H0 M0 (ri (fun y _ => y = (n : Nat))) := by
  refine z_met hE (by decide +kernel) (Nat.le_of_ble_eq_true rfl) ?_
  intro pp ee ss mm args below meth cd Q ls hC hml hrt hlk hnm hH hQ hS hl
  have hx := hC.x
  have hb := hC.b
  have hl : lv_has ls 1 [(0, .ref q)] := hl
  have hP : va_P G.1 zCl [] H0 := va_nil
  have hD : va_D (zA M0 H0) [] := va_nilD
  refine lv_aload_n hx hb dJ23_length_0 rfl (lv_at hl 0 rfl) ?_
  refine z_get hC (k := 3) rfl in_J24 (zo hS hq0 id) (by decide) q569 (fun _ h => h) rfl dJ23_length_1 ?_
  exact z_iret hC hrt hlk hQ hS ⟨zle (z := 0) rfl (by omega), zle (z := 0) rfl (by omega)⟩ ⟨_, rfl, rfl⟩ dJ23_length_4

abbrev rm_m_J23_getValue : Room := { frames := 0, cells := 0, slots := 0, locals := 0 }
set_option maxHeartbeats 4000000 in
theorem m_J23_getValue {l : Launch} {s0 : State} {G : zG} (hE : zE l s0 G) (H0 : Heap) (hO : zO s0 H0) (q arr n : Nat) (hq0 : zAt G q (zOb 11 [.ref arr, .int (iI 0), .int (iI 0), .int (iI ((n : Nat) : Int))]) H0) : zM l s0 yJ23_getValue cJ23_getValue 1 (some (FieldType.array FieldType.byte)) rm_m_J23_getValue [.ref q] H0 M0 (rr (fun y _ => y = arr)) := by
  refine z_met hE (by decide +kernel) (Nat.le_of_ble_eq_true rfl) ?_
  intro pp ee ss mm args below meth cd Q ls hC hml hrt hlk hnm hH hQ hS hl
  have hx := hC.x
  have hb := hC.b
  have hl : lv_has ls 1 [(0, .ref q)] := hl
  have hP : va_P G.1 zCl [] H0 := va_nil
  have hD : va_D (zA M0 H0) [] := va_nilD
  refine lv_aload_n hx hb dJ23_getValue_0 rfl (lv_at hl 0 rfl) ?_
  refine z_get hC (k := 0) rfl in_J24 (zo hS hq0 id) (by decide) q566 (fun _ h => h) rfl dJ23_getValue_1 ?_
  exact z_aretA hC hrt hlk hQ hS ⟨zle (z := 0) rfl (by omega), zle (z := 0) rfl (by omega)⟩ ⟨_, rfl, rfl⟩ dJ23_getValue_4

abbrev rm_m_J24_length : Room := { frames := 1, cells := 0, slots := 0, locals := 20 }
set_option maxHeartbeats 4000000 in
theorem m_J24_length {l : Launch} {s0 : State} {G : zG} (hE : zE l s0 G) (H0 : Heap) (hO : zO s0 H0) (q arr n : Nat) (hq0 : zAt G q (zOb 11 [.ref arr, .int (iI 0), .int (iI 0), .int (iI ((n : Nat) : Int))]) H0) : zM l s0 yJ24_length cJ24_length 1 (some FieldType.int) rm_m_J24_length [.ref q] H0 M0 (ri (fun y _ => y = (n : Nat))) := by
  refine z_met hE (by decide +kernel) (Nat.le_of_ble_eq_true rfl) ?_
  intro pp ee ss mm args below meth cd Q ls hC hml hrt hlk hnm hH hQ hS hl
  have hx := hC.x
  have hb := hC.b
  have hl : lv_has ls 1 [(0, .ref q)] := hl
  have hP : va_P G.1 zCl [] H0 := va_nil
  have hD : va_D (zA M0 H0) [] := va_nilD
  refine lv_aload_n hx hb dJ24_length_0 rfl (lv_at hl 0 rfl) ?_
  refine z_go 0 0 (z_runSp (ci := 11) (n := 0) (As := []) (rest := []) hC hml hl.1 (m_J23_length hE H0 (hO.ext0 (zS_F hS)) q arr n (zo hS hq0 id)) q587 q585 q1946 q578 q586 q97 ⟨by decide +kernel, by decide +kernel⟩ rfl rfl rfl (z_rv hC (ci := 11) rfl (zo hS hq0 id) rfl) rfl (Nat.le_of_ble_eq_true rfl) ⟨Nat.le_of_ble_eq_true rfl, Nat.le_of_ble_eq_true rfl⟩ ⟨zfit (k := 0) (z := 0) rfl rfl (by omega), zfit (k := 0) (z := 0) rfl rfl (by omega)⟩ dJ24_length_1) ⟨zad (k := 0) rfl (by omega), zad (k := 0) rfl (by omega)⟩ hS (fun _ z => z.elim) (fun r H1 locs hp hF hS1 => ?_)
  obtain ⟨_, rfl, rfl⟩ := hp
  have hP := zpk hP hF
  have hP : va_P G.1 zCl ([]) H1 := hP
  have hD : va_D (zA M0 H0) ([]) := hD
  have hS := hS1
  exact z_iret hC hrt hlk hQ hS ⟨zle (z := 0) rfl (by omega), zle (z := 0) rfl (by omega)⟩ ⟨_, rfl, rfl⟩ dJ24_length_4

abbrev rm_m_J23_isLatin1 : Room := { frames := 0, cells := 0, slots := 0, locals := 0 }
set_option maxHeartbeats 4000000 in
theorem m_J23_isLatin1 {l : Launch} {s0 : State} {G : zG} (hE : zE l s0 G) (H0 : Heap) (hO : zO s0 H0) (q arr n : Nat) (hq0 : zAt G q (zOb 11 [.ref arr, .int (iI 0), .int (iI 0), .int (iI ((n : Nat) : Int))]) H0) : zM l s0 yJ23_isLatin1 cJ23_isLatin1 1 (some FieldType.boolean) rm_m_J23_isLatin1 [.ref q] H0 M0 (ri (fun y _ => y = 1)) := by
  refine z_met hE (by decide +kernel) (Nat.le_of_ble_eq_true rfl) ?_
  intro pp ee ss mm args below meth cd Q ls hC hml hrt hlk hnm hH hQ hS hl
  have hx := hC.x
  have hb := hC.b
  have hl : lv_has ls 1 [(0, .ref q)] := hl
  have hP : va_P G.1 zCl [] H0 := va_nil
  have hD : va_D (zA M0 H0) [] := va_nilD
  refine z_gets hC (hO.ext0 (zS_F hS)) (hE.2.2.2.1.2.2.2.2.1) q558 dJ23_isLatin1_0 ?_
  refine z_zeq (tgt := 17) hx hb dJ23_isLatin1_3 (by decide) (by omega) (fun c1 => ?_) (fun c1 => ?_)
  · omega
  · refine lv_aload_n hx hb dJ23_isLatin1_6 rfl (lv_at hl 0 rfl) ?_
    refine z_get hC (k := 1) rfl in_J24 (zo hS hq0 id) (by decide) q567 (fun _ h => h) rfl dJ23_isLatin1_7 ?_
    refine z_zne (tgt := 17) hx hb dJ23_isLatin1_10 (by decide) (by omega) (fun c2 => ?_) (fun c2 => ?_)
    · omega
    · refine lv_iconst (v := iI 1) hx hb dJ23_isLatin1_13 rfl ?_
      refine lv_goto (tgt := 18) hx hb dJ23_isLatin1_14 (by decide) ?_
      exact z_zret hC hrt hlk hQ hS ⟨zle (z := 0) rfl (by omega), zle (z := 0) rfl (by omega)⟩ (by omega) ⟨_, rfl, rfl⟩ dJ23_isLatin1_18

abbrev rm_m_J22_canEncode : Room := { frames := 0, cells := 0, slots := 0, locals := 0 }
set_option maxHeartbeats 4000000 in
theorem m_J22_canEncode {l : Launch} {s0 : State} {G : zG} (hE : zE l s0 G) (H0 : Heap) (hO : zO s0 H0) (c : Nat) (hc : c < 128) : zM l s0 yJ22_canEncode cJ22_canEncode 1 (some FieldType.boolean) rm_m_J22_canEncode [.int (iI ((c : Nat) : Int))] H0 M0 (ri (fun y _ => y = 1)) := by
  refine z_met hE (by decide +kernel) (Nat.le_of_ble_eq_true rfl) ?_
  intro pp ee ss mm args below meth cd Q ls hC hml hrt hlk hnm hH hQ hS hl
  have hx := hC.x
  have hb := hC.b
  have hl : lv_has ls 1 [(0, .int (iI ((c : Nat) : Int)))] := hl
  have hP : va_P G.1 zCl [] H0 := va_nil
  have hD : va_D (zA M0 H0) [] := va_nilD
  refine lv_iload_n hx hb dJ22_canEncode_0 rfl (lv_at hl 0 rfl) ?_
  refine lv_sipush (v := iI 255) hx hb dJ22_canEncode_1 (by decide) ?_
  refine z_cgt (tgt := 11) hx hb dJ22_canEncode_4 (by decide) (by omega) (fun c1 => ?_) (fun c1 => ?_)
  · omega
  · refine lv_iconst (v := iI 1) hx hb dJ22_canEncode_7 rfl ?_
    refine lv_goto (tgt := 12) hx hb dJ22_canEncode_8 (by decide) ?_
    exact z_zret hC hrt hlk hQ hS ⟨zle (z := 0) rfl (by omega), zle (z := 0) rfl (by omega)⟩ (by omega) ⟨_, rfl, rfl⟩ dJ22_canEncode_12

abbrev rm_m_J23_newCapacity : Room := { frames := 2, cells := 0, slots := 0, locals := 44 }
set_option maxHeartbeats 4000000 in
theorem m_J23_newCapacity {l : Launch} {s0 : State} {G : zG} (hE : zE l s0 G) (H0 : Heap) (hO : zO s0 H0) (q arr n mm9 need : Nat) (f : Nat → Int) (hq0 : zAt G q (zOb 11 [.ref arr, .int (iI 0), .int (iI 0), .int (iI ((n : Nat) : Int))]) H0) (ha0 : zAt G arr (zB G mm9 f) H0) (hn : mm9 < need ∧ need ≤ mm9 + 2 ∧ mm9 ≤ 70) : zM l s0 yJ23_newCapacity cJ23_newCapacity 6 (some FieldType.int) rm_m_J23_newCapacity [.ref q, .int (iI ((need : Nat) : Int))] H0 M0 (ri (fun y _ => y = ((2 * mm9 + 2 : Nat) : Int))) := by
  refine z_met hE (by decide +kernel) (Nat.le_of_ble_eq_true rfl) ?_
  intro pp ee ss mm args below meth cd Q ls hC hml hrt hlk hnm hH hQ hS hl
  have hx := hC.x
  have hb := hC.b
  have hl : lv_has ls 6 [(0, .ref q), (1, .int (iI ((need : Nat) : Int)))] := hl
  have hP : va_P G.1 zCl [] H0 := va_nil
  have hD : va_D (zA M0 H0) [] := va_nilD
  refine lv_aload_n hx hb dJ23_newCapacity_0 rfl (lv_at hl 0 rfl) ?_
  refine z_get hC (k := 0) rfl in_J24 (zo hS hq0 id) (by decide) q566 (fun _ h => h) rfl dJ23_newCapacity_1 ?_
  refine z_alen hC 2 (zo hS ha0 id) rfl (y := ((mm9 : Nat) : Int)) rfl dJ23_newCapacity_4 ?_
  refine lv_istore_n (lv' := [(2, .int (iI ((mm9 : Nat) : Int))), (0, .ref q), (1, .int (iI ((need : Nat) : Int)))]) hx hb dJ23_newCapacity_5 rfl hl (by decide) rfl (fun ls hl => ?_)
  refine lv_iload_n hx hb dJ23_newCapacity_6 rfl (lv_at hl 2 rfl) ?_
  refine lv_aload_n hx hb dJ23_newCapacity_7 rfl (lv_at hl 1 rfl) ?_
  refine z_get hC (k := 1) rfl in_J24 (zo hS hq0 id) (by decide) q567 (fun _ h => h) rfl dJ23_newCapacity_8 ?_
  refine z_shl hx hb (i := need) (j := 0) (n := need * 2 ^ 0) dJ23_newCapacity_11 rfl rfl (by omega) rfl ?_
  refine z_top (b := ((need : Nat) : Int)) (by simp) ?_
  refine lv_istore_n (lv' := [(3, .int (iI ((need : Nat) : Int))), (2, .int (iI ((mm9 : Nat) : Int))), (0, .ref q), (1, .int (iI ((need : Nat) : Int)))]) hx hb dJ23_newCapacity_12 rfl hl (by decide) rfl (fun ls hl => ?_)
  refine lv_iload_n hx hb dJ23_newCapacity_13 rfl (lv_at hl 0 rfl) ?_
  refine lv_iload_n hx hb dJ23_newCapacity_14 rfl (lv_at hl 1 rfl) ?_
  refine z_sub hx hb (z := ((need : Nat) : Int) - ((mm9 : Nat) : Int)) dJ23_newCapacity_15 rfl ?_
  refine z_top (b := ((need - mm9 : Nat) : Int)) (by omega) ?_
  refine lv_istore (lv' := [(4, .int (iI ((need - mm9 : Nat) : Int))), (3, .int (iI ((need : Nat) : Int))), (2, .int (iI ((mm9 : Nat) : Int))), (0, .ref q), (1, .int (iI ((need : Nat) : Int)))]) hx hb dJ23_newCapacity_16 hl (by decide) rfl (fun ls hl => ?_)
  refine lv_iload_n hx hb dJ23_newCapacity_18 rfl (lv_at hl 2 rfl) ?_
  refine lv_iload hx hb dJ23_newCapacity_19 (lv_at hl 0 rfl) ?_
  refine lv_iload_n hx hb dJ23_newCapacity_21 rfl (lv_at hl 2 rfl) ?_
  refine lv_iconst (v := iI 2) hx hb dJ23_newCapacity_22 rfl ?_
  refine lv_aload_n hx hb dJ23_newCapacity_23 rfl (lv_at hl 3 rfl) ?_
  refine z_get hC (k := 1) rfl in_J24 (zo hS hq0 id) (by decide) q567 (fun _ h => h) rfl dJ23_newCapacity_24 ?_
  refine z_shl hx hb (i := 2) (j := 0) (n := 2 * 2 ^ 0) dJ23_newCapacity_27 rfl rfl (by omega) rfl ?_
  refine z_top (b := 2) (by simp) ?_
  refine z_add hx hb (z := ((mm9 : Nat) : Int) + 2) dJ23_newCapacity_28 rfl ?_
  refine z_top (b := ((mm9 + 2 : Nat) : Int)) (by omega) ?_
  refine z_go 0 0 (z_runS (As := [.int (iI ((mm9 : Nat) : Int)), .int (iI ((need - mm9 : Nat) : Int)), .int (iI ((mm9 + 2 : Nat) : Int))]) (rest := []) hC hml hl.1 (m_J9_newLength hE H0 (hO.ext0 (zS_F hS)) mm9 (need - mm9) (mm9 + 2) ⟨by omega, by omega, by omega, by omega⟩) (lw_S q603 q604 q77 q605) nd_J9_newLength rfl rfl (Nat.le_of_ble_eq_true rfl) ⟨Nat.le_of_ble_eq_true rfl, Nat.le_of_ble_eq_true rfl⟩ ⟨zfit (k := 0) (z := 0) rfl rfl (by omega), zfit (k := 0) (z := 0) rfl rfl (by omega)⟩ dJ23_newCapacity_29) ⟨zad (k := 0) rfl (by omega), zad (k := 0) rfl (by omega)⟩ hS (fun _ z => z.elim) (fun r H1 locs hp hF hS1 => ?_)
  obtain ⟨_, rfl, rfl⟩ := hp
  have hP := zpk hP hF
  have hP : va_P G.1 zCl ([]) H1 := hP
  have hD : va_D (zA M0 H0) ([]) := hD
  have hS := hS1
  refine lv_istore (lv' := [(5, .int (iI ((mm9 + (mm9 + 2) : Nat) : Int))), (4, .int (iI ((need - mm9 : Nat) : Int))), (3, .int (iI ((need : Nat) : Int))), (2, .int (iI ((mm9 : Nat) : Int))), (0, .ref q), (1, .int (iI ((need : Nat) : Int)))]) hx hb dJ23_newCapacity_32 hl (by decide) rfl (fun ls hl => ?_)
  refine lv_iload hx hb dJ23_newCapacity_34 (lv_at hl 0 rfl) ?_
  refine lv_ldc (v := iI 2147483647) hx hb hC.o (hC.t _ q613) dJ23_newCapacity_36 ?_
  refine z_cne (tgt := 51) hx hb dJ23_newCapacity_38 (by decide) (by omega) (fun c2 => ?_) (fun c2 => ?_)
  · refine lv_iload hx hb dJ23_newCapacity_51 (lv_at hl 0 rfl) ?_
    refine lv_aload_n hx hb dJ23_newCapacity_53 rfl (lv_at hl 4 rfl) ?_
    refine z_get hC (k := 1) rfl in_J24 (zo hS hq0 id) (by decide) q567 (fun _ h => h) rfl dJ23_newCapacity_54 ?_
    refine z_shr hx hb (i := mm9 + (mm9 + 2)) (j := 0) (n := (mm9 + (mm9 + 2)) / 2 ^ 0) dJ23_newCapacity_57 rfl rfl (by omega) rfl ?_
    refine z_top (b := ((2 * mm9 + 2 : Nat) : Int)) (by simp; omega) ?_
    exact z_iret hC hrt hlk hQ hS ⟨zle (z := 0) rfl (by omega), zle (z := 0) rfl (by omega)⟩ ⟨_, rfl, rfl⟩ dJ23_newCapacity_58
  · omega

abbrev rm_m_J23_ensure_a : Room := { frames := 0, cells := 0, slots := 0, locals := 0 }
set_option maxHeartbeats 4000000 in
theorem m_J23_ensure_a {l : Launch} {s0 : State} {G : zG} (hE : zE l s0 G) (H0 : Heap) (hO : zO s0 H0) (q arr n mm9 need : Nat) (f : Nat → Int) (hq0 : zAt G q (zOb 11 [.ref arr, .int (iI 0), .int (iI 0), .int (iI ((n : Nat) : Int))]) H0) (ha0 : zAt G arr (zB G mm9 f) H0) (hn : need ≤ mm9 ∧ mm9 ≤ 1000) : zM l s0 yJ23_ensureCapacityInternal cJ23_ensureCapacityInternal 3 (none : Option FieldType) rm_m_J23_ensure_a [.ref q, .int (iI ((need : Nat) : Int))] H0 M0 (rv (fun _ => True)) := by
  refine z_met hE (by decide +kernel) (Nat.le_of_ble_eq_true rfl) ?_
  intro pp ee ss mm args below meth cd Q ls hC hml hrt hlk hnm hH hQ hS hl
  have hx := hC.x
  have hb := hC.b
  have hl : lv_has ls 3 [(0, .ref q), (1, .int (iI ((need : Nat) : Int)))] := hl
  have hP : va_P G.1 zCl [] H0 := va_nil
  have hD : va_D (zA M0 H0) [] := va_nilD
  refine lv_aload_n hx hb dJ23_ensureCapacityInternal_0 rfl (lv_at hl 0 rfl) ?_
  refine z_get hC (k := 0) rfl in_J24 (zo hS hq0 id) (by decide) q566 (fun _ h => h) rfl dJ23_ensureCapacityInternal_1 ?_
  refine z_alen hC 2 (zo hS ha0 id) rfl (y := ((mm9 : Nat) : Int)) rfl dJ23_ensureCapacityInternal_4 ?_
  refine lv_aload_n hx hb dJ23_ensureCapacityInternal_5 rfl (lv_at hl 0 rfl) ?_
  refine z_get hC (k := 1) rfl in_J24 (zo hS hq0 id) (by decide) q567 (fun _ h => h) rfl dJ23_ensureCapacityInternal_6 ?_
  refine z_shr hx hb (i := mm9) (j := 0) (n := mm9 / 2 ^ 0) dJ23_ensureCapacityInternal_9 rfl rfl (by omega) rfl ?_
  refine z_top (b := ((mm9 : Nat) : Int)) (by simp) ?_
  refine lv_istore_n (lv' := [(2, .int (iI ((mm9 : Nat) : Int))), (0, .ref q), (1, .int (iI ((need : Nat) : Int)))]) hx hb dJ23_ensureCapacityInternal_10 rfl hl (by decide) rfl (fun ls hl => ?_)
  refine lv_iload_n hx hb dJ23_ensureCapacityInternal_11 rfl (lv_at hl 2 rfl) ?_
  refine lv_iload_n hx hb dJ23_ensureCapacityInternal_12 rfl (lv_at hl 0 rfl) ?_
  refine z_sub hx hb (z := ((need : Nat) : Int) - ((mm9 : Nat) : Int)) dJ23_ensureCapacityInternal_13 rfl ?_
  refine z_zle (tgt := 38) hx hb dJ23_ensureCapacityInternal_14 (by decide) (by omega) (fun c1 => ?_) (fun c1 => ?_)
  · exact z_vret hC hrt hlk hQ hS ⟨zle (z := 0) rfl (by omega), zle (z := 0) rfl (by omega)⟩ ⟨rfl, trivial⟩ dJ23_ensureCapacityInternal_38
  · omega

abbrev rm_m_J23_ensure_b : Room := { frames := 3, cells := 1, slots := 200, locals := 82 }
set_option maxHeartbeats 4000000 in
theorem m_J23_ensure_b {l : Launch} {s0 : State} {G : zG} (hE : zE l s0 G) (H0 : Heap) (hO : zO s0 H0) (q arr n mm9 need : Nat) (f : Nat → Int) (hb0 : s0.heap.size ≤ q ∧ q ≠ arr) (hq0 : zAt G q (zOb 11 [.ref arr, .int (iI 0), .int (iI 0), .int (iI ((n : Nat) : Int))]) H0) (ha0 : zAt G arr (zB G mm9 f) H0) (hn : mm9 < need ∧ need ≤ mm9 + 2 ∧ mm9 ≤ 70) (hf : asc mm9 f) : zM l s0 yJ23_ensureCapacityInternal cJ23_ensureCapacityInternal 3 (none : Option FieldType) rm_m_J23_ensure_b [.ref q, .int (iI ((need : Nat) : Int))] H0 (fun z => z = q) (rv (fun h1 => ∃ arr1, zAt G q (zOb 11 [.ref arr1, .int (iI 0), .int (iI 0), .int (iI ((n : Nat) : Int))]) h1 ∧ NW G H0 h1 [(arr1, zB G (2 * mm9 + 2) (fun j => if j < mm9 then f j else 0))])) := by
  refine z_met hE (by decide +kernel) (Nat.le_of_ble_eq_true rfl) ?_
  intro pp ee ss mm args below meth cd Q ls hC hml hrt hlk hnm hH hQ hS hl
  have hx := hC.x
  have hb := hC.b
  have hl : lv_has ls 3 [(0, .ref q), (1, .int (iI ((need : Nat) : Int)))] := hl
  have hP : va_P G.1 zCl [(q, zOb 11 [.ref arr, .int (iI 0), .int (iI 0), .int (iI ((n : Nat) : Int))])] H0 := zP1 hq0
  have hD : va_D (zA (fun z => z = q) H0) [(q, zOb 11 [.ref arr, .int (iI 0), .int (iI 0), .int (iI ((n : Nat) : Int))])] := zD1 (Or.inl rfl)
  have hMo : ∀ z, (fun z => z = q) z → s0.heap.size ≤ z := fun z hz => hz ▸ hb0.1
  refine lv_aload_n hx hb dJ23_ensureCapacityInternal_0 rfl (lv_at hl 0 rfl) ?_
  refine z_get hC (k := 0) rfl in_J24 (hP 0 _ rfl) (by decide) q566 (fun _ h => h) rfl dJ23_ensureCapacityInternal_1 ?_
  refine z_alen hC 2 (zo hS ha0 (fun e => hb0.2 e.symm)) rfl (y := ((mm9 : Nat) : Int)) rfl dJ23_ensureCapacityInternal_4 ?_
  refine lv_aload_n hx hb dJ23_ensureCapacityInternal_5 rfl (lv_at hl 0 rfl) ?_
  refine z_get hC (k := 1) rfl in_J24 (hP 0 _ rfl) (by decide) q567 (fun _ h => h) rfl dJ23_ensureCapacityInternal_6 ?_
  refine z_shr hx hb (i := mm9) (j := 0) (n := mm9 / 2 ^ 0) dJ23_ensureCapacityInternal_9 rfl rfl (by omega) rfl ?_
  refine z_top (b := ((mm9 : Nat) : Int)) (by simp) ?_
  refine lv_istore_n (lv' := [(2, .int (iI ((mm9 : Nat) : Int))), (0, .ref q), (1, .int (iI ((need : Nat) : Int)))]) hx hb dJ23_ensureCapacityInternal_10 rfl hl (by decide) rfl (fun ls hl => ?_)
  refine lv_iload_n hx hb dJ23_ensureCapacityInternal_11 rfl (lv_at hl 2 rfl) ?_
  refine lv_iload_n hx hb dJ23_ensureCapacityInternal_12 rfl (lv_at hl 0 rfl) ?_
  refine z_sub hx hb (z := ((need : Nat) : Int) - ((mm9 : Nat) : Int)) dJ23_ensureCapacityInternal_13 rfl ?_
  refine z_zle (tgt := 38) hx hb dJ23_ensureCapacityInternal_14 (by decide) (by omega) (fun c1 => ?_) (fun c1 => ?_)
  · omega
  · refine lv_aload_n hx hb dJ23_ensureCapacityInternal_17 rfl (lv_at hl 1 rfl) ?_
    refine lv_aload_n hx hb dJ23_ensureCapacityInternal_18 rfl (lv_at hl 1 rfl) ?_
    refine z_get hC (k := 0) rfl in_J24 (hP 0 _ rfl) (by decide) q566 (fun _ h => h) rfl dJ23_ensureCapacityInternal_19 ?_
    refine lv_aload_n hx hb dJ23_ensureCapacityInternal_22 rfl (lv_at hl 1 rfl) ?_
    refine lv_iload_n hx hb dJ23_ensureCapacityInternal_23 rfl (lv_at hl 2 rfl) ?_
    refine z_go 0 0 (z_runP (n := 1) (As := [.int (iI ((need : Nat) : Int))]) (rest := [.ref arr, .ref q]) hC hml hl.1 (m_J23_newCapacity hE H0 (hO.ext (zS_F hS) hMo) q arr n mm9 need f (hP 0 _ rfl) (zo hS ha0 (fun e => hb0.2 e.symm)) hn) q602 q599 q601 q97 q600 q1949 nd_J23_newCapacity rfl (z_rv hC (ci := 11) rfl (hP 0 _ rfl) rfl) rfl (Nat.le_of_ble_eq_true rfl) ⟨Nat.le_of_ble_eq_true rfl, Nat.le_of_ble_eq_true rfl⟩ ⟨zfit (k := 0) (z := 1) rfl rfl (by omega), zfit (k := 0) (z := 200) rfl rfl (by omega)⟩ dJ23_ensureCapacityInternal_24) ⟨zad (k := 0) rfl (by omega), zad (k := 0) rfl (by omega)⟩ hS (fun _ z => z.elim) (fun r H2 locs hp hF hS1 => ?_)
    obtain ⟨_, rfl, rfl⟩ := hp
    have hP := zpk hP hF
    have hP : va_P G.1 zCl ([(q, zOb 11 [.ref arr, .int (iI 0), .int (iI 0), .int (iI ((n : Nat) : Int))])]) H2 := hP
    have hD : va_D (zA (fun z => z = q) H0) ([(q, zOb 11 [.ref arr, .int (iI 0), .int (iI 0), .int (iI ((n : Nat) : Int))])]) := hD
    have hS := hS1
    refine lv_aload_n hx hb dJ23_ensureCapacityInternal_27 rfl (lv_at hl 1 rfl) ?_
    refine z_get hC (k := 1) rfl in_J24 (hP 0 _ rfl) (by decide) q567 (fun _ h => h) rfl dJ23_ensureCapacityInternal_28 ?_
    refine z_shl hx hb (i := 2 * mm9 + 2) (j := 0) (n := (2 * mm9 + 2) * 2 ^ 0) dJ23_ensureCapacityInternal_31 rfl rfl (by omega) rfl ?_
    refine z_top (b := ((2 * mm9 + 2 : Nat) : Int)) (by simp) ?_
    refine z_go 1 200 (z_runS (As := [.ref arr, .int (iI ((2 * mm9 + 2 : Nat) : Int))]) (rest := [.ref q]) hC hml hl.1 (m_J11_copyOf hE H2 (hO.ext (zS_F hS) hMo) arr mm9 (2 * mm9 + 2) f (zo hS ha0 (fun e => hb0.2 e.symm)) (by omega) hf) (lw_S q614 q615 q79 q616) nd_J11_copyOf rfl rfl (Nat.le_of_ble_eq_true rfl) ⟨Nat.le_of_ble_eq_true rfl, Nat.le_of_ble_eq_true rfl⟩ ⟨zfit (k := 1) (z := 1) rfl rfl (by omega), zfit (k := 200) (z := 200) rfl rfl (by omega)⟩ dJ23_ensureCapacityInternal_32) ⟨zad (k := 1) rfl (by omega), zad (k := 200) rfl (by omega)⟩ hS (fun _ z => z.elim) (fun r H4 locs hp hF hS1 => ?_)
    obtain ⟨qb3, rfl, hN⟩ := hp
    obtain ⟨hP, hD⟩ := zjn hP hD hS.1 hF hN
    have hP : va_P G.1 zCl ([(q, zOb 11 [.ref arr, .int (iI 0), .int (iI 0), .int (iI ((n : Nat) : Int))]), (qb3, zB G (2 * mm9 + 2) (fun j => if j < mm9 then f j else 0))]) H4 := hP
    have hD : va_D (zA (fun z => z = q) H0) ([(q, zOb 11 [.ref arr, .int (iI 0), .int (iI 0), .int (iI ((n : Nat) : Int))]), (qb3, zB G (2 * mm9 + 2) (fun j => if j < mm9 then f j else 0))]) := hD
    have hS := hS1
    refine z_put hC hP hD hS 0 (k := 0) rfl rfl in_J24 tyJ24_ok nmJ24 (by decide) q566 (fun _ h => h) rfl rfl rfl rfl (Nat.le_of_ble_eq_true rfl) (ws' := [(q, zOb 11 [.ref qb3, .int (iI 0), .int (iI 0), .int (iI ((n : Nat) : Int))]), (qb3, zB G (2 * mm9 + 2) (fun j => if j < mm9 then f j else 0))]) rfl dJ23_ensureCapacityInternal_35 (fun H5 locs hP hD hS => ?_)
    exact z_vret hC hrt hlk hQ hS ⟨zle (z := 1) rfl (by omega), zle (z := 200) rfl (by omega)⟩ ⟨rfl, _, hP 0 _ rfl, zP1 (hP 1 _ rfl), zD1 (Nat.le_trans hS.1 (Nat.le_refl _) |> fun _ => (hD.2 1 _ rfl).resolve_left (fun e => (hD.1 0 1 _ _ rfl rfl e.symm) |> fun w => by cases w))⟩ dJ23_ensureCapacityInternal_38

