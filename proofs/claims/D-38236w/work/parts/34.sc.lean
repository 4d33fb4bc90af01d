/-! THE JDK: letters and numbers are appended; a text is made -/
set_option maxRecDepth 100000
def gcV (f : Nat → Int) (e v : Nat) : Nat → Int := if v < 10 then va_up f (e - 1) (((48 + v % 10 : Nat)) : Int) else va_up (va_up f (e - 1) (((48 + v % 10 : Nat)) : Int)) (e - 2) (((48 + v / 10 : Nat)) : Int)
def ssz (v : Nat) : Nat := if v < 10 then 1 else 2
theorem ssz_in (v : Nat) : 1 ≤ ssz v ∧ ssz v ≤ 2 := by unfold ssz; split <;> omega
theorem zB_congr {G : zG} {a n : Nat} {v w : Nat → Int} {H : Heap} (h : zAt G a (zB G n v) H) (hw : ∀ j, j < n → v j = w j) : zAt G a (zB G n w) H := by
  have h1 : H[a]? = some (vp_cell (G.2 2) (n, .inl (fun j => iI (v j)))) := h
  show H[a]? = some (vp_cell (G.2 2) (n, .inl (fun j => iI (w j))))
  rw [h1, vp_cell_i, vp_cell_i]
  congr 1
  exact arrV_congr (fun j hj => by rw [hw j hj])
theorem zcB {G : zG} {ws : va_W} {H : Heap} {n : Nat} {a : Nat} {v w : Nat → Int} (hP : va_P G.1 zCl ws H) (i : Nat) (hi : ws[i]? = some (a, zB G n v)) (hw : ∀ j, j < n → v j = w j) : va_P G.1 zCl (ws.set i (a, zB G n w)) H := by
  intro k q hk
  rw [List.getElem?_set] at hk
  split at hk
  · split at hk
    · cases hk; exact zB_congr (hP i _ hi) hw
    · cases hk
  · exact hP k q hk
section SC
variable {p : Program} {l : Launch} {e : Env} {R : Room} {s : State} {m : MethodId} {args : Array Value} {below : List Frame} {meth : Method} {c : Code} {H : Heap} {locs : List Loc} {cells slots : Nat} {Q : State → Prop}
variable {cc : ByteArray} {pc : Nat} {ls : Array Slot} {rest : List Value} {s0 : State} {G : zG} {own : String}
theorem z_lds (h : zC p l s0 G s m args c own cc) {tx : String} {index q : Nat} (hZ : vk_R own index tx q s0) (hdg : decode cc pc = .ok (.ldc index, 2)) (k : W p l e R s m args below meth c H locs cells slots Q (F0 m (pc + 2) ls (.ref q :: rest))) : W p l e R s m args below meth c H locs cells slots Q (F0 m pc ls rest) := va_ldcS h.x h.b h.o (hZ.warm h.w) hdg k
end SC
abbrev rm_m_J23_append_a : Room := { frames := 1, cells := 0, slots := 0, locals := 22 }
set_option maxHeartbeats 4000000 in
theorem m_J23_append_a {l : Launch} {s0 : State} {G : zG} (hE : zE l s0 G) (H0 : Heap) (hO : zO s0 H0) (q arr n mm9 : Nat) (f : Nat → Int) (c : Nat) (hb0 : (s0.heap.size ≤ q ∧ s0.heap.size ≤ arr) ∧ q ≠ arr) (hq0 : zAt G q (zOb 11 [.ref arr, .int (iI 0), .int (iI 0), .int (iI ((n : Nat) : Int))]) H0) (ha0 : zAt G arr (zB G mm9 f) H0) (hn : n + 1 ≤ mm9 ∧ mm9 ≤ 1000) (hc : c < 128) : zM l s0 yJ23_append cJ23_append 2 (some (FieldType.object "java/lang/AbstractStringBuilder")) rm_m_J23_append_a [.ref q, .int (iI ((c : Nat) : Int))] H0 (fun z => z = q ∨ z = arr) (rr (fun y h1 => y = q ∧ zAt G q (zOb 11 [.ref arr, .int (iI 0), .int (iI 0), .int (iI ((n + 1 : Nat) : Int))]) h1 ∧ zAt G arr (zB G mm9 (va_up f n ((c : Nat) : Int))) h1)) := by
  refine z_met hE (by decide +kernel) (Nat.le_of_ble_eq_true rfl) ?_
  intro pp ee ss mm args below meth cd Q ls hC hml hrt hlk hnm hH hQ hS hl
  have hx := hC.x
  have hb := hC.b
  have hl : lv_has ls 2 [(0, .ref q), (1, .int (iI ((c : Nat) : Int)))] := hl
  have hP : va_P G.1 zCl [(q, zOb 11 [.ref arr, .int (iI 0), .int (iI 0), .int (iI ((n : Nat) : Int))]), (arr, zB G mm9 f)] H0 := zP2 hq0 ha0
  have hD : va_D (zA (fun z => z = q ∨ z = arr) H0) [(q, zOb 11 [.ref arr, .int (iI 0), .int (iI 0), .int (iI ((n : Nat) : Int))]), (arr, zB G mm9 f)] := zD2 (Or.inl (Or.inl rfl)) (Or.inl (Or.inr rfl)) hb0.2
  have hMo : ∀ z, (fun z => z = q ∨ z = arr) z → s0.heap.size ≤ z := fun z hz => hz.elim (fun e => e ▸ hb0.1.1) (fun e => e ▸ hb0.1.2)
  refine lv_aload_n hx hb dJ23_append_0 rfl (lv_at hl 0 rfl) ?_
  refine lv_aload_n hx hb dJ23_append_1 rfl (lv_at hl 0 rfl) ?_
  refine z_get hC (k := 3) rfl in_J24 (hP 0 _ rfl) (by decide) q569 (fun _ h => h) rfl dJ23_append_2 ?_
  refine lv_iconst (v := iI 1) hx hb dJ23_append_5 rfl ?_
  refine z_add hx hb (z := ((n : Nat) : Int) + 1) dJ23_append_6 rfl ?_
  refine z_top (b := ((n + 1 : Nat) : Int)) (by omega) ?_
  refine z_go 0 0 (z_runP (n := 1) (As := [.int (iI ((n + 1 : Nat) : Int))]) (rest := []) hC hml hl.1 (m_J23_ensure_a hE H0 (hO.ext (zS_F hS) hMo) q arr n mm9 (n + 1) f (hP 0 _ rfl) (hP 1 _ rfl) (by omega)) q598 q595 q597 q97 q596 q1948 nd_J23_ensureCapacityInternal rfl (z_rv hC (ci := 11) rfl (hP 0 _ rfl) rfl) rfl (Nat.le_of_ble_eq_true rfl) ⟨Nat.le_of_ble_eq_true rfl, Nat.le_of_ble_eq_true rfl⟩ ⟨zfit (k := 0) (z := 0) rfl rfl (by omega), zfit (k := 0) (z := 0) rfl rfl (by omega)⟩ dJ23_append_7) ⟨zad (k := 0) rfl (by omega), zad (k := 0) rfl (by omega)⟩ hS (fun _ z => z.elim) (fun r H1 locs hp hF hS1 => ?_)
  obtain ⟨rfl, -⟩ := hp
  have hP := zpk hP hF
  have hP : va_P G.1 zCl ([(q, zOb 11 [.ref arr, .int (iI 0), .int (iI 0), .int (iI ((n : Nat) : Int))]), (arr, zB G mm9 f)]) H1 := hP
  have hD : va_D (zA (fun z => z = q ∨ z = arr) H0) ([(q, zOb 11 [.ref arr, .int (iI 0), .int (iI 0), .int (iI ((n : Nat) : Int))]), (arr, zB G mm9 f)]) := hD
  have hS := hS1
  refine lv_aload_n hx hb dJ23_append_10 rfl (lv_at hl 0 rfl) ?_
  refine z_go 0 0 (z_runU (n := 0) (As := []) (rest := []) hC hml hl.1 (m_J23_isLatin1 hE H1 (hO.ext (zS_F hS) hMo) q arr n (hP 0 _ rfl)) q634 q630 q632 q633 q631 q97 ⟨by decide +kernel, by decide +kernel, by decide +kernel⟩ rfl (z_rv hC (ci := 11) rfl (hP 0 _ rfl) rfl) rfl (Nat.le_of_ble_eq_true rfl) ⟨Nat.le_of_ble_eq_true rfl, Nat.le_of_ble_eq_true rfl⟩ ⟨zfit (k := 0) (z := 0) rfl rfl (by omega), zfit (k := 0) (z := 0) rfl rfl (by omega)⟩ dJ23_append_11) ⟨zad (k := 0) rfl (by omega), zad (k := 0) rfl (by omega)⟩ hS (fun _ z => z.elim) (fun r H2 locs hp hF hS1 => ?_)
  obtain ⟨_, rfl, rfl⟩ := hp
  have hP := zpk hP hF
  have hP : va_P G.1 zCl ([(q, zOb 11 [.ref arr, .int (iI 0), .int (iI 0), .int (iI ((n : Nat) : Int))]), (arr, zB G mm9 f)]) H2 := hP
  have hD : va_D (zA (fun z => z = q ∨ z = arr) H0) ([(q, zOb 11 [.ref arr, .int (iI 0), .int (iI 0), .int (iI ((n : Nat) : Int))]), (arr, zB G mm9 f)]) := hD
  have hS := hS1
  refine z_zeq (tgt := 45) hx hb dJ23_append_14 (by decide) (by omega) (fun c3 => ?_) (fun c3 => ?_)
  · omega
  · refine lv_iload_n hx hb dJ23_append_17 rfl (lv_at hl 1 rfl) ?_
    refine z_go 0 0 (z_runS (As := [.int (iI ((c : Nat) : Int))]) (rest := []) hC hml hl.1 (m_J22_canEncode hE H2 (hO.ext (zS_F hS) hMo) c hc) (lw_S q635 q636 q96 q637) nd_J22_canEncode rfl rfl (Nat.le_of_ble_eq_true rfl) ⟨Nat.le_of_ble_eq_true rfl, Nat.le_of_ble_eq_true rfl⟩ ⟨zfit (k := 0) (z := 0) rfl rfl (by omega), zfit (k := 0) (z := 0) rfl rfl (by omega)⟩ dJ23_append_18) ⟨zad (k := 0) rfl (by omega), zad (k := 0) rfl (by omega)⟩ hS (fun _ z => z.elim) (fun r H4 locs hp hF hS1 => ?_)
    obtain ⟨_, rfl, rfl⟩ := hp
    have hP := zpk hP hF
    have hP : va_P G.1 zCl ([(q, zOb 11 [.ref arr, .int (iI 0), .int (iI 0), .int (iI ((n : Nat) : Int))]), (arr, zB G mm9 f)]) H4 := hP
    have hD : va_D (zA (fun z => z = q ∨ z = arr) H0) ([(q, zOb 11 [.ref arr, .int (iI 0), .int (iI 0), .int (iI ((n : Nat) : Int))]), (arr, zB G mm9 f)]) := hD
    have hS := hS1
    refine z_zeq (tgt := 45) hx hb dJ23_append_21 (by decide) (by omega) (fun c5 => ?_) (fun c5 => ?_)
    · omega
    · refine lv_aload_n hx hb dJ23_append_24 rfl (lv_at hl 0 rfl) ?_
      refine z_get hC (k := 0) rfl in_J24 (hP 0 _ rfl) (by decide) q566 (fun _ h => h) rfl dJ23_append_25 ?_
      refine lv_aload_n hx hb dJ23_append_28 rfl (lv_at hl 0 rfl) ?_
      refine lv_dup hx hb dJ23_append_29 rfl ?_
      refine z_get hC (k := 3) rfl in_J24 (hP 0 _ rfl) (by decide) q569 (fun _ h => h) rfl dJ23_append_30 ?_
      refine lv_dup_x1 hx hb dJ23_append_33 rfl rfl ?_
      refine lv_iconst (v := iI 1) hx hb dJ23_append_34 rfl ?_
      refine z_add hx hb (z := ((n : Nat) : Int) + 1) dJ23_append_35 rfl ?_
      refine z_top (b := ((n + 1 : Nat) : Int)) (by omega) ?_
      refine z_put hC hP hD hS 0 (k := 3) rfl rfl in_J24 tyJ24_ok nmJ24 (by decide) q569 (fun _ h => h) rfl rfl rfl rfl (Nat.le_of_ble_eq_true rfl) (ws' := [(q, zOb 11 [.ref arr, .int (iI 0), .int (iI 0), .int (iI ((n + 1 : Nat) : Int))]), (arr, zB G mm9 f)]) rfl dJ23_append_36 (fun H6 locs hP hD hS => ?_)
      refine lv_iload_n hx hb dJ23_append_39 rfl (lv_at hl 1 rfl) ?_
      refine z_i2b hx hb dJ23_append_40 (by omega) ?_
      refine z_bast hC hP hD hS 1 (k := n) rfl rfl (by omega) (by omega) (ws' := [(q, zOb 11 [.ref arr, .int (iI 0), .int (iI 0), .int (iI ((n + 1 : Nat) : Int))]), (arr, zB G mm9 (va_up f n ((c : Nat) : Int)))]) rfl dJ23_append_41 (fun H7 locs hP hD hS => ?_)
      refine lv_goto (tgt := 75) hx hb dJ23_append_42 (by decide) ?_
      refine lv_aload_n hx hb dJ23_append_75 rfl (lv_at hl 0 rfl) ?_
      exact z_aret hC hrt hlk hQ hS ⟨zle (z := 0) rfl (by omega), zle (z := 0) rfl (by omega)⟩ ⟨_, rfl, rfl, hP 0 _ rfl, hP 1 _ rfl⟩ dJ23_append_76

abbrev rm_m_J24_append_a : Room := { frames := 2, cells := 0, slots := 0, locals := 43 }
set_option maxHeartbeats 4000000 in
theorem m_J24_append_a {l : Launch} {s0 : State} {G : zG} (hE : zE l s0 G) (H0 : Heap) (hO : zO s0 H0) (q arr n mm9 : Nat) (f : Nat → Int) (c : Nat) (hb0 : (s0.heap.size ≤ q ∧ s0.heap.size ≤ arr) ∧ q ≠ arr) (hq0 : zAt G q (zOb 11 [.ref arr, .int (iI 0), .int (iI 0), .int (iI ((n : Nat) : Int))]) H0) (ha0 : zAt G arr (zB G mm9 f) H0) (hn : n + 1 ≤ mm9 ∧ mm9 ≤ 1000) (hc : c < 128) : zM l s0 yJ24_append cJ24_append 2 (some (FieldType.object "java/lang/StringBuilder")) rm_m_J24_append_a [.ref q, .int (iI ((c : Nat) : Int))] H0 (fun z => z = q ∨ z = arr) (rr (fun y h1 => y = q ∧ zAt G q (zOb 11 [.ref arr, .int (iI 0), .int (iI 0), .int (iI ((n + 1 : Nat) : Int))]) h1 ∧ zAt G arr (zB G mm9 (va_up f n ((c : Nat) : Int))) h1)) := by
  refine z_met hE (by decide +kernel) (Nat.le_of_ble_eq_true rfl) ?_
  intro pp ee ss mm args below meth cd Q ls hC hml hrt hlk hnm hH hQ hS hl
  have hx := hC.x
  have hb := hC.b
  have hl : lv_has ls 2 [(0, .ref q), (1, .int (iI ((c : Nat) : Int)))] := hl
  have hP : va_P G.1 zCl [(q, zOb 11 [.ref arr, .int (iI 0), .int (iI 0), .int (iI ((n : Nat) : Int))]), (arr, zB G mm9 f)] H0 := zP2 hq0 ha0
  have hD : va_D (zA (fun z => z = q ∨ z = arr) H0) [(q, zOb 11 [.ref arr, .int (iI 0), .int (iI 0), .int (iI ((n : Nat) : Int))]), (arr, zB G mm9 f)] := zD2 (Or.inl (Or.inl rfl)) (Or.inl (Or.inr rfl)) hb0.2
  have hMo : ∀ z, (fun z => z = q ∨ z = arr) z → s0.heap.size ≤ z := fun z hz => hz.elim (fun e => e ▸ hb0.1.1) (fun e => e ▸ hb0.1.2)
  refine lv_aload_n hx hb dJ24_append_0 rfl (lv_at hl 0 rfl) ?_
  refine lv_iload_n hx hb dJ24_append_1 rfl (lv_at hl 1 rfl) ?_
  refine z_go 0 0 (z_runSp (ci := 11) (n := 1) (As := [.int (iI ((c : Nat) : Int))]) (rest := []) hC hml hl.1 (m_J23_append_a hE H0 (hO.ext (zS_F hS) hMo) q arr n mm9 f c hb0 (hP 0 _ rfl) (hP 1 _ rfl) hn hc) q594 q592 q1947 q578 q593 q97 ⟨by decide +kernel, by decide +kernel⟩ rfl rfl rfl (z_rv hC (ci := 11) rfl (hP 0 _ rfl) rfl) rfl (Nat.le_of_ble_eq_true rfl) ⟨Nat.le_of_ble_eq_true rfl, Nat.le_of_ble_eq_true rfl⟩ ⟨zfit (k := 0) (z := 0) rfl rfl (by omega), zfit (k := 0) (z := 0) rfl rfl (by omega)⟩ dJ24_append_2) ⟨zad (k := 0) rfl (by omega), zad (k := 0) rfl (by omega)⟩ hS (fun q z => z.elim (fun y => by rw [y]; exact hD.2 0 _ rfl) (fun y => by rw [y]; exact hD.2 1 _ rfl)) (fun r H1 locs hp hF hS1 => ?_)
  obtain ⟨y9, rfl, -, hm1, hm2⟩ := hp
  obtain ⟨hP, hD⟩ := zjm2 hP hD hF 0 1 rfl rfl hm1 hm2
  have hP : va_P G.1 zCl ([(q, zOb 11 [.ref arr, .int (iI 0), .int (iI 0), .int (iI ((n + 1 : Nat) : Int))]), (arr, zB G mm9 (va_up f n ((c : Nat) : Int)))]) H1 := hP
  have hD : va_D (zA (fun z => z = q ∨ z = arr) H0) ([(q, zOb 11 [.ref arr, .int (iI 0), .int (iI 0), .int (iI ((n + 1 : Nat) : Int))]), (arr, zB G mm9 (va_up f n ((c : Nat) : Int)))]) := hD
  have hS := hS1
  refine lv_pop hx hb dJ24_append_5 rfl ?_
  refine lv_aload_n hx hb dJ24_append_6 rfl (lv_at hl 0 rfl) ?_
  exact z_aret hC hrt hlk hQ hS ⟨zle (z := 0) rfl (by omega), zle (z := 0) rfl (by omega)⟩ ⟨_, rfl, rfl, hP 0 _ rfl, hP 1 _ rfl⟩ dJ24_append_7

abbrev rm_m_J23_append_b : Room := { frames := 4, cells := 1, slots := 200, locals := 104 }
set_option maxHeartbeats 4000000 in
theorem m_J23_append_b {l : Launch} {s0 : State} {G : zG} (hE : zE l s0 G) (H0 : Heap) (hO : zO s0 H0) (q arr n mm9 : Nat) (f : Nat → Int) (c : Nat) (hb0 : s0.heap.size ≤ q ∧ q ≠ arr) (hq0 : zAt G q (zOb 11 [.ref arr, .int (iI 0), .int (iI 0), .int (iI ((n : Nat) : Int))]) H0) (ha0 : zAt G arr (zB G mm9 f) H0) (hf : asc mm9 f) (hn : n = mm9 ∧ mm9 ≤ 70) (hc : c < 128) : zM l s0 yJ23_append cJ23_append 2 (some (FieldType.object "java/lang/AbstractStringBuilder")) rm_m_J23_append_b [.ref q, .int (iI ((c : Nat) : Int))] H0 (fun z => z = q) (rr (fun y h1 => y = q ∧ ∃ arr1, zAt G q (zOb 11 [.ref arr1, .int (iI 0), .int (iI 0), .int (iI ((n + 1 : Nat) : Int))]) h1 ∧ NW G H0 h1 [(arr1, zB G (2 * mm9 + 2) (va_up (fun j => if j < mm9 then f j else 0) n ((c : Nat) : Int)))])) := by
  refine z_met hE (by decide +kernel) (Nat.le_of_ble_eq_true rfl) ?_
  intro pp ee ss mm args below meth cd Q ls hC hml hrt hlk hnm hH hQ hS hl
  have hx := hC.x
  have hb := hC.b
  have hl : lv_has ls 2 [(0, .ref q), (1, .int (iI ((c : Nat) : Int)))] := hl
  have hP : va_P G.1 zCl [(q, zOb 11 [.ref arr, .int (iI 0), .int (iI 0), .int (iI ((n : Nat) : Int))])] H0 := zP1 hq0
  have hD : va_D (zA (fun z => z = q) H0) [(q, zOb 11 [.ref arr, .int (iI 0), .int (iI 0), .int (iI ((n : Nat) : Int))])] := zD1 (Or.inl rfl)
  have hMo : ∀ z, (fun z => z = q) z → s0.heap.size ≤ z := fun z hz => hz ▸ hb0.1
  refine lv_aload_n hx hb dJ23_append_0 rfl (lv_at hl 0 rfl) ?_
  refine lv_aload_n hx hb dJ23_append_1 rfl (lv_at hl 0 rfl) ?_
  refine z_get hC (k := 3) rfl in_J24 (hP 0 _ rfl) (by decide) q569 (fun _ h => h) rfl dJ23_append_2 ?_
  refine lv_iconst (v := iI 1) hx hb dJ23_append_5 rfl ?_
  refine z_add hx hb (z := ((n : Nat) : Int) + 1) dJ23_append_6 rfl ?_
  refine z_top (b := ((n + 1 : Nat) : Int)) (by omega) ?_
  refine z_go 1 200 (z_runP (n := 1) (As := [.int (iI ((n + 1 : Nat) : Int))]) (rest := []) hC hml hl.1 (m_J23_ensure_b hE H0 (hO.ext (zS_F hS) hMo) q arr n mm9 (n + 1) f hb0 (hP 0 _ rfl) (zo hS ha0 (fun e => hb0.2 e.symm)) (by omega) hf) q598 q595 q597 q97 q596 q1948 nd_J23_ensureCapacityInternal rfl (z_rv hC (ci := 11) rfl (hP 0 _ rfl) rfl) rfl (Nat.le_of_ble_eq_true rfl) ⟨Nat.le_of_ble_eq_true rfl, Nat.le_of_ble_eq_true rfl⟩ ⟨zfit (k := 1) (z := 1) rfl rfl (by omega), zfit (k := 200) (z := 200) rfl rfl (by omega)⟩ dJ23_append_7) ⟨zad (k := 1) rfl (by omega), zad (k := 200) rfl (by omega)⟩ hS (fun q z => by subst z; exact hD.2 0 _ rfl) (fun r H2 locs hp hF hS1 => ?_)
  obtain ⟨rfl, ab1, hm, hN⟩ := hp
  obtain ⟨hP, hD⟩ := zjmn hP hD hS.1 hF 0 rfl hm hN
  have hP : va_P G.1 zCl ([(q, zOb 11 [.ref ab1, .int (iI 0), .int (iI 0), .int (iI ((n : Nat) : Int))]), (ab1, zB G (2 * mm9 + 2) (fun j => if j < mm9 then f j else 0))]) H2 := hP
  have hD : va_D (zA (fun z => z = q) H0) ([(q, zOb 11 [.ref ab1, .int (iI 0), .int (iI 0), .int (iI ((n : Nat) : Int))]), (ab1, zB G (2 * mm9 + 2) (fun j => if j < mm9 then f j else 0))]) := hD
  have hS := hS1
  refine lv_aload_n hx hb dJ23_append_10 rfl (lv_at hl 0 rfl) ?_
  refine z_go 1 200 (z_runU (n := 0) (As := []) (rest := []) hC hml hl.1 (m_J23_isLatin1 hE H2 (hO.ext (zS_F hS) hMo) q ab1 n (hP 0 _ rfl)) q634 q630 q632 q633 q631 q97 ⟨by decide +kernel, by decide +kernel, by decide +kernel⟩ rfl (z_rv hC (ci := 11) rfl (hP 0 _ rfl) rfl) rfl (Nat.le_of_ble_eq_true rfl) ⟨Nat.le_of_ble_eq_true rfl, Nat.le_of_ble_eq_true rfl⟩ ⟨zfit (k := 0) (z := 1) rfl rfl (by omega), zfit (k := 0) (z := 200) rfl rfl (by omega)⟩ dJ23_append_11) ⟨zad (k := 0) rfl (by omega), zad (k := 0) rfl (by omega)⟩ hS (fun _ z => z.elim) (fun r H3 locs hp hF hS1 => ?_)
  obtain ⟨_, rfl, rfl⟩ := hp
  have hP := zpk hP hF
  have hP : va_P G.1 zCl ([(q, zOb 11 [.ref ab1, .int (iI 0), .int (iI 0), .int (iI ((n : Nat) : Int))]), (ab1, zB G (2 * mm9 + 2) (fun j => if j < mm9 then f j else 0))]) H3 := hP
  have hD : va_D (zA (fun z => z = q) H0) ([(q, zOb 11 [.ref ab1, .int (iI 0), .int (iI 0), .int (iI ((n : Nat) : Int))]), (ab1, zB G (2 * mm9 + 2) (fun j => if j < mm9 then f j else 0))]) := hD
  have hS := hS1
  refine z_zeq (tgt := 45) hx hb dJ23_append_14 (by decide) (by omega) (fun c4 => ?_) (fun c4 => ?_)
  · omega
  · refine lv_iload_n hx hb dJ23_append_17 rfl (lv_at hl 1 rfl) ?_
    refine z_go 1 200 (z_runS (As := [.int (iI ((c : Nat) : Int))]) (rest := []) hC hml hl.1 (m_J22_canEncode hE H3 (hO.ext (zS_F hS) hMo) c hc) (lw_S q635 q636 q96 q637) nd_J22_canEncode rfl rfl (Nat.le_of_ble_eq_true rfl) ⟨Nat.le_of_ble_eq_true rfl, Nat.le_of_ble_eq_true rfl⟩ ⟨zfit (k := 0) (z := 1) rfl rfl (by omega), zfit (k := 0) (z := 200) rfl rfl (by omega)⟩ dJ23_append_18) ⟨zad (k := 0) rfl (by omega), zad (k := 0) rfl (by omega)⟩ hS (fun _ z => z.elim) (fun r H5 locs hp hF hS1 => ?_)
    obtain ⟨_, rfl, rfl⟩ := hp
    have hP := zpk hP hF
    have hP : va_P G.1 zCl ([(q, zOb 11 [.ref ab1, .int (iI 0), .int (iI 0), .int (iI ((n : Nat) : Int))]), (ab1, zB G (2 * mm9 + 2) (fun j => if j < mm9 then f j else 0))]) H5 := hP
    have hD : va_D (zA (fun z => z = q) H0) ([(q, zOb 11 [.ref ab1, .int (iI 0), .int (iI 0), .int (iI ((n : Nat) : Int))]), (ab1, zB G (2 * mm9 + 2) (fun j => if j < mm9 then f j else 0))]) := hD
    have hS := hS1
    refine z_zeq (tgt := 45) hx hb dJ23_append_21 (by decide) (by omega) (fun c6 => ?_) (fun c6 => ?_)
    · omega
    · refine lv_aload_n hx hb dJ23_append_24 rfl (lv_at hl 0 rfl) ?_
      refine z_get hC (k := 0) rfl in_J24 (hP 0 _ rfl) (by decide) q566 (fun _ h => h) rfl dJ23_append_25 ?_
      refine lv_aload_n hx hb dJ23_append_28 rfl (lv_at hl 0 rfl) ?_
      refine lv_dup hx hb dJ23_append_29 rfl ?_
      refine z_get hC (k := 3) rfl in_J24 (hP 0 _ rfl) (by decide) q569 (fun _ h => h) rfl dJ23_append_30 ?_
      refine lv_dup_x1 hx hb dJ23_append_33 rfl rfl ?_
      refine lv_iconst (v := iI 1) hx hb dJ23_append_34 rfl ?_
      refine z_add hx hb (z := ((n : Nat) : Int) + 1) dJ23_append_35 rfl ?_
      refine z_top (b := ((n + 1 : Nat) : Int)) (by omega) ?_
      refine z_put hC hP hD hS 0 (k := 3) rfl rfl in_J24 tyJ24_ok nmJ24 (by decide) q569 (fun _ h => h) rfl rfl rfl rfl (Nat.le_of_ble_eq_true rfl) (ws' := [(q, zOb 11 [.ref ab1, .int (iI 0), .int (iI 0), .int (iI ((n + 1 : Nat) : Int))]), (ab1, zB G (2 * mm9 + 2) (fun j => if j < mm9 then f j else 0))]) rfl dJ23_append_36 (fun H7 locs hP hD hS => ?_)
      refine lv_iload_n hx hb dJ23_append_39 rfl (lv_at hl 1 rfl) ?_
      refine z_i2b hx hb dJ23_append_40 (by omega) ?_
      refine z_bast hC hP hD hS 1 (k := n) rfl rfl (by omega) (by omega) (ws' := [(q, zOb 11 [.ref ab1, .int (iI 0), .int (iI 0), .int (iI ((n + 1 : Nat) : Int))]), (ab1, zB G (2 * mm9 + 2) (va_up (fun j => if j < mm9 then f j else 0) n ((c : Nat) : Int)))]) rfl dJ23_append_41 (fun H8 locs hP hD hS => ?_)
      refine lv_goto (tgt := 75) hx hb dJ23_append_42 (by decide) ?_
      refine lv_aload_n hx hb dJ23_append_75 rfl (lv_at hl 0 rfl) ?_
      exact z_aret hC hrt hlk hQ hS ⟨zle (z := 1) rfl (by omega), zle (z := 200) rfl (by omega)⟩ ⟨_, rfl, rfl, ab1, hP 0 _ rfl, zP1 (hP 1 _ rfl), zD1 ((hD.2 1 _ rfl).resolve_left (fun e => by have := hD.1 0 1 _ _ rfl rfl e.symm; omega))⟩ dJ23_append_76

abbrev rm_m_J24_append_b : Room := { frames := 5, cells := 1, slots := 200, locals := 125 }
set_option maxHeartbeats 4000000 in
theorem m_J24_append_b {l : Launch} {s0 : State} {G : zG} (hE : zE l s0 G) (H0 : Heap) (hO : zO s0 H0) (q arr n mm9 : Nat) (f : Nat → Int) (c : Nat) (hb0 : s0.heap.size ≤ q ∧ q ≠ arr) (hq0 : zAt G q (zOb 11 [.ref arr, .int (iI 0), .int (iI 0), .int (iI ((n : Nat) : Int))]) H0) (ha0 : zAt G arr (zB G mm9 f) H0) (hf : asc mm9 f) (hn : n = mm9 ∧ mm9 ≤ 70) (hc : c < 128) : zM l s0 yJ24_append cJ24_append 2 (some (FieldType.object "java/lang/StringBuilder")) rm_m_J24_append_b [.ref q, .int (iI ((c : Nat) : Int))] H0 (fun z => z = q) (rr (fun y h1 => y = q ∧ ∃ arr1, zAt G q (zOb 11 [.ref arr1, .int (iI 0), .int (iI 0), .int (iI ((n + 1 : Nat) : Int))]) h1 ∧ NW G H0 h1 [(arr1, zB G (2 * mm9 + 2) (va_up (fun j => if j < mm9 then f j else 0) n ((c : Nat) : Int)))])) := by
  refine z_met hE (by decide +kernel) (Nat.le_of_ble_eq_true rfl) ?_
  intro pp ee ss mm args below meth cd Q ls hC hml hrt hlk hnm hH hQ hS hl
  have hx := hC.x
  have hb := hC.b
  have hl : lv_has ls 2 [(0, .ref q), (1, .int (iI ((c : Nat) : Int)))] := hl
  have hP : va_P G.1 zCl [(q, zOb 11 [.ref arr, .int (iI 0), .int (iI 0), .int (iI ((n : Nat) : Int))])] H0 := zP1 hq0
  have hD : va_D (zA (fun z => z = q) H0) [(q, zOb 11 [.ref arr, .int (iI 0), .int (iI 0), .int (iI ((n : Nat) : Int))])] := zD1 (Or.inl rfl)
  have hMo : ∀ z, (fun z => z = q) z → s0.heap.size ≤ z := fun z hz => hz ▸ hb0.1
  refine lv_aload_n hx hb dJ24_append_0 rfl (lv_at hl 0 rfl) ?_
  refine lv_iload_n hx hb dJ24_append_1 rfl (lv_at hl 1 rfl) ?_
  refine z_go 1 200 (z_runSp (ci := 11) (n := 1) (As := [.int (iI ((c : Nat) : Int))]) (rest := []) hC hml hl.1 (m_J23_append_b hE H0 (hO.ext (zS_F hS) hMo) q arr n mm9 f c hb0 (hP 0 _ rfl) (zo hS ha0 (fun e => hb0.2 e.symm)) hf hn hc) q594 q592 q1947 q578 q593 q97 ⟨by decide +kernel, by decide +kernel⟩ rfl rfl rfl (z_rv hC (ci := 11) rfl (hP 0 _ rfl) rfl) rfl (Nat.le_of_ble_eq_true rfl) ⟨Nat.le_of_ble_eq_true rfl, Nat.le_of_ble_eq_true rfl⟩ ⟨zfit (k := 1) (z := 1) rfl rfl (by omega), zfit (k := 200) (z := 200) rfl rfl (by omega)⟩ dJ24_append_2) ⟨zad (k := 1) rfl (by omega), zad (k := 200) rfl (by omega)⟩ hS (fun q z => by subst z; exact hD.2 0 _ rfl) (fun r H1 locs hp hF hS1 => ?_)
  obtain ⟨y9, rfl, -, ab9, hm, hN⟩ := hp
  obtain ⟨hP, hD⟩ := zjmn hP hD hS.1 hF 0 rfl hm hN
  have hP : va_P G.1 zCl ([(q, zOb 11 [.ref ab9, .int (iI 0), .int (iI 0), .int (iI ((n + 1 : Nat) : Int))]), (ab9, zB G (2 * mm9 + 2) (va_up (fun j => if j < mm9 then f j else 0) n ((c : Nat) : Int)))]) H1 := hP
  have hD : va_D (zA (fun z => z = q) H0) ([(q, zOb 11 [.ref ab9, .int (iI 0), .int (iI 0), .int (iI ((n + 1 : Nat) : Int))]), (ab9, zB G (2 * mm9 + 2) (va_up (fun j => if j < mm9 then f j else 0) n ((c : Nat) : Int)))]) := hD
  have hS := hS1
  refine lv_pop hx hb dJ24_append_5 rfl ?_
  refine lv_aload_n hx hb dJ24_append_6 rfl (lv_at hl 0 rfl) ?_
  exact z_aret hC hrt hlk hQ hS ⟨zle (z := 1) rfl (by omega), zle (z := 200) rfl (by omega)⟩ ⟨_, rfl, rfl, ab9, hP 0 _ rfl, zP1 (hP 1 _ rfl), zD1 ((hD.2 1 _ rfl).resolve_left (fun e => by have := hD.1 0 1 _ _ rfl rfl e.symm; omega))⟩ dJ24_append_7

abbrev rm_m_J19_stringSize : Room := { frames := 0, cells := 0, slots := 0, locals := 0 }
set_option maxHeartbeats 4000000 in
theorem m_J19_stringSize {l : Launch} {s0 : State} {G : zG} (hE : zE l s0 G) (H0 : Heap) (hO : zO s0 H0) (v : Nat) (hv : v < 16) : zM l s0 yJ19_stringSize cJ19_stringSize 4 (some FieldType.int) rm_m_J19_stringSize [.int (iI ((v : Nat) : Int))] H0 M0 (ri (fun y _ => y = (ssz v : Nat))) := by
  refine z_met hE (by decide +kernel) (Nat.le_of_ble_eq_true rfl) ?_
  intro pp ee ss mm args below meth cd Q ls hC hml hrt hlk hnm hH hQ hS hl
  have hx := hC.x
  have hb := hC.b
  have hl : lv_has ls 4 [(0, .int (iI ((v : Nat) : Int)))] := hl
  have hP : va_P G.1 zCl [] H0 := va_nil
  have hD : va_D (zA M0 H0) [] := va_nilD
  refine lv_iconst (v := iI 1) hx hb dJ19_stringSize_0 rfl ?_
  refine lv_istore_n (lv' := [(1, .int (iI 1)), (0, .int (iI ((v : Nat) : Int)))]) hx hb dJ19_stringSize_1 rfl hl (by decide) rfl (fun ls hl => ?_)
  refine lv_iload_n hx hb dJ19_stringSize_2 rfl (lv_at hl 1 rfl) ?_
  refine z_zlt (tgt := 11) hx hb dJ19_stringSize_3 (by decide) (by omega) (fun c1 => ?_) (fun c1 => ?_)
  · omega
  · refine lv_iconst (v := iI 0) hx hb dJ19_stringSize_6 rfl ?_
    refine lv_istore_n (lv' := [(1, .int (iI 0)), (0, .int (iI ((v : Nat) : Int)))]) hx hb dJ19_stringSize_7 rfl hl (by decide) rfl (fun ls hl => ?_)
    refine lv_iload_n hx hb dJ19_stringSize_8 rfl (lv_at hl 1 rfl) ?_
    refine z_neg hx hb (z := -((v : Nat) : Int)) dJ19_stringSize_9 rfl ?_
    refine lv_istore_n (lv' := [(0, .int (iI (-((v : Nat) : Int)))), (1, .int (iI 0))]) hx hb dJ19_stringSize_10 rfl hl (by decide) rfl (fun ls hl => ?_)
    refine lv_bipush (v := iI (-10)) hx hb dJ19_stringSize_11 (by decide) ?_
    refine lv_istore_n (lv' := [(2, .int (iI (-10))), (0, .int (iI (-((v : Nat) : Int)))), (1, .int (iI 0))]) hx hb dJ19_stringSize_13 rfl hl (by decide) rfl (fun ls hl => ?_)
    refine lv_iconst (v := iI 1) hx hb dJ19_stringSize_14 rfl ?_
    refine lv_istore_n (lv' := [(3, .int (iI 1)), (2, .int (iI (-10))), (0, .int (iI (-((v : Nat) : Int)))), (1, .int (iI 0))]) hx hb dJ19_stringSize_15 rfl hl (by decide) rfl (fun ls hl => ?_)
    refine lv_iload_n hx hb dJ19_stringSize_16 rfl (lv_at hl 0 rfl) ?_
    refine lv_bipush (v := iI 10) hx hb dJ19_stringSize_17 (by decide) ?_
    refine z_cge (tgt := 42) hx hb dJ19_stringSize_19 (by decide) (by omega) (fun c2 => ?_) (fun c2 => ?_)
    · omega
    · refine lv_iload_n hx hb dJ19_stringSize_22 rfl (lv_at hl 2 rfl) ?_
      refine lv_iload_n hx hb dJ19_stringSize_23 rfl (lv_at hl 1 rfl) ?_
      refine z_cle (tgt := 31) hx hb dJ19_stringSize_24 (by decide) (by omega) (fun c3 => ?_) (fun c3 => ?_)
      · refine lv_bipush (v := iI 10) hx hb dJ19_stringSize_31 (by decide) ?_
        refine lv_iload_n hx hb dJ19_stringSize_33 rfl (lv_at hl 1 rfl) ?_
        refine z_mul hx hb (z := 10 * (-10)) dJ19_stringSize_34 rfl ?_
        refine lv_istore_n (lv' := [(2, .int (iI (10 * (-10)))), (3, .int (iI 1)), (0, .int (iI (-((v : Nat) : Int)))), (1, .int (iI 0))]) hx hb dJ19_stringSize_35 rfl hl (by decide) rfl (fun ls hl => ?_)
        refine z_iinc (z := 2) (lv' := [(3, .int (iI 2)), (2, .int (iI (10 * (-10)))), (0, .int (iI (-((v : Nat) : Int)))), (1, .int (iI 0))]) hx hb dJ19_stringSize_36 hl (k := 1) rfl (by omega) (by decide) rfl (fun ls hl => ?_)
        refine lv_goto (tgt := 16) hx hb dJ19_stringSize_39 (by decide) ?_
        refine lv_iload_n hx hb dJ19_stringSize_16 rfl (lv_at hl 0 rfl) ?_
        refine lv_bipush (v := iI 10) hx hb dJ19_stringSize_17 (by decide) ?_
        refine z_cge (tgt := 42) hx hb dJ19_stringSize_19 (by decide) (by omega) (fun c4 => ?_) (fun c4 => ?_)
        · omega
        · refine lv_iload_n hx hb dJ19_stringSize_22 rfl (lv_at hl 2 rfl) ?_
          refine lv_iload_n hx hb dJ19_stringSize_23 rfl (lv_at hl 1 rfl) ?_
          refine z_cle (tgt := 31) hx hb dJ19_stringSize_24 (by decide) (by omega) (fun c5 => ?_) (fun c5 => ?_)
          · omega
          · refine lv_iload_n hx hb dJ19_stringSize_27 rfl (lv_at hl 0 rfl) ?_
            refine lv_iload_n hx hb dJ19_stringSize_28 rfl (lv_at hl 3 rfl) ?_
            refine z_add hx hb (z := 2 + 0) dJ19_stringSize_29 rfl ?_
            exact z_iret hC hrt hlk hQ hS ⟨zle (z := 0) rfl (by omega), zle (z := 0) rfl (by omega)⟩ ⟨_, rfl, by unfold ssz; rw [if_neg (by omega)]; rfl⟩ dJ19_stringSize_30
      · refine lv_iload_n hx hb dJ19_stringSize_27 rfl (lv_at hl 0 rfl) ?_
        refine lv_iload_n hx hb dJ19_stringSize_28 rfl (lv_at hl 3 rfl) ?_
        refine z_add hx hb (z := 1 + 0) dJ19_stringSize_29 rfl ?_
        exact z_iret hC hrt hlk hQ hS ⟨zle (z := 0) rfl (by omega), zle (z := 0) rfl (by omega)⟩ ⟨_, rfl, by unfold ssz; rw [if_pos (by omega)]; rfl⟩ dJ19_stringSize_30

abbrev rm_m_J19_getChars : Room := { frames := 0, cells := 0, slots := 0, locals := 0 }
set_option maxHeartbeats 4000000 in
theorem m_J19_getChars {l : Launch} {s0 : State} {G : zG} (hE : zE l s0 G) (H0 : Heap) (hO : zO s0 H0) (v e arr mm9 : Nat) (f : Nat → Int) (hb0 : s0.heap.size ≤ arr) (ha0 : zAt G arr (zB G mm9 f) H0) (hv : v < 16) (he : 2 ≤ e ∧ e ≤ mm9 ∧ mm9 ≤ 1000 ∨ (e = 1 ∧ v < 10 ∧ 1 ≤ mm9 ∧ mm9 ≤ 1000)) : zM l s0 yJ19_getChars cJ19_getChars 7 (some FieldType.int) rm_m_J19_getChars [.int (iI ((v : Nat) : Int)), .int (iI ((e : Nat) : Int)), .ref arr] H0 (fun z => z = arr) (ri (fun _ h1 => zAt G arr (zB G mm9 (gcV f e v)) h1)) := by
  refine z_met hE (by decide +kernel) (Nat.le_of_ble_eq_true rfl) ?_
  intro pp ee ss mm args below meth cd Q ls hC hml hrt hlk hnm hH hQ hS hl
  have hx := hC.x
  have hb := hC.b
  have hl : lv_has ls 7 [(0, .int (iI ((v : Nat) : Int))), (1, .int (iI ((e : Nat) : Int))), (2, .ref arr)] := hl
  have hP : va_P G.1 zCl [(arr, zB G mm9 f)] H0 := zP1 ha0
  have hD : va_D (zA (fun z => z = arr) H0) [(arr, zB G mm9 f)] := zD1 (Or.inl rfl)
  have hMo : ∀ z, (fun z => z = arr) z → s0.heap.size ≤ z := fun z hz => hz ▸ hb0
  refine lv_iload_n hx hb dJ19_getChars_0 rfl (lv_at hl 1 rfl) ?_
  refine lv_istore (lv' := [(5, .int (iI ((e : Nat) : Int))), (0, .int (iI ((v : Nat) : Int))), (1, .int (iI ((e : Nat) : Int))), (2, .ref arr)]) hx hb dJ19_getChars_1 hl (by decide) rfl (fun ls hl => ?_)
  refine lv_iload_n hx hb dJ19_getChars_3 rfl (lv_at hl 1 rfl) ?_
  refine z_zge (tgt := 11) hx hb dJ19_getChars_4 (by decide) (by omega) (fun c1 => ?_) (fun c1 => ?_)
  · refine lv_iconst (v := iI 0) hx hb dJ19_getChars_11 rfl ?_
    refine lv_istore (lv' := [(6, .int (iI 0)), (5, .int (iI ((e : Nat) : Int))), (0, .int (iI ((v : Nat) : Int))), (1, .int (iI ((e : Nat) : Int))), (2, .ref arr)]) hx hb dJ19_getChars_12 hl (by decide) rfl (fun ls hl => ?_)
    refine lv_iload hx hb dJ19_getChars_14 (lv_at hl 0 rfl) ?_
    refine z_zne (tgt := 22) hx hb dJ19_getChars_16 (by decide) (by omega) (fun c2 => ?_) (fun c2 => ?_)
    · omega
    · refine lv_iload_n hx hb dJ19_getChars_19 rfl (lv_at hl 2 rfl) ?_
      refine z_neg hx hb (z := -((v : Nat) : Int)) dJ19_getChars_20 rfl ?_
      refine lv_istore_n (lv' := [(0, .int (iI (-((v : Nat) : Int)))), (6, .int (iI 0)), (5, .int (iI ((e : Nat) : Int))), (1, .int (iI ((e : Nat) : Int))), (2, .ref arr)]) hx hb dJ19_getChars_21 rfl hl (by decide) rfl (fun ls hl => ?_)
      refine lv_iload_n hx hb dJ19_getChars_22 rfl (lv_at hl 0 rfl) ?_
      refine lv_bipush (v := iI (-100)) hx hb dJ19_getChars_23 (by decide) ?_
      refine z_cgt (tgt := 72) hx hb dJ19_getChars_25 (by decide) (by omega) (fun c3 => ?_) (fun c3 => ?_)
      · refine lv_aload_n hx hb dJ19_getChars_72 rfl (lv_at hl 4 rfl) ?_
        refine z_iinc (z := ((e - 1 : Nat) : Int)) (lv' := [(5, .int (iI ((e - 1 : Nat) : Int))), (0, .int (iI (-((v : Nat) : Int)))), (6, .int (iI 0)), (1, .int (iI ((e : Nat) : Int))), (2, .ref arr)]) hx hb dJ19_getChars_73 hl (k := 2) rfl (by omega) (by decide) rfl (fun ls hl => ?_)
        refine lv_iload hx hb dJ19_getChars_76 (lv_at hl 0 rfl) ?_
        refine z_gets hC (hO.ext (zS_F hS) hMo) (hE.2.2.2.1.2.2.2.2.2.1.1) q694 dJ19_getChars_78 ?_
        refine lv_iload_n hx hb dJ19_getChars_81 rfl (lv_at hl 1 rfl) ?_
        refine z_neg hx hb (z := -(-((v : Nat) : Int))) dJ19_getChars_82 rfl ?_
        refine z_top (b := ((v : Nat) : Int)) (by omega) ?_
        refine z_tbald hC (hO.ext (zS_F hS) hMo) hE.2.2.2.1.2.2.2.2.2.1.2.1 (k := v) rfl (by omega) (y := ((48 + v % 10 : Nat) : Int)) rfl dJ19_getChars_83 ?_
        refine z_bast hC hP hD hS 0 (k := e - 1) rfl rfl (by omega) (by omega) (ws' := [(arr, zB G mm9 (va_up f (e - 1) ((48 + v % 10 : Nat) : Int)))]) rfl dJ19_getChars_84 (fun H4 locs hP hD hS => ?_)
        refine lv_iload_n hx hb dJ19_getChars_85 rfl (lv_at hl 1 rfl) ?_
        refine lv_bipush (v := iI (-9)) hx hb dJ19_getChars_86 (by decide) ?_
        refine z_cge (tgt := 104) hx hb dJ19_getChars_88 (by decide) (by omega) (fun c5 => ?_) (fun c5 => ?_)
        · refine lv_iload hx hb dJ19_getChars_104 (lv_at hl 2 rfl) ?_
          refine z_zeq (tgt := 118) hx hb dJ19_getChars_106 (by decide) (by omega) (fun c6 => ?_) (fun c6 => ?_)
          · refine lv_iload hx hb dJ19_getChars_118 (lv_at hl 0 rfl) ?_
            exact z_iret hC hrt hlk hQ hS ⟨zle (z := 0) rfl (by omega), zle (z := 0) rfl (by omega)⟩ ⟨_, rfl, by unfold gcV; rw [if_pos (by omega)]; exact hP 0 _ rfl⟩ dJ19_getChars_120
          · omega
        · refine lv_aload_n hx hb dJ19_getChars_91 rfl (lv_at hl 4 rfl) ?_
          refine z_iinc (z := ((e - 2 : Nat) : Int)) (lv' := [(5, .int (iI ((e - 2 : Nat) : Int))), (0, .int (iI (-((v : Nat) : Int)))), (6, .int (iI 0)), (1, .int (iI ((e : Nat) : Int))), (2, .ref arr)]) hx hb dJ19_getChars_92 hl (k := 0) rfl (by omega) (by decide) rfl (fun ls hl => ?_)
          refine lv_iload hx hb dJ19_getChars_95 (lv_at hl 0 rfl) ?_
          refine z_gets hC (hO.ext (zS_F hS) hMo) (hE.2.2.2.1.2.2.2.2.2.1.2.2.1) q696 dJ19_getChars_97 ?_
          refine lv_iload_n hx hb dJ19_getChars_100 rfl (lv_at hl 1 rfl) ?_
          refine z_neg hx hb (z := -(-((v : Nat) : Int))) dJ19_getChars_101 rfl ?_
          refine z_top (b := ((v : Nat) : Int)) (by omega) ?_
          refine z_tbald hC (hO.ext (zS_F hS) hMo) hE.2.2.2.1.2.2.2.2.2.1.2.2.2 (k := v) rfl (by omega) (y := ((48 + v / 10 : Nat) : Int)) rfl dJ19_getChars_102 ?_
          refine z_bast hC hP hD hS 0 (k := e - 2) rfl rfl (by omega) (by omega) (ws' := [(arr, zB G mm9 (va_up (va_up f (e - 1) ((48 + v % 10 : Nat) : Int)) (e - 2) ((48 + v / 10 : Nat) : Int)))]) rfl dJ19_getChars_103 (fun H7 locs hP hD hS => ?_)
          refine lv_iload hx hb dJ19_getChars_104 (lv_at hl 2 rfl) ?_
          refine z_zeq (tgt := 118) hx hb dJ19_getChars_106 (by decide) (by omega) (fun c8 => ?_) (fun c8 => ?_)
          · refine lv_iload hx hb dJ19_getChars_118 (lv_at hl 0 rfl) ?_
            exact z_iret hC hrt hlk hQ hS ⟨zle (z := 0) rfl (by omega), zle (z := 0) rfl (by omega)⟩ ⟨_, rfl, by unfold gcV; rw [if_neg (by omega)]; exact hP 0 _ rfl⟩ dJ19_getChars_120
          · omega
      · omega
  · omega

abbrev rm_m_J23_appendi_a : Room := { frames := 1, cells := 0, slots := 0, locals := 26 }
set_option maxHeartbeats 4000000 in
theorem m_J23_appendi_a {l : Launch} {s0 : State} {G : zG} (hE : zE l s0 G) (H0 : Heap) (hO : zO s0 H0) (q arr n mm9 : Nat) (f : Nat → Int) (v : Nat) (hb0 : (s0.heap.size ≤ q ∧ s0.heap.size ≤ arr) ∧ q ≠ arr) (hq0 : zAt G q (zOb 11 [.ref arr, .int (iI 0), .int (iI 0), .int (iI ((n : Nat) : Int))]) H0) (ha0 : zAt G arr (zB G mm9 f) H0) (hn : n + ssz v ≤ mm9 ∧ mm9 ≤ 1000) (hv : v < 16) : zM l s0 yJ23_append_2 cJ23_append_2 4 (some (FieldType.object "java/lang/AbstractStringBuilder")) rm_m_J23_appendi_a [.ref q, .int (iI ((v : Nat) : Int))] H0 (fun z => z = q ∨ z = arr) (rr (fun y h1 => y = q ∧ zAt G q (zOb 11 [.ref arr, .int (iI 0), .int (iI 0), .int (iI ((n + ssz v : Nat) : Int))]) h1 ∧ zAt G arr (zB G mm9 (gcV f (n + ssz v) v)) h1)) := by
  refine z_met hE (by decide +kernel) (Nat.le_of_ble_eq_true rfl) ?_
  intro pp ee ss mm args below meth cd Q ls hC hml hrt hlk hnm hH hQ hS hl
  have hx := hC.x
  have hb := hC.b
  have hl : lv_has ls 4 [(0, .ref q), (1, .int (iI ((v : Nat) : Int)))] := hl
  have hP : va_P G.1 zCl [(q, zOb 11 [.ref arr, .int (iI 0), .int (iI 0), .int (iI ((n : Nat) : Int))]), (arr, zB G mm9 f)] H0 := zP2 hq0 ha0
  have hD : va_D (zA (fun z => z = q ∨ z = arr) H0) [(q, zOb 11 [.ref arr, .int (iI 0), .int (iI 0), .int (iI ((n : Nat) : Int))]), (arr, zB G mm9 f)] := zD2 (Or.inl (Or.inl rfl)) (Or.inl (Or.inr rfl)) hb0.2
  have hMo : ∀ z, (fun z => z = q ∨ z = arr) z → s0.heap.size ≤ z := fun z hz => hz.elim (fun e => e ▸ hb0.1.1) (fun e => e ▸ hb0.1.2)
  have hsz := ssz_in v
  have hs1 : ssz v = 1 → v < 10 := fun h => by unfold ssz at h; split at h <;> omega
  refine lv_aload_n hx hb dJ23_append_2_0 rfl (lv_at hl 0 rfl) ?_
  refine z_get hC (k := 3) rfl in_J24 (hP 0 _ rfl) (by decide) q569 (fun _ h => h) rfl dJ23_append_2_1 ?_
  refine lv_istore_n (lv' := [(2, .int (iI ((n : Nat) : Int))), (0, .ref q), (1, .int (iI ((v : Nat) : Int)))]) hx hb dJ23_append_2_4 rfl hl (by decide) rfl (fun ls hl => ?_)
  refine lv_iload_n hx hb dJ23_append_2_5 rfl (lv_at hl 0 rfl) ?_
  refine lv_iload_n hx hb dJ23_append_2_6 rfl (lv_at hl 2 rfl) ?_
  refine z_go 0 0 (z_runS (As := [.int (iI ((v : Nat) : Int))]) (rest := [.int (iI ((n : Nat) : Int))]) hC hml hl.1 (m_J19_stringSize hE H0 (hO.ext (zS_F hS) hMo) v hv) (lw_S q688 q689 q90 q690) nd_J19_stringSize rfl rfl (Nat.le_of_ble_eq_true rfl) ⟨Nat.le_of_ble_eq_true rfl, Nat.le_of_ble_eq_true rfl⟩ ⟨zfit (k := 0) (z := 0) rfl rfl (by omega), zfit (k := 0) (z := 0) rfl rfl (by omega)⟩ dJ23_append_2_7) ⟨zad (k := 0) rfl (by omega), zad (k := 0) rfl (by omega)⟩ hS (fun _ z => z.elim) (fun r H1 locs hp hF hS1 => ?_)
  obtain ⟨_, rfl, rfl⟩ := hp
  have hP := zpk hP hF
  have hP : va_P G.1 zCl ([(q, zOb 11 [.ref arr, .int (iI 0), .int (iI 0), .int (iI ((n : Nat) : Int))]), (arr, zB G mm9 f)]) H1 := hP
  have hD : va_D (zA (fun z => z = q ∨ z = arr) H0) ([(q, zOb 11 [.ref arr, .int (iI 0), .int (iI 0), .int (iI ((n : Nat) : Int))]), (arr, zB G mm9 f)]) := hD
  have hS := hS1
  refine z_add hx hb (z := ((n : Nat) : Int) + ((ssz v : Nat) : Int)) dJ23_append_2_10 rfl ?_
  refine z_top (b := ((n + ssz v : Nat) : Int)) (by omega) ?_
  refine lv_istore_n (lv' := [(3, .int (iI ((n + ssz v : Nat) : Int))), (2, .int (iI ((n : Nat) : Int))), (0, .ref q), (1, .int (iI ((v : Nat) : Int)))]) hx hb dJ23_append_2_11 rfl hl (by decide) rfl (fun ls hl => ?_)
  refine lv_aload_n hx hb dJ23_append_2_12 rfl (lv_at hl 2 rfl) ?_
  refine lv_iload_n hx hb dJ23_append_2_13 rfl (lv_at hl 0 rfl) ?_
  refine z_go 0 0 (z_runP (n := 1) (As := [.int (iI ((n + ssz v : Nat) : Int))]) (rest := []) hC hml hl.1 (m_J23_ensure_a hE H1 (hO.ext (zS_F hS) hMo) q arr n mm9 (n + ssz v) f (hP 0 _ rfl) (hP 1 _ rfl) (by omega)) q598 q595 q597 q97 q596 q1948 nd_J23_ensureCapacityInternal rfl (z_rv hC (ci := 11) rfl (hP 0 _ rfl) rfl) rfl (Nat.le_of_ble_eq_true rfl) ⟨Nat.le_of_ble_eq_true rfl, Nat.le_of_ble_eq_true rfl⟩ ⟨zfit (k := 0) (z := 0) rfl rfl (by omega), zfit (k := 0) (z := 0) rfl rfl (by omega)⟩ dJ23_append_2_14) ⟨zad (k := 0) rfl (by omega), zad (k := 0) rfl (by omega)⟩ hS (fun _ z => z.elim) (fun r H2 locs hp hF hS1 => ?_)
  obtain ⟨rfl, -⟩ := hp
  have hP := zpk hP hF
  have hP : va_P G.1 zCl ([(q, zOb 11 [.ref arr, .int (iI 0), .int (iI 0), .int (iI ((n : Nat) : Int))]), (arr, zB G mm9 f)]) H2 := hP
  have hD : va_D (zA (fun z => z = q ∨ z = arr) H0) ([(q, zOb 11 [.ref arr, .int (iI 0), .int (iI 0), .int (iI ((n : Nat) : Int))]), (arr, zB G mm9 f)]) := hD
  have hS := hS1
  refine lv_aload_n hx hb dJ23_append_2_17 rfl (lv_at hl 2 rfl) ?_
  refine z_go 0 0 (z_runU (n := 0) (As := []) (rest := []) hC hml hl.1 (m_J23_isLatin1 hE H2 (hO.ext (zS_F hS) hMo) q arr n (hP 0 _ rfl)) q634 q630 q632 q633 q631 q97 ⟨by decide +kernel, by decide +kernel, by decide +kernel⟩ rfl (z_rv hC (ci := 11) rfl (hP 0 _ rfl) rfl) rfl (Nat.le_of_ble_eq_true rfl) ⟨Nat.le_of_ble_eq_true rfl, Nat.le_of_ble_eq_true rfl⟩ ⟨zfit (k := 0) (z := 0) rfl rfl (by omega), zfit (k := 0) (z := 0) rfl rfl (by omega)⟩ dJ23_append_2_18) ⟨zad (k := 0) rfl (by omega), zad (k := 0) rfl (by omega)⟩ hS (fun _ z => z.elim) (fun r H3 locs hp hF hS1 => ?_)
  obtain ⟨_, rfl, rfl⟩ := hp
  have hP := zpk hP hF
  have hP : va_P G.1 zCl ([(q, zOb 11 [.ref arr, .int (iI 0), .int (iI 0), .int (iI ((n : Nat) : Int))]), (arr, zB G mm9 f)]) H3 := hP
  have hD : va_D (zA (fun z => z = q ∨ z = arr) H0) ([(q, zOb 11 [.ref arr, .int (iI 0), .int (iI 0), .int (iI ((n : Nat) : Int))]), (arr, zB G mm9 f)]) := hD
  have hS := hS1
  refine z_zeq (tgt := 37) hx hb dJ23_append_2_21 (by decide) (by omega) (fun c4 => ?_) (fun c4 => ?_)
  · omega
  · refine lv_iload_n hx hb dJ23_append_2_24 rfl (lv_at hl 3 rfl) ?_
    refine lv_iload_n hx hb dJ23_append_2_25 rfl (lv_at hl 0 rfl) ?_
    refine lv_aload_n hx hb dJ23_append_2_26 rfl (lv_at hl 2 rfl) ?_
    refine z_get hC (k := 0) rfl in_J24 (hP 0 _ rfl) (by decide) q566 (fun _ h => h) rfl dJ23_append_2_27 ?_
    refine z_go 0 0 (z_runS (As := [.int (iI ((v : Nat) : Int)), .int (iI ((n + ssz v : Nat) : Int)), .ref arr]) (rest := []) hC hml hl.1 (m_J19_getChars hE H3 (hO.ext (zS_F hS) hMo) v (n + ssz v) arr (mm9) (f) hb0.1.2 (hP 1 _ rfl) hv (by omega)) (lw_S q691 q692 q90 q693) nd_J19_getChars rfl rfl (Nat.le_of_ble_eq_true rfl) ⟨Nat.le_of_ble_eq_true rfl, Nat.le_of_ble_eq_true rfl⟩ ⟨zfit (k := 0) (z := 0) rfl rfl (by omega), zfit (k := 0) (z := 0) rfl rfl (by omega)⟩ dJ23_append_2_30) ⟨zad (k := 0) rfl (by omega), zad (k := 0) rfl (by omega)⟩ hS (fun q z => by subst z; exact hD.2 1 _ rfl) (fun r H5 locs hp hF hS1 => ?_)
    obtain ⟨gz9, rfl, hm⟩ := hp
    obtain ⟨hP, hD⟩ := zjm hP hD hF 1 rfl hm
    have hP : va_P G.1 zCl ([(q, zOb 11 [.ref arr, .int (iI 0), .int (iI 0), .int (iI ((n : Nat) : Int))]), (arr, zB G mm9 (gcV f (n + ssz v) v))]) H5 := hP
    have hD : va_D (zA (fun z => z = q ∨ z = arr) H0) ([(q, zOb 11 [.ref arr, .int (iI 0), .int (iI 0), .int (iI ((n : Nat) : Int))]), (arr, zB G mm9 (gcV f (n + ssz v) v))]) := hD
    have hS := hS1
    refine lv_pop hx hb dJ23_append_2_33 rfl ?_
    refine lv_goto (tgt := 48) hx hb dJ23_append_2_34 (by decide) ?_
    refine lv_aload_n hx hb dJ23_append_2_48 rfl (lv_at hl 2 rfl) ?_
    refine lv_iload_n hx hb dJ23_append_2_49 rfl (lv_at hl 0 rfl) ?_
    refine z_put hC hP hD hS 0 (k := 3) rfl rfl in_J24 tyJ24_ok nmJ24 (by decide) q569 (fun _ h => h) rfl rfl rfl rfl (Nat.le_of_ble_eq_true rfl) (ws' := [(q, zOb 11 [.ref arr, .int (iI 0), .int (iI 0), .int (iI ((n + ssz v : Nat) : Int))]), (arr, zB G mm9 (gcV f (n + ssz v) v))]) rfl dJ23_append_2_50 (fun H6 locs hP hD hS => ?_)
    refine lv_aload_n hx hb dJ23_append_2_53 rfl (lv_at hl 2 rfl) ?_
    exact z_aret hC hrt hlk hQ hS ⟨zle (z := 0) rfl (by omega), zle (z := 0) rfl (by omega)⟩ ⟨_, rfl, rfl, hP 0 _ rfl, hP 1 _ rfl⟩ dJ23_append_2_54

abbrev rm_m_J24_appendi_a : Room := { frames := 2, cells := 0, slots := 0, locals := 49 }
set_option maxHeartbeats 4000000 in
theorem m_J24_appendi_a {l : Launch} {s0 : State} {G : zG} (hE : zE l s0 G) (H0 : Heap) (hO : zO s0 H0) (q arr n mm9 : Nat) (f : Nat → Int) (v : Nat) (hb0 : (s0.heap.size ≤ q ∧ s0.heap.size ≤ arr) ∧ q ≠ arr) (hq0 : zAt G q (zOb 11 [.ref arr, .int (iI 0), .int (iI 0), .int (iI ((n : Nat) : Int))]) H0) (ha0 : zAt G arr (zB G mm9 f) H0) (hn : n + ssz v ≤ mm9 ∧ mm9 ≤ 1000) (hv : v < 16) : zM l s0 yJ24_append_2 cJ24_append_2 2 (some (FieldType.object "java/lang/StringBuilder")) rm_m_J24_appendi_a [.ref q, .int (iI ((v : Nat) : Int))] H0 (fun z => z = q ∨ z = arr) (rr (fun y h1 => y = q ∧ zAt G q (zOb 11 [.ref arr, .int (iI 0), .int (iI 0), .int (iI ((n + ssz v : Nat) : Int))]) h1 ∧ zAt G arr (zB G mm9 (gcV f (n + ssz v) v)) h1)) := by
  refine z_met hE (by decide +kernel) (Nat.le_of_ble_eq_true rfl) ?_
  intro pp ee ss mm args below meth cd Q ls hC hml hrt hlk hnm hH hQ hS hl
  have hx := hC.x
  have hb := hC.b
  have hl : lv_has ls 2 [(0, .ref q), (1, .int (iI ((v : Nat) : Int)))] := hl
  have hP : va_P G.1 zCl [(q, zOb 11 [.ref arr, .int (iI 0), .int (iI 0), .int (iI ((n : Nat) : Int))]), (arr, zB G mm9 f)] H0 := zP2 hq0 ha0
  have hD : va_D (zA (fun z => z = q ∨ z = arr) H0) [(q, zOb 11 [.ref arr, .int (iI 0), .int (iI 0), .int (iI ((n : Nat) : Int))]), (arr, zB G mm9 f)] := zD2 (Or.inl (Or.inl rfl)) (Or.inl (Or.inr rfl)) hb0.2
  have hMo : ∀ z, (fun z => z = q ∨ z = arr) z → s0.heap.size ≤ z := fun z hz => hz.elim (fun e => e ▸ hb0.1.1) (fun e => e ▸ hb0.1.2)
  refine lv_aload_n hx hb dJ24_append_2_0 rfl (lv_at hl 0 rfl) ?_
  refine lv_iload_n hx hb dJ24_append_2_1 rfl (lv_at hl 1 rfl) ?_
  refine z_go 0 0 (z_runSp (ci := 11) (n := 1) (As := [.int (iI ((v : Nat) : Int))]) (rest := []) hC hml hl.1 (m_J23_appendi_a hE H0 (hO.ext (zS_F hS) hMo) q arr n mm9 f v hb0 (hP 0 _ rfl) (hP 1 _ rfl) hn hv) q687 q685 q1951 q578 q686 q97 ⟨by decide +kernel, by decide +kernel⟩ rfl rfl rfl (z_rv hC (ci := 11) rfl (hP 0 _ rfl) rfl) rfl (Nat.le_of_ble_eq_true rfl) ⟨Nat.le_of_ble_eq_true rfl, Nat.le_of_ble_eq_true rfl⟩ ⟨zfit (k := 0) (z := 0) rfl rfl (by omega), zfit (k := 0) (z := 0) rfl rfl (by omega)⟩ dJ24_append_2_2) ⟨zad (k := 0) rfl (by omega), zad (k := 0) rfl (by omega)⟩ hS (fun q z => z.elim (fun y => by rw [y]; exact hD.2 0 _ rfl) (fun y => by rw [y]; exact hD.2 1 _ rfl)) (fun r H1 locs hp hF hS1 => ?_)
  obtain ⟨y9, rfl, -, hm1, hm2⟩ := hp
  obtain ⟨hP, hD⟩ := zjm2 hP hD hF 0 1 rfl rfl hm1 hm2
  have hP : va_P G.1 zCl ([(q, zOb 11 [.ref arr, .int (iI 0), .int (iI 0), .int (iI ((n + ssz v : Nat) : Int))]), (arr, zB G mm9 (gcV f (n + ssz v) v))]) H1 := hP
  have hD : va_D (zA (fun z => z = q ∨ z = arr) H0) ([(q, zOb 11 [.ref arr, .int (iI 0), .int (iI 0), .int (iI ((n + ssz v : Nat) : Int))]), (arr, zB G mm9 (gcV f (n + ssz v) v))]) := hD
  have hS := hS1
  refine lv_pop hx hb dJ24_append_2_5 rfl ?_
  refine lv_aload_n hx hb dJ24_append_2_6 rfl (lv_at hl 0 rfl) ?_
  exact z_aret hC hrt hlk hQ hS ⟨zle (z := 0) rfl (by omega), zle (z := 0) rfl (by omega)⟩ ⟨_, rfl, rfl, hP 0 _ rfl, hP 1 _ rfl⟩ dJ24_append_2_7

abbrev rm_m_J23_appendi_b : Room := { frames := 4, cells := 1, slots := 200, locals := 104 }
set_option maxHeartbeats 4000000 in
theorem m_J23_appendi_b {l : Launch} {s0 : State} {G : zG} (hE : zE l s0 G) (H0 : Heap) (hO : zO s0 H0) (q arr n mm9 : Nat) (f : Nat → Int) (v : Nat) (hb0 : s0.heap.size ≤ q ∧ q ≠ arr) (hq0 : zAt G q (zOb 11 [.ref arr, .int (iI 0), .int (iI 0), .int (iI ((n : Nat) : Int))]) H0) (ha0 : zAt G arr (zB G mm9 f) H0) (hf : asc mm9 f) (hn : n ≤ mm9 ∧ mm9 < n + ssz v ∧ mm9 ≤ 70) (hv : v < 16) : zM l s0 yJ23_append_2 cJ23_append_2 4 (some (FieldType.object "java/lang/AbstractStringBuilder")) rm_m_J23_appendi_b [.ref q, .int (iI ((v : Nat) : Int))] H0 (fun z => z = q) (rr (fun y h1 => y = q ∧ ∃ arr1, zAt G q (zOb 11 [.ref arr1, .int (iI 0), .int (iI 0), .int (iI ((n + ssz v : Nat) : Int))]) h1 ∧ NW G H0 h1 [(arr1, zB G (2 * mm9 + 2) (gcV (fun j => if j < mm9 then f j else 0) (n + ssz v) v))])) := by
  refine z_met hE (by decide +kernel) (Nat.le_of_ble_eq_true rfl) ?_
  intro pp ee ss mm args below meth cd Q ls hC hml hrt hlk hnm hH hQ hS hl
  have hx := hC.x
  have hb := hC.b
  have hl : lv_has ls 4 [(0, .ref q), (1, .int (iI ((v : Nat) : Int)))] := hl
  have hP : va_P G.1 zCl [(q, zOb 11 [.ref arr, .int (iI 0), .int (iI 0), .int (iI ((n : Nat) : Int))])] H0 := zP1 hq0
  have hD : va_D (zA (fun z => z = q) H0) [(q, zOb 11 [.ref arr, .int (iI 0), .int (iI 0), .int (iI ((n : Nat) : Int))])] := zD1 (Or.inl rfl)
  have hMo : ∀ z, (fun z => z = q) z → s0.heap.size ≤ z := fun z hz => hz ▸ hb0.1
  have hsz := ssz_in v
  have hs1 : ssz v = 1 → v < 10 := fun h => by unfold ssz at h; split at h <;> omega
  refine lv_aload_n hx hb dJ23_append_2_0 rfl (lv_at hl 0 rfl) ?_
  refine z_get hC (k := 3) rfl in_J24 (hP 0 _ rfl) (by decide) q569 (fun _ h => h) rfl dJ23_append_2_1 ?_
  refine lv_istore_n (lv' := [(2, .int (iI ((n : Nat) : Int))), (0, .ref q), (1, .int (iI ((v : Nat) : Int)))]) hx hb dJ23_append_2_4 rfl hl (by decide) rfl (fun ls hl => ?_)
  refine lv_iload_n hx hb dJ23_append_2_5 rfl (lv_at hl 0 rfl) ?_
  refine lv_iload_n hx hb dJ23_append_2_6 rfl (lv_at hl 2 rfl) ?_
  refine z_go 0 0 (z_runS (As := [.int (iI ((v : Nat) : Int))]) (rest := [.int (iI ((n : Nat) : Int))]) hC hml hl.1 (m_J19_stringSize hE H0 (hO.ext (zS_F hS) hMo) v hv) (lw_S q688 q689 q90 q690) nd_J19_stringSize rfl rfl (Nat.le_of_ble_eq_true rfl) ⟨Nat.le_of_ble_eq_true rfl, Nat.le_of_ble_eq_true rfl⟩ ⟨zfit (k := 0) (z := 1) rfl rfl (by omega), zfit (k := 0) (z := 200) rfl rfl (by omega)⟩ dJ23_append_2_7) ⟨zad (k := 0) rfl (by omega), zad (k := 0) rfl (by omega)⟩ hS (fun _ z => z.elim) (fun r H1 locs hp hF hS1 => ?_)
  obtain ⟨_, rfl, rfl⟩ := hp
  have hP := zpk hP hF
  have hP : va_P G.1 zCl ([(q, zOb 11 [.ref arr, .int (iI 0), .int (iI 0), .int (iI ((n : Nat) : Int))])]) H1 := hP
  have hD : va_D (zA (fun z => z = q) H0) ([(q, zOb 11 [.ref arr, .int (iI 0), .int (iI 0), .int (iI ((n : Nat) : Int))])]) := hD
  have hS := hS1
  refine z_add hx hb (z := ((n : Nat) : Int) + ((ssz v : Nat) : Int)) dJ23_append_2_10 rfl ?_
  refine z_top (b := ((n + ssz v : Nat) : Int)) (by omega) ?_
  refine lv_istore_n (lv' := [(3, .int (iI ((n + ssz v : Nat) : Int))), (2, .int (iI ((n : Nat) : Int))), (0, .ref q), (1, .int (iI ((v : Nat) : Int)))]) hx hb dJ23_append_2_11 rfl hl (by decide) rfl (fun ls hl => ?_)
  refine lv_aload_n hx hb dJ23_append_2_12 rfl (lv_at hl 2 rfl) ?_
  refine lv_iload_n hx hb dJ23_append_2_13 rfl (lv_at hl 0 rfl) ?_
  refine z_go 1 200 (z_runP (n := 1) (As := [.int (iI ((n + ssz v : Nat) : Int))]) (rest := []) hC hml hl.1 (m_J23_ensure_b hE H1 (hO.ext (zS_F hS) hMo) q arr n mm9 (n + ssz v) f hb0 (hP 0 _ rfl) (zo hS ha0 (fun e => hb0.2 e.symm)) (by omega) hf) q598 q595 q597 q97 q596 q1948 nd_J23_ensureCapacityInternal rfl (z_rv hC (ci := 11) rfl (hP 0 _ rfl) rfl) rfl (Nat.le_of_ble_eq_true rfl) ⟨Nat.le_of_ble_eq_true rfl, Nat.le_of_ble_eq_true rfl⟩ ⟨zfit (k := 1) (z := 1) rfl rfl (by omega), zfit (k := 200) (z := 200) rfl rfl (by omega)⟩ dJ23_append_2_14) ⟨zad (k := 1) rfl (by omega), zad (k := 200) rfl (by omega)⟩ hS (fun q z => by subst z; exact hD.2 0 _ rfl) (fun r H3 locs hp hF hS1 => ?_)
  obtain ⟨rfl, ab2, hm, hN⟩ := hp
  obtain ⟨hP, hD⟩ := zjmn hP hD hS.1 hF 0 rfl hm hN
  have hP : va_P G.1 zCl ([(q, zOb 11 [.ref ab2, .int (iI 0), .int (iI 0), .int (iI ((n : Nat) : Int))]), (ab2, zB G (2 * mm9 + 2) (fun j => if j < mm9 then f j else 0))]) H3 := hP
  have hD : va_D (zA (fun z => z = q) H0) ([(q, zOb 11 [.ref ab2, .int (iI 0), .int (iI 0), .int (iI ((n : Nat) : Int))]), (ab2, zB G (2 * mm9 + 2) (fun j => if j < mm9 then f j else 0))]) := hD
  have hS := hS1
  refine lv_aload_n hx hb dJ23_append_2_17 rfl (lv_at hl 2 rfl) ?_
  refine z_go 1 200 (z_runU (n := 0) (As := []) (rest := []) hC hml hl.1 (m_J23_isLatin1 hE H3 (hO.ext (zS_F hS) hMo) q ab2 n (hP 0 _ rfl)) q634 q630 q632 q633 q631 q97 ⟨by decide +kernel, by decide +kernel, by decide +kernel⟩ rfl (z_rv hC (ci := 11) rfl (hP 0 _ rfl) rfl) rfl (Nat.le_of_ble_eq_true rfl) ⟨Nat.le_of_ble_eq_true rfl, Nat.le_of_ble_eq_true rfl⟩ ⟨zfit (k := 0) (z := 1) rfl rfl (by omega), zfit (k := 0) (z := 200) rfl rfl (by omega)⟩ dJ23_append_2_18) ⟨zad (k := 0) rfl (by omega), zad (k := 0) rfl (by omega)⟩ hS (fun _ z => z.elim) (fun r H4 locs hp hF hS1 => ?_)
  obtain ⟨_, rfl, rfl⟩ := hp
  have hP := zpk hP hF
  have hP : va_P G.1 zCl ([(q, zOb 11 [.ref ab2, .int (iI 0), .int (iI 0), .int (iI ((n : Nat) : Int))]), (ab2, zB G (2 * mm9 + 2) (fun j => if j < mm9 then f j else 0))]) H4 := hP
  have hD : va_D (zA (fun z => z = q) H0) ([(q, zOb 11 [.ref ab2, .int (iI 0), .int (iI 0), .int (iI ((n : Nat) : Int))]), (ab2, zB G (2 * mm9 + 2) (fun j => if j < mm9 then f j else 0))]) := hD
  have hS := hS1
  refine z_zeq (tgt := 37) hx hb dJ23_append_2_21 (by decide) (by omega) (fun c5 => ?_) (fun c5 => ?_)
  · omega
  · refine lv_iload_n hx hb dJ23_append_2_24 rfl (lv_at hl 3 rfl) ?_
    refine lv_iload_n hx hb dJ23_append_2_25 rfl (lv_at hl 0 rfl) ?_
    refine lv_aload_n hx hb dJ23_append_2_26 rfl (lv_at hl 2 rfl) ?_
    refine z_get hC (k := 0) rfl in_J24 (hP 0 _ rfl) (by decide) q566 (fun _ h => h) rfl dJ23_append_2_27 ?_
    refine z_go 1 200 (z_runS (As := [.int (iI ((v : Nat) : Int)), .int (iI ((n + ssz v : Nat) : Int)), .ref ab2]) (rest := []) hC hml hl.1 (m_J19_getChars hE H4 (hO.ext (zS_F hS) hMo) v (n + ssz v) ab2 (2 * mm9 + 2) (fun j => if j < mm9 then f j else 0) (Nat.le_trans hO.1 ((hD.2 1 _ rfl).resolve_left (fun e => by have := hD.1 0 1 _ _ rfl rfl e.symm; omega))) (hP 1 _ rfl) hv (by omega)) (lw_S q691 q692 q90 q693) nd_J19_getChars rfl rfl (Nat.le_of_ble_eq_true rfl) ⟨Nat.le_of_ble_eq_true rfl, Nat.le_of_ble_eq_true rfl⟩ ⟨zfit (k := 0) (z := 1) rfl rfl (by omega), zfit (k := 0) (z := 200) rfl rfl (by omega)⟩ dJ23_append_2_30) ⟨zad (k := 0) rfl (by omega), zad (k := 0) rfl (by omega)⟩ hS (fun q z => by subst z; exact hD.2 1 _ rfl) (fun r H6 locs hp hF hS1 => ?_)
    obtain ⟨gz9, rfl, hm⟩ := hp
    obtain ⟨hP, hD⟩ := zjm hP hD hF 1 rfl hm
    have hP : va_P G.1 zCl ([(q, zOb 11 [.ref ab2, .int (iI 0), .int (iI 0), .int (iI ((n : Nat) : Int))]), (ab2, zB G (2 * mm9 + 2) (gcV (fun j => if j < mm9 then f j else 0) (n + ssz v) v))]) H6 := hP
    have hD : va_D (zA (fun z => z = q) H0) ([(q, zOb 11 [.ref ab2, .int (iI 0), .int (iI 0), .int (iI ((n : Nat) : Int))]), (ab2, zB G (2 * mm9 + 2) (gcV (fun j => if j < mm9 then f j else 0) (n + ssz v) v))]) := hD
    have hS := hS1
    refine lv_pop hx hb dJ23_append_2_33 rfl ?_
    refine lv_goto (tgt := 48) hx hb dJ23_append_2_34 (by decide) ?_
    refine lv_aload_n hx hb dJ23_append_2_48 rfl (lv_at hl 2 rfl) ?_
    refine lv_iload_n hx hb dJ23_append_2_49 rfl (lv_at hl 0 rfl) ?_
    refine z_put hC hP hD hS 0 (k := 3) rfl rfl in_J24 tyJ24_ok nmJ24 (by decide) q569 (fun _ h => h) rfl rfl rfl rfl (Nat.le_of_ble_eq_true rfl) (ws' := [(q, zOb 11 [.ref ab2, .int (iI 0), .int (iI 0), .int (iI ((n + ssz v : Nat) : Int))]), (ab2, zB G (2 * mm9 + 2) (gcV (fun j => if j < mm9 then f j else 0) (n + ssz v) v))]) rfl dJ23_append_2_50 (fun H7 locs hP hD hS => ?_)
    refine lv_aload_n hx hb dJ23_append_2_53 rfl (lv_at hl 2 rfl) ?_
    exact z_aret hC hrt hlk hQ hS ⟨zle (z := 1) rfl (by omega), zle (z := 200) rfl (by omega)⟩ ⟨_, rfl, rfl, ab2, hP 0 _ rfl, zP1 (hP 1 _ rfl), zD1 ((hD.2 1 _ rfl).resolve_left (fun e => by have := hD.1 0 1 _ _ rfl rfl e.symm; omega))⟩ dJ23_append_2_54

abbrev rm_m_J24_appendi_b : Room := { frames := 5, cells := 1, slots := 200, locals := 127 }
set_option maxHeartbeats 4000000 in
theorem m_J24_appendi_b {l : Launch} {s0 : State} {G : zG} (hE : zE l s0 G) (H0 : Heap) (hO : zO s0 H0) (q arr n mm9 : Nat) (f : Nat → Int) (v : Nat) (hb0 : s0.heap.size ≤ q ∧ q ≠ arr) (hq0 : zAt G q (zOb 11 [.ref arr, .int (iI 0), .int (iI 0), .int (iI ((n : Nat) : Int))]) H0) (ha0 : zAt G arr (zB G mm9 f) H0) (hf : asc mm9 f) (hn : n ≤ mm9 ∧ mm9 < n + ssz v ∧ mm9 ≤ 70) (hv : v < 16) : zM l s0 yJ24_append_2 cJ24_append_2 2 (some (FieldType.object "java/lang/StringBuilder")) rm_m_J24_appendi_b [.ref q, .int (iI ((v : Nat) : Int))] H0 (fun z => z = q) (rr (fun y h1 => y = q ∧ ∃ arr1, zAt G q (zOb 11 [.ref arr1, .int (iI 0), .int (iI 0), .int (iI ((n + ssz v : Nat) : Int))]) h1 ∧ NW G H0 h1 [(arr1, zB G (2 * mm9 + 2) (gcV (fun j => if j < mm9 then f j else 0) (n + ssz v) v))])) := by
  refine z_met hE (by decide +kernel) (Nat.le_of_ble_eq_true rfl) ?_
  intro pp ee ss mm args below meth cd Q ls hC hml hrt hlk hnm hH hQ hS hl
  have hx := hC.x
  have hb := hC.b
  have hl : lv_has ls 2 [(0, .ref q), (1, .int (iI ((v : Nat) : Int)))] := hl
  have hP : va_P G.1 zCl [(q, zOb 11 [.ref arr, .int (iI 0), .int (iI 0), .int (iI ((n : Nat) : Int))])] H0 := zP1 hq0
  have hD : va_D (zA (fun z => z = q) H0) [(q, zOb 11 [.ref arr, .int (iI 0), .int (iI 0), .int (iI ((n : Nat) : Int))])] := zD1 (Or.inl rfl)
  have hMo : ∀ z, (fun z => z = q) z → s0.heap.size ≤ z := fun z hz => hz ▸ hb0.1
  refine lv_aload_n hx hb dJ24_append_2_0 rfl (lv_at hl 0 rfl) ?_
  refine lv_iload_n hx hb dJ24_append_2_1 rfl (lv_at hl 1 rfl) ?_
  refine z_go 1 200 (z_runSp (ci := 11) (n := 1) (As := [.int (iI ((v : Nat) : Int))]) (rest := []) hC hml hl.1 (m_J23_appendi_b hE H0 (hO.ext (zS_F hS) hMo) q arr n mm9 f v hb0 (hP 0 _ rfl) (zo hS ha0 (fun e => hb0.2 e.symm)) hf hn hv) q687 q685 q1951 q578 q686 q97 ⟨by decide +kernel, by decide +kernel⟩ rfl rfl rfl (z_rv hC (ci := 11) rfl (hP 0 _ rfl) rfl) rfl (Nat.le_of_ble_eq_true rfl) ⟨Nat.le_of_ble_eq_true rfl, Nat.le_of_ble_eq_true rfl⟩ ⟨zfit (k := 1) (z := 1) rfl rfl (by omega), zfit (k := 200) (z := 200) rfl rfl (by omega)⟩ dJ24_append_2_2) ⟨zad (k := 1) rfl (by omega), zad (k := 200) rfl (by omega)⟩ hS (fun q z => by subst z; exact hD.2 0 _ rfl) (fun r H1 locs hp hF hS1 => ?_)
  obtain ⟨y9, rfl, -, ab9, hm, hN⟩ := hp
  obtain ⟨hP, hD⟩ := zjmn hP hD hS.1 hF 0 rfl hm hN
  have hP : va_P G.1 zCl ([(q, zOb 11 [.ref ab9, .int (iI 0), .int (iI 0), .int (iI ((n + ssz v : Nat) : Int))]), (ab9, zB G (2 * mm9 + 2) (gcV (fun j => if j < mm9 then f j else 0) (n + ssz v) v))]) H1 := hP
  have hD : va_D (zA (fun z => z = q) H0) ([(q, zOb 11 [.ref ab9, .int (iI 0), .int (iI 0), .int (iI ((n + ssz v : Nat) : Int))]), (ab9, zB G (2 * mm9 + 2) (gcV (fun j => if j < mm9 then f j else 0) (n + ssz v) v))]) := hD
  have hS := hS1
  refine lv_pop hx hb dJ24_append_2_5 rfl ?_
  refine lv_aload_n hx hb dJ24_append_2_6 rfl (lv_at hl 0 rfl) ?_
  exact z_aret hC hrt hlk hQ hS ⟨zle (z := 1) rfl (by omega), zle (z := 200) rfl (by omega)⟩ ⟨_, rfl, rfl, ab9, hP 0 _ rfl, zP1 (hP 1 _ rfl), zD1 ((hD.2 1 _ rfl).resolve_left (fun e => by have := hD.1 0 1 _ _ rfl rfl e.symm; omega))⟩ dJ24_append_2_7

