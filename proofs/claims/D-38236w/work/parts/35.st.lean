/-! THE JDK: a String is made of a builder; THE CLASS: the text of an element -/
set_option maxRecDepth 100000
section ST
variable {p : Program} {l : Launch} {e : Env} {R : Room} {s : State} {m : MethodId} {args : Array Value} {below : List Frame} {meth : Method} {c : Code} {H : Heap} {locs : List Loc} {cells slots : Nat} {Q : State → Prop}
variable {cc : ByteArray} {pc : Nat} {ls : Array Slot} {rest : List Value} {s0 : State} {G : zG} {own : String}
theorem z_castB (h : zC p l s0 G s m args c own cc) {a n : Nat} {v : Nat → Int} {index : Nat} (ha : zAt G a (zB G n v) H) (hl : Cond.classLink own index "[B" ∈ lw_all) (d : decode cc pc = .ok (.checkcast index, 3)) (k : W p l e R s m args below meth c H locs cells slots Q (F0 m (pc + 3) ls (.ref a :: rest))) : W p l e R s m args below meth c H locs cells slots Q (F0 m pc ls (.ref a :: rest)) :=
  va_castA h.x h.b h.o (h.t _ hl) (zP1 ha) 0 rfl ((h.k.2 2 _ rfl).2) d k
end ST
abbrev rm_m_J11_checkLength : Room := { frames := 0, cells := 0, slots := 0, locals := 0 }
set_option maxHeartbeats 4000000 in
theorem m_J11_checkLength {l : Launch} {s0 : State} {G : zG} (hE : zE l s0 G) (H0 : Heap) (hO : zO s0 H0) (n : Nat) (hn : n ≤ 1000) : zM l s0 yJ11_checkLength cJ11_checkLength 2 (none : Option FieldType) rm_m_J11_checkLength [.int (iI 0), .int (iI ((n : Nat) : Int))] H0 M0 (rv (fun _ => True)) := by
  refine z_met hE (by decide +kernel) (Nat.le_of_ble_eq_true rfl) ?_
  intro pp ee ss mm args below meth cd Q ls hC hml hrt hlk hnm hH hQ hS hl
  have hx := hC.x
  have hb := hC.b
  have hl : lv_has ls 2 [(0, .int (iI 0)), (1, .int (iI ((n : Nat) : Int)))] := hl
  have hP : va_P G.1 zCl [] H0 := va_nil
  have hD : va_D (zA M0 H0) [] := va_nilD
  refine lv_iload_n hx hb dJ11_checkLength_0 rfl (lv_at hl 1 rfl) ?_
  refine lv_iload_n hx hb dJ11_checkLength_1 rfl (lv_at hl 0 rfl) ?_
  refine z_cge (tgt := 37) hx hb dJ11_checkLength_2 (by decide) (by omega) (fun c1 => ?_) (fun c1 => ?_)
  · exact z_vret hC hrt hlk hQ hS ⟨zle (z := 0) rfl (by omega), zle (z := 0) rfl (by omega)⟩ ⟨rfl, trivial⟩ dJ11_checkLength_37
  · omega

abbrev rm_m_J11_copyOfRangeByte : Room := { frames := 1, cells := 1, slots := 100, locals := 60 }
set_option maxHeartbeats 4000000 in
theorem m_J11_copyOfRangeByte {l : Launch} {s0 : State} {G : zG} (hE : zE l s0 G) (H0 : Heap) (hO : zO s0 H0) (a mm9 n : Nat) (f : Nat → Int) (h : zAt G a (zB G mm9 f) H0) (hn : n ≤ mm9 ∧ mm9 ≤ 1000 ∧ n ≤ 100) (hf : asc n f) : zM l s0 yJ11_copyOfRangeByte cJ11_copyOfRangeByte 5 (some (FieldType.array FieldType.byte)) rm_m_J11_copyOfRangeByte [.ref a, .int (iI 0), .int (iI ((n : Nat) : Int))] H0 M0 (rr (fun q h1 => ∃ f1 : Nat → Int, (∀ j, j < n → f1 j = f j) ∧ NW G H0 h1 [(q, zB G n f1)])) := by
  refine z_met hE (by decide +kernel) (Nat.le_of_ble_eq_true rfl) ?_
  intro pp ee ss mm args below meth cd Q ls hC hml hrt hlk hnm hH hQ hS hl
  have hx := hC.x
  have hb := hC.b
  have hl : lv_has ls 5 [(0, .ref a), (1, .int (iI 0)), (2, .int (iI ((n : Nat) : Int)))] := hl
  have hP : va_P G.1 zCl [] H0 := va_nil
  have hD : va_D (zA M0 H0) [] := va_nilD
  refine lv_iload_n hx hb dJ11_copyOfRangeByte_0 rfl (lv_at hl 1 rfl) ?_
  refine lv_iload_n hx hb dJ11_copyOfRangeByte_1 rfl (lv_at hl 2 rfl) ?_
  refine z_go 0 0 (z_runS (As := [.int (iI 0), .int (iI ((n : Nat) : Int))]) (rest := []) hC hml hl.1 (m_J11_checkLength hE H0 (hO.ext0 (zS_F hS)) n (by omega)) (lw_S q742 q743 q79 q744) nd_J11_checkLength rfl rfl (Nat.le_of_ble_eq_true rfl) ⟨Nat.le_of_ble_eq_true rfl, Nat.le_of_ble_eq_true rfl⟩ ⟨zfit (k := 0) (z := 1) rfl rfl (by omega), zfit (k := 0) (z := 100) rfl rfl (by omega)⟩ dJ11_copyOfRangeByte_2) ⟨zad (k := 0) rfl (by omega), zad (k := 0) rfl (by omega)⟩ hS (fun _ z => z.elim) (fun r H1 locs hp hF hS1 => ?_)
  obtain ⟨rfl, -⟩ := hp
  have hP := zpk hP hF
  have hP : va_P G.1 zCl ([]) H1 := hP
  have hD : va_D (zA M0 H0) ([]) := hD
  have hS := hS1
  refine lv_iload_n hx hb dJ11_copyOfRangeByte_5 rfl (lv_at hl 2 rfl) ?_
  refine lv_iload_n hx hb dJ11_copyOfRangeByte_6 rfl (lv_at hl 1 rfl) ?_
  refine z_sub hx hb (z := ((n : Nat) : Int) - 0) dJ11_copyOfRangeByte_7 rfl ?_
  refine z_top (b := ((n : Nat) : Int)) (by omega) ?_
  refine lv_istore_n (lv' := [(3, .int (iI ((n : Nat) : Int))), (0, .ref a), (1, .int (iI 0)), (2, .int (iI ((n : Nat) : Int)))]) hx hb dJ11_copyOfRangeByte_8 rfl hl (by decide) rfl (fun ls hl => ?_)
  refine lv_iload_n hx hb dJ11_copyOfRangeByte_9 rfl (lv_at hl 0 rfl) ?_
  refine z_newb hC hP hD hS (N := n) (c1 := 1) (s1 := 100) rfl (by omega) ⟨zle (z := 1) rfl (by omega), zle (z := 100) rfl (by omega)⟩ ⟨by omega, by omega⟩ (ws' := fun q2 => [(q2, zB G n (fun _ => 0))]) (fun _ => rfl) dJ11_copyOfRangeByte_10 (fun q2 H3 hq0q2 hq1q2 hP hD hS hF => ?_)
  refine lv_astore (lv' := [(4, .ref q2), (3, .int (iI ((n : Nat) : Int))), (0, .ref a), (1, .int (iI 0)), (2, .int (iI ((n : Nat) : Int)))]) hx hb dJ11_copyOfRangeByte_12 hl (by decide) rfl (fun ls hl => ?_)
  refine lv_aload_n hx hb dJ11_copyOfRangeByte_14 rfl (lv_at hl 2 rfl) ?_
  refine lv_iload_n hx hb dJ11_copyOfRangeByte_15 rfl (lv_at hl 3 rfl) ?_
  refine lv_aload hx hb dJ11_copyOfRangeByte_16 (lv_at hl 0 rfl) ?_
  refine lv_iconst (v := iI 0) hx hb dJ11_copyOfRangeByte_18 rfl ?_
  refine lv_aload_n hx hb dJ11_copyOfRangeByte_19 rfl (lv_at hl 2 rfl) ?_
  refine z_alen hC 2 (zo hS h id) rfl (y := ((mm9 : Nat) : Int)) rfl dJ11_copyOfRangeByte_20 ?_
  refine lv_iload_n hx hb dJ11_copyOfRangeByte_21 rfl (lv_at hl 3 rfl) ?_
  refine z_sub hx hb (z := ((mm9 : Nat) : Int) - 0) dJ11_copyOfRangeByte_22 rfl ?_
  refine z_top (b := ((mm9 : Nat) : Int)) (by omega) ?_
  refine lv_iload_n hx hb dJ11_copyOfRangeByte_23 rfl (lv_at hl 1 rfl) ?_
  refine z_go 1 100 (z_runS (As := [.int (iI ((mm9 : Nat) : Int)), .int (iI ((n : Nat) : Int))]) (rest := [.int (iI 0), .ref q2, .int (iI 0), .ref a]) hC hml hl.1 (m_J10_min hE H3 (hO.ext0 (zS_F hS)) (mm9 : Int) (n : Int) ⟨⟨by omega, by omega⟩, ⟨by omega, by omega⟩⟩) (lw_S q624 q625 q78 q626) nd_J10_min rfl rfl (Nat.le_of_ble_eq_true rfl) ⟨Nat.le_of_ble_eq_true rfl, Nat.le_of_ble_eq_true rfl⟩ ⟨zfit (k := 0) (z := 1) rfl rfl (by omega), zfit (k := 0) (z := 100) rfl rfl (by omega)⟩ dJ11_copyOfRangeByte_24) ⟨zad (k := 0) rfl (by omega), zad (k := 0) rfl (by omega)⟩ hS (fun _ z => z.elim) (fun r H4 locs hp hF hS1 => ?_)
  obtain ⟨_, rfl, rfl⟩ := hp
  have hP := zpk hP hF
  have hP : va_P G.1 zCl ([(q2, zB G n (fun _ => 0))]) H4 := hP
  have hD : va_D (zA M0 H0) ([(q2, zB G n (fun _ => 0))]) := hD
  have hS := hS1
  refine z_top (b := ((n : Nat) : Int)) (by split <;> omega) ?_
  refine z_copyb hC (hml.trans hl.1.symm) q627 hP hD hS 0 (k := n) (zo hS h id) rfl rfl (by omega) hf (ws' := [(q2, zB G n (fun j => if j < n then f j else 0))]) rfl (by decide +kernel) (by decide +kernel) dJ11_copyOfRangeByte_27 (fun H5 locs hP hD hS => ?_)
  refine lv_aload hx hb dJ11_copyOfRangeByte_30 (lv_at hl 0 rfl) ?_
  exact z_aretA hC hrt hlk hQ hS ⟨zle (z := 1) rfl (by omega), zle (z := 100) rfl (by omega)⟩ ⟨_, rfl, _, fun j hj => if_pos hj, hP, zdn hD⟩ dJ11_copyOfRangeByte_32

abbrev rm_m_J11_copyOfRange : Room := { frames := 2, cells := 1, slots := 100, locals := 84 }
set_option maxHeartbeats 4000000 in
theorem m_J11_copyOfRange {l : Launch} {s0 : State} {G : zG} (hE : zE l s0 G) (H0 : Heap) (hO : zO s0 H0) (a mm9 n : Nat) (f : Nat → Int) (h : zAt G a (zB G mm9 f) H0) (hn : n ≤ mm9 ∧ mm9 ≤ 1000 ∧ n ≤ 100) (hf : asc n f) : zM l s0 yJ11_copyOfRange cJ11_copyOfRange 3 (some (FieldType.array FieldType.byte)) rm_m_J11_copyOfRange [.ref a, .int (iI 0), .int (iI ((n : Nat) : Int))] H0 M0 (rr (fun q h1 => ∃ f1 : Nat → Int, (∀ j, j < n → f1 j = f j) ∧ NW G H0 h1 [(q, zB G n f1)])) := by
  refine z_met hE (by decide +kernel) (Nat.le_of_ble_eq_true rfl) ?_
  intro pp ee ss mm args below meth cd Q ls hC hml hrt hlk hnm hH hQ hS hl
  have hx := hC.x
  have hb := hC.b
  have hl : lv_has ls 3 [(0, .ref a), (1, .int (iI 0)), (2, .int (iI ((n : Nat) : Int)))] := hl
  have hP : va_P G.1 zCl [] H0 := va_nil
  have hD : va_D (zA M0 H0) [] := va_nilD
  refine lv_iload_n hx hb dJ11_copyOfRange_0 rfl (lv_at hl 1 rfl) ?_
  refine z_zne (tgt := 10) hx hb dJ11_copyOfRange_1 (by decide) (by omega) (fun c1 => ?_) (fun c1 => ?_)
  · omega
  · refine lv_iload_n hx hb dJ11_copyOfRange_4 rfl (lv_at hl 2 rfl) ?_
    refine lv_aload_n hx hb dJ11_copyOfRange_5 rfl (lv_at hl 0 rfl) ?_
    refine z_alen hC 2 (zo hS h id) rfl (y := ((mm9 : Nat) : Int)) rfl dJ11_copyOfRange_6 ?_
    refine z_ceq (tgt := 17) hx hb dJ11_copyOfRange_7 (by decide) (by omega) (fun c2 => ?_) (fun c2 => ?_)
    · have en : n = mm9 := by omega
      refine lv_aload_n hx hb dJ11_copyOfRange_17 rfl (lv_at hl 0 rfl) ?_
      refine z_cloneb hC (hml.trans hl.1.symm) (c1 := 1) (s1 := 100) q617 q618 q619 q620 q621 hP hD hS (zo hS h id) (va_at.lt h) id (by rw [← en]; exact hf) (by decide +kernel) (by decide +kernel) ⟨by show 0 + 1 ≤ 1; omega, by show 0 + mm9 ≤ 100; omega⟩ ⟨by omega, by omega⟩ dJ11_copyOfRange_18 (fun qc9 H3 hP hD hS => ?_)
      have hP : va_P G.1 zCl [(qc9, zB G mm9 f)] H3 := hP
      have hD : va_D (zA M0 H0) [(qc9, zB G mm9 f)] := hD
      refine z_castB hC (hP 0 _ rfl) q623 dJ11_copyOfRange_21 ?_
      exact z_aretA hC hrt hlk hQ hS ⟨zle (z := 1) rfl (by omega), zle (z := 100) rfl (by omega)⟩ ⟨_, rfl, f, fun j _ => rfl, by rw [en]; exact hP, by rw [en]; exact zdn hD⟩ dJ11_copyOfRange_24
    · refine lv_aload_n hx hb dJ11_copyOfRange_10 rfl (lv_at hl 0 rfl) ?_
      refine lv_iload_n hx hb dJ11_copyOfRange_11 rfl (lv_at hl 1 rfl) ?_
      refine lv_iload_n hx hb dJ11_copyOfRange_12 rfl (lv_at hl 2 rfl) ?_
      refine z_go 1 100 (z_runS (As := [.ref a, .int (iI 0), .int (iI ((n : Nat) : Int))]) (rest := []) hC hml hl.1 (m_J11_copyOfRangeByte hE H0 (hO.ext0 (zS_F hS)) a mm9 n f (zo hS h id) hn hf) (lw_S q739 q740 q79 q741) nd_J11_copyOfRangeByte rfl rfl (Nat.le_of_ble_eq_true rfl) ⟨Nat.le_of_ble_eq_true rfl, Nat.le_of_ble_eq_true rfl⟩ ⟨zfit (k := 1) (z := 1) rfl rfl (by omega), zfit (k := 100) (z := 100) rfl rfl (by omega)⟩ dJ11_copyOfRange_13) ⟨zad (k := 1) rfl (by omega), zad (k := 100) rfl (by omega)⟩ hS (fun _ z => z.elim) (fun r H4 locs hp hF hS1 => ?_)
      obtain ⟨qr9, rfl, f1, hf1, hN⟩ := hp
      obtain ⟨hP, hD⟩ := zjn hP hD hS.1 hF hN
      have hP : va_P G.1 zCl ([(qr9, zB G n f1)]) H4 := hP
      have hD : va_D (zA M0 H0) ([(qr9, zB G n f1)]) := hD
      have hS := hS1
      exact z_aretA hC hrt hlk hQ hS ⟨zle (z := 1) rfl (by omega), zle (z := 100) rfl (by omega)⟩ ⟨_, rfl, f1, hf1, hP, zdn hD⟩ dJ11_copyOfRange_16

abbrev rm_m_J14_init_2 : Room := { frames := 3, cells := 1, slots := 100, locals := 106 }
set_option maxHeartbeats 4000000 in
theorem m_J14_init_2 {l : Launch} {s0 : State} {G : zG} (hE : zE l s0 G) (H0 : Heap) (hO : zO s0 H0) (q sb arr n mm9 : Nat) (f : Nat → Int) (hq : s0.heap.size ≤ q) (h : zAt G q (zOb 12 [.null, .int (iI 0), .int (iI 0), .int (iI 0)]) H0) (hsb : zAt G sb (zOb 11 [.ref arr, .int (iI 0), .int (iI 0), .int (iI ((n : Nat) : Int))]) H0) (harr : zAt G arr (zB G mm9 f) H0) (hn : n ≤ mm9 ∧ mm9 ≤ 1000 ∧ n ≤ 100) (hf : asc n f) : zM l s0 yJ14_init_2 cJ14_init_2 5 (none : Option FieldType) rm_m_J14_init_2 [.ref q, .ref sb, .null] H0 (fun z => z = q) (rv (fun h1 => ∃ (b : Nat) (f1 : Nat → Int), (∀ j, j < n → f1 j = f j) ∧ zAt G q (zOb 12 [.ref b, .int (iI 0), .int (iI 0), .int (iI 0)]) h1 ∧ NW G H0 h1 [(b, zB G n f1)])) := by
  refine z_met hE (by decide +kernel) (Nat.le_of_ble_eq_true rfl) ?_
  intro pp ee ss mm args below meth cd Q ls hC hml hrt hlk hnm hH hQ hS hl
  have hx := hC.x
  have hb := hC.b
  have hl : lv_has ls 5 [(0, .ref q), (1, .ref sb), (2, .null)] := hl
  have hP : va_P G.1 zCl [(q, zOb 12 [.null, .int (iI 0), .int (iI 0), .int (iI 0)])] H0 := zP1 h
  have hD : va_D (zA (fun z => z = q) H0) [(q, zOb 12 [.null, .int (iI 0), .int (iI 0), .int (iI 0)])] := zD1 (Or.inl rfl)
  have hMo : ∀ z, (fun z => z = q) z → s0.heap.size ≤ z := fun z hz => hz ▸ hq
  have n1 : sb ≠ q := z_noCls hE (ci := 11) (cj := 12) rfl rfl (by decide) hsb h
  have n2 : arr ≠ q := Ne.symm (z_noArr hE (ci := 12) (t := 2) rfl h rfl harr)
  refine lv_aload_n hx hb dJ14_init_2_0 rfl (lv_at hl 0 rfl) ?_
  refine W.objInit hx hb hC.o (hC.t _ q728) (hC.t _ q108) (hC.t _ q109) rfl (by rw [hml]; exact hl.1) rfl dJ14_init_2_1 (Nat.le_of_ble_eq_true rfl) (Nat.le_of_ble_eq_true rfl) ?_
  refine W.eq (g2 := F0 mm 4 ls []) rfl ?_
  refine lv_aload_n hx hb dJ14_init_2_4 rfl (lv_at hl 1 rfl) ?_
  refine z_go 0 0 (z_runU (n := 0) (As := []) (rest := []) hC hml hl.1 (m_J23_getValue hE H0 (hO.ext (zS_F hS) hMo) sb arr n (zo hS hsb n1)) q733 q729 q731 q732 q730 q97 ⟨by decide +kernel, by decide +kernel, by decide +kernel⟩ rfl (z_rv hC (ci := 11) rfl (zo hS hsb n1) rfl) rfl (Nat.le_of_ble_eq_true rfl) ⟨Nat.le_of_ble_eq_true rfl, Nat.le_of_ble_eq_true rfl⟩ ⟨zfit (k := 0) (z := 1) rfl rfl (by omega), zfit (k := 0) (z := 100) rfl rfl (by omega)⟩ dJ14_init_2_5) ⟨zad (k := 0) rfl (by omega), zad (k := 0) rfl (by omega)⟩ hS (fun _ z => z.elim) (fun r H1 locs hp hF hS1 => ?_)
  obtain ⟨va9, rfl, hva⟩ := hp
  have hP := zpk hP hF
  have hP : va_P G.1 zCl ([(q, zOb 12 [.null, .int (iI 0), .int (iI 0), .int (iI 0)])]) H1 := hP
  have hD : va_D (zA (fun z => z = q) H0) ([(q, zOb 12 [.null, .int (iI 0), .int (iI 0), .int (iI 0)])]) := hD
  have hS := hS1
  have hva := hva.symm
  subst hva
  refine lv_astore_n (lv' := [(3, .ref arr), (0, .ref q), (1, .ref sb), (2, .null)]) hx hb dJ14_init_2_8 rfl hl (by decide) rfl (fun ls hl => ?_)
  refine lv_aload_n hx hb dJ14_init_2_9 rfl (lv_at hl 2 rfl) ?_
  refine z_go 0 0 (z_runO (n := 0) (As := []) (rest := []) hC hml hl.1 (m_J24_length hE H1 (hO.ext (zS_F hS) hMo) sb arr n (zo hS hsb n1)) q584 q734 q1946 q1952 q582 q98 q586 q587 ⟨by decide +kernel, by decide +kernel, by decide +kernel⟩ rfl (z_rv hC (ci := 11) rfl (zo hS hsb n1) rfl) rfl (Nat.le_of_ble_eq_true rfl) ⟨Nat.le_of_ble_eq_true rfl, Nat.le_of_ble_eq_true rfl⟩ ⟨zfit (k := 0) (z := 1) rfl rfl (by omega), zfit (k := 0) (z := 100) rfl rfl (by omega)⟩ dJ14_init_2_10) ⟨zad (k := 0) rfl (by omega), zad (k := 0) rfl (by omega)⟩ hS (fun _ z => z.elim) (fun r H2 locs hp hF hS1 => ?_)
  obtain ⟨_, rfl, rfl⟩ := hp
  have hP := zpk hP hF
  have hP : va_P G.1 zCl ([(q, zOb 12 [.null, .int (iI 0), .int (iI 0), .int (iI 0)])]) H2 := hP
  have hD : va_D (zA (fun z => z = q) H0) ([(q, zOb 12 [.null, .int (iI 0), .int (iI 0), .int (iI 0)])]) := hD
  have hS := hS1
  refine lv_istore (lv' := [(4, .int (iI ((n : Nat) : Int))), (3, .ref arr), (0, .ref q), (1, .ref sb), (2, .null)]) hx hb dJ14_init_2_13 hl (by decide) rfl (fun ls hl => ?_)
  refine lv_aload_n hx hb dJ14_init_2_15 rfl (lv_at hl 3 rfl) ?_
  refine z_go 0 0 (z_runU (n := 0) (As := []) (rest := []) hC hml hl.1 (m_J23_isLatin1 hE H2 (hO.ext (zS_F hS) hMo) sb arr n (zo hS hsb n1)) q634 q735 q632 q633 q631 q97 ⟨by decide +kernel, by decide +kernel, by decide +kernel⟩ rfl (z_rv hC (ci := 11) rfl (zo hS hsb n1) rfl) rfl (Nat.le_of_ble_eq_true rfl) ⟨Nat.le_of_ble_eq_true rfl, Nat.le_of_ble_eq_true rfl⟩ ⟨zfit (k := 0) (z := 1) rfl rfl (by omega), zfit (k := 0) (z := 100) rfl rfl (by omega)⟩ dJ14_init_2_16) ⟨zad (k := 0) rfl (by omega), zad (k := 0) rfl (by omega)⟩ hS (fun _ z => z.elim) (fun r H3 locs hp hF hS1 => ?_)
  obtain ⟨_, rfl, rfl⟩ := hp
  have hP := zpk hP hF
  have hP : va_P G.1 zCl ([(q, zOb 12 [.null, .int (iI 0), .int (iI 0), .int (iI 0)])]) H3 := hP
  have hD : va_D (zA (fun z => z = q) H0) ([(q, zOb 12 [.null, .int (iI 0), .int (iI 0), .int (iI 0)])]) := hD
  have hS := hS1
  refine z_zeq (tgt := 41) hx hb dJ14_init_2_19 (by decide) (by omega) (fun c4 => ?_) (fun c4 => ?_)
  · omega
  · refine lv_aload_n hx hb dJ14_init_2_22 rfl (lv_at hl 2 rfl) ?_
    refine lv_iconst (v := iI 0) hx hb dJ14_init_2_23 rfl ?_
    refine z_putF hC hnm hP hD hS 0 (k := 1) rfl rfl in_J14 tyJ14_ok nmJ14 (by decide) q869 (fun _ h => h) rfl rfl rfl rfl rfl (Nat.le_of_ble_eq_true rfl) (ws' := [(q, zOb 12 [.null, .int (iI 0), .int (iI 0), .int (iI 0)])]) rfl dJ14_init_2_24 (fun H5 locs hP hD hS => ?_)
    refine lv_aload_n hx hb dJ14_init_2_27 rfl (lv_at hl 2 rfl) ?_
    refine lv_aload_n hx hb dJ14_init_2_28 rfl (lv_at hl 1 rfl) ?_
    refine lv_iconst (v := iI 0) hx hb dJ14_init_2_29 rfl ?_
    refine lv_iload hx hb dJ14_init_2_30 (lv_at hl 0 rfl) ?_
    refine z_go 1 100 (z_runS (As := [.ref arr, .int (iI 0), .int (iI ((n : Nat) : Int))]) (rest := [.ref q]) hC hml hl.1 (m_J11_copyOfRange hE H5 (hO.ext (zS_F hS) hMo) arr mm9 n f (zo hS harr n2) hn hf) (lw_S q736 q737 q79 q738) nd_J11_copyOfRange rfl rfl (Nat.le_of_ble_eq_true rfl) ⟨Nat.le_of_ble_eq_true rfl, Nat.le_of_ble_eq_true rfl⟩ ⟨zfit (k := 1) (z := 1) rfl rfl (by omega), zfit (k := 100) (z := 100) rfl rfl (by omega)⟩ dJ14_init_2_32) ⟨zad (k := 1) rfl (by omega), zad (k := 100) rfl (by omega)⟩ hS (fun _ z => z.elim) (fun r H6 locs hp hF hS1 => ?_)
    obtain ⟨qr9, rfl, f1, hf1, hN⟩ := hp
    obtain ⟨hP, hD⟩ := zjn hP hD hS.1 hF hN
    have hP : va_P G.1 zCl ([(q, zOb 12 [.null, .int (iI 0), .int (iI 0), .int (iI 0)]), (qr9, zB G n f1)]) H6 := hP
    have hD : va_D (zA (fun z => z = q) H0) ([(q, zOb 12 [.null, .int (iI 0), .int (iI 0), .int (iI 0)]), (qr9, zB G n f1)]) := hD
    have hS := hS1
    refine z_putF hC hnm hP hD hS 0 (k := 0) rfl rfl in_J14 tyJ14_ok nmJ14 (by decide) q868 (fun _ h => h) rfl rfl rfl rfl rfl (Nat.le_of_ble_eq_true rfl) (ws' := [(q, zOb 12 [.ref qr9, .int (iI 0), .int (iI 0), .int (iI 0)]), (qr9, zB G n f1)]) rfl dJ14_init_2_35 (fun H7 locs hP hD hS => ?_)
    refine lv_goto (tgt := 97) hx hb dJ14_init_2_38 (by decide) ?_
    exact z_vret hC hrt hlk hQ hS ⟨zle (z := 1) rfl (by omega), zle (z := 100) rfl (by omega)⟩ ⟨rfl, _, f1, hf1, hP 0 _ rfl, zP1 (hP 1 _ rfl), zD1 ((hD.2 1 _ rfl).resolve_left (fun e => by have := hD.1 0 1 _ _ rfl rfl e.symm; omega))⟩ dJ14_init_2_97

abbrev rm_m_J14_init : Room := { frames := 4, cells := 1, slots := 100, locals := 130 }
set_option maxHeartbeats 4000000 in
theorem m_J14_init {l : Launch} {s0 : State} {G : zG} (hE : zE l s0 G) (H0 : Heap) (hO : zO s0 H0) (q sb arr n mm9 : Nat) (f : Nat → Int) (hq : s0.heap.size ≤ q) (h : zAt G q (zOb 12 [.null, .int (iI 0), .int (iI 0), .int (iI 0)]) H0) (hsb : zAt G sb (zOb 11 [.ref arr, .int (iI 0), .int (iI 0), .int (iI ((n : Nat) : Int))]) H0) (harr : zAt G arr (zB G mm9 f) H0) (hn : n ≤ mm9 ∧ mm9 ≤ 1000 ∧ n ≤ 100) (hf : asc n f) : zM l s0 yJ14_init cJ14_init 2 (none : Option FieldType) rm_m_J14_init [.ref q, .ref sb] H0 (fun z => z = q) (rv (fun h1 => ∃ (b : Nat) (f1 : Nat → Int), (∀ j, j < n → f1 j = f j) ∧ zAt G q (zOb 12 [.ref b, .int (iI 0), .int (iI 0), .int (iI 0)]) h1 ∧ NW G H0 h1 [(b, zB G n f1)])) := by
  refine z_met hE (by decide +kernel) (Nat.le_of_ble_eq_true rfl) ?_
  intro pp ee ss mm args below meth cd Q ls hC hml hrt hlk hnm hH hQ hS hl
  have hx := hC.x
  have hb := hC.b
  have hl : lv_has ls 2 [(0, .ref q), (1, .ref sb)] := hl
  have hP : va_P G.1 zCl [(q, zOb 12 [.null, .int (iI 0), .int (iI 0), .int (iI 0)])] H0 := zP1 h
  have hD : va_D (zA (fun z => z = q) H0) [(q, zOb 12 [.null, .int (iI 0), .int (iI 0), .int (iI 0)])] := zD1 (Or.inl rfl)
  have hMo : ∀ z, (fun z => z = q) z → s0.heap.size ≤ z := fun z hz => hz ▸ hq
  have n1 : sb ≠ q := z_noCls hE (ci := 11) (cj := 12) rfl rfl (by decide) hsb h
  have n2 : arr ≠ q := Ne.symm (z_noArr hE (ci := 12) (t := 2) rfl h rfl harr)
  refine lv_aload_n hx hb dJ14_init_0 rfl (lv_at hl 0 rfl) ?_
  refine lv_aload_n hx hb dJ14_init_1 rfl (lv_at hl 1 rfl) ?_
  refine lv_null hx hb dJ14_init_2 ?_
  refine z_go 1 100 (z_runI (As := [.ref sb, .null]) (rest := []) hC hml hl.1 (m_J14_init_2 hE H0 (hO.ext (zS_F hS) hMo) q sb arr n mm9 f hq (hP 0 _ rfl) (zo hS hsb n1) (zo hS harr n2) hn hf) q727 q85 q725 q726 rfl nd_J14_init_2 rfl rfl (Nat.le_of_ble_eq_true rfl) ⟨Nat.le_of_ble_eq_true rfl, Nat.le_of_ble_eq_true rfl⟩ ⟨zfit (k := 1) (z := 1) rfl rfl (by omega), zfit (k := 100) (z := 100) rfl rfl (by omega)⟩ dJ14_init_3) ⟨zad (k := 1) rfl (by omega), zad (k := 100) rfl (by omega)⟩ hS (fun q z => by subst z; exact hD.2 0 _ rfl) (fun r H1 locs hp hF hS1 => ?_)
  obtain ⟨rfl, b9, f1, hf1, hm, hN⟩ := hp
  obtain ⟨hP, hD⟩ := zjmn hP hD hS.1 hF 0 rfl hm hN
  have hP : va_P G.1 zCl ([(q, zOb 12 [.ref b9, .int (iI 0), .int (iI 0), .int (iI 0)]), (b9, zB G n f1)]) H1 := hP
  have hD : va_D (zA (fun z => z = q) H0) ([(q, zOb 12 [.ref b9, .int (iI 0), .int (iI 0), .int (iI 0)]), (b9, zB G n f1)]) := hD
  have hS := hS1
  exact z_vret hC hrt hlk hQ hS ⟨zle (z := 1) rfl (by omega), zle (z := 100) rfl (by omega)⟩ ⟨rfl, _, f1, hf1, hP 0 _ rfl, zP1 (hP 1 _ rfl), zD1 ((hD.2 1 _ rfl).resolve_left (fun e => by have := hD.1 0 1 _ _ rfl rfl e.symm; omega))⟩ dJ14_init_6

abbrev rm_m_J24_toString : Room := { frames := 5, cells := 2, slots := 104, locals := 151 }
set_option maxHeartbeats 4000000 in
theorem m_J24_toString {l : Launch} {s0 : State} {G : zG} (hE : zE l s0 G) (H0 : Heap) (hO : zO s0 H0) (sb arr n mm9 : Nat) (f : Nat → Int) (hsb : zAt G sb (zOb 11 [.ref arr, .int (iI 0), .int (iI 0), .int (iI ((n : Nat) : Int))]) H0) (harr : zAt G arr (zB G mm9 f) H0) (hn : n ≤ mm9 ∧ mm9 ≤ 1000 ∧ n ≤ 100) (hf : asc n f) : zM l s0 yJ24_toString cJ24_toString 1 (some (FieldType.object "java/lang/String")) rm_m_J24_toString [.ref sb] H0 M0 (rr (fun q h1 => ∃ (b : Nat) (f1 : Nat → Int), (∀ j, j < n → f1 j = f j) ∧ NW G H0 h1 [(q, zOb 12 [.ref b, .int (iI 0), .int (iI 0), .int (iI 0)]), (b, zB G n f1)])) := by
  refine z_met hE (by decide +kernel) (Nat.le_of_ble_eq_true rfl) ?_
  intro pp ee ss mm args below meth cd Q ls hC hml hrt hlk hnm hH hQ hS hl
  have hx := hC.x
  have hb := hC.b
  have hl : lv_has ls 1 [(0, .ref sb)] := hl
  have hP : va_P G.1 zCl [] H0 := va_nil
  have hD : va_D (zA M0 H0) [] := va_nilD
  refine z_new hC hP hD hS (c1 := 1) (s1 := 4) (fs := [.null, .int (iI 0), .int (iI 0), .int (iI 0)]) (ci := 12) rfl in_J14 tyJ14_ok q720 q721 q85 df_J14 ⟨zle (z := 2) rfl (by omega), zle (z := 104) rfl (by omega)⟩ ⟨by omega, by omega⟩ (ws' := fun q1 => [(q1, zOb 12 [.null, .int (iI 0), .int (iI 0), .int (iI 0)])]) (fun _ => rfl) dJ24_toString_0 (fun q1 H2 hq0q1 hq1q1 hP hD hS hF => ?_)
  refine lv_dup hx hb dJ24_toString_3 rfl ?_
  refine lv_aload_n hx hb dJ24_toString_4 rfl (lv_at hl 0 rfl) ?_
  refine z_go 2 104 (z_runI (As := [.ref sb]) (rest := [.ref q1]) hC hml hl.1 (m_J14_init hE H2 (hO.ext0 (zS_F hS)) q1 sb arr n mm9 f (Nat.le_trans hO.1 hq0q1) (hP 0 _ rfl) (zo hS hsb id) (zo hS harr id) hn hf) q724 q85 q722 q723 rfl nd_J14_init rfl rfl (Nat.le_of_ble_eq_true rfl) ⟨Nat.le_of_ble_eq_true rfl, Nat.le_of_ble_eq_true rfl⟩ ⟨zfit (k := 1) (z := 2) rfl rfl (by omega), zfit (k := 100) (z := 104) rfl rfl (by omega)⟩ dJ24_toString_5) ⟨zad (k := 1) rfl (by omega), zad (k := 100) rfl (by omega)⟩ hS (fun q z => by subst z; exact hD.2 0 _ rfl) (fun r H3 locs hp hF hS1 => ?_)
  obtain ⟨rfl, b9, f1, hf1, hm, hN⟩ := hp
  obtain ⟨hP, hD⟩ := zjmn hP hD hS.1 hF 0 rfl hm hN
  have hP : va_P G.1 zCl ([(q1, zOb 12 [.ref b9, .int (iI 0), .int (iI 0), .int (iI 0)]), (b9, zB G n f1)]) H3 := hP
  have hD : va_D (zA M0 H0) ([(q1, zOb 12 [.ref b9, .int (iI 0), .int (iI 0), .int (iI 0)]), (b9, zB G n f1)]) := hD
  have hS := hS1
  exact z_aret hC hrt hlk hQ hS ⟨zle (z := 2) rfl (by omega), zle (z := 104) rfl (by omega)⟩ ⟨_, rfl, _, f1, hf1, hP, zdn hD⟩ dJ24_toString_8

def dgL (v : Nat) : List Int := if v < 10 then [((48 + v % 10 : Nat) : Int)] else [((48 + v / 10 : Nat) : Int), ((48 + v % 10 : Nat) : Int)]
def plL (L : List Int) : List Int := if L = [] then [] else L ++ [43]
def txL (v : Nat → Int) : Nat → List Int
  | 0 => []
  | k + 1 => if v k = 0 then txL v k else ((plL (txL v k) ++ dgL (v k).toNat) ++ [101]) ++ dgL k
def txF (n : Nat) (v : Nat → Int) : List Int := if txL v n = [] then [48] else txL v n
def zStr (G : zG) (H0 : Heap) (y : Nat) (L : List Int) (h1 : Heap) : Prop := (∃ b : Nat, NW G H0 h1 [(y, zOb 12 [.ref b, .int (iI 0), .int (iI 0), .int (iI 0)]), (b, zB G L.length (fun j => L.getD j 0))]) ∨ (y = G.2 17 ∧ L = [48])
def capR (mm9 gr : Nat) : Prop := (mm9 = 16 ∧ gr = 0) ∨ (mm9 = 34 ∧ gr = 1) ∨ (mm9 = 70 ∧ gr = 2) ∨ (mm9 = 142 ∧ gr = 3)
def sbI (L : List Int) (len mm9 gr : Nat) (f : Nat → Int) : Prop := len = L.length ∧ (∀ j, j < len → f j = L.getD j 0) ∧ asc mm9 f ∧ len ≤ mm9 ∧ capR mm9 gr
theorem getD_app {L L2 : List Int} (j : Nat) : (L ++ L2).getD j 0 = if j < L.length then L.getD j 0 else L2.getD (j - L.length) 0 := by
  simp only [List.getD_eq_getElem?_getD]
  by_cases h : j < L.length
  · rw [if_pos h, List.getElem?_append_left h]
  · rw [if_neg h, List.getElem?_append_right (by omega)]
theorem asc_gr {m m2 : Nat} {f : Nat → Int} (h : asc m f) : asc m2 (fun j => if j < m then f j else 0) := by
  intro j _
  show 0 ≤ (if j < m then f j else 0) ∧ (if j < m then f j else 0) < 128
  split
  · exact h j (by assumption)
  · omega
theorem asc_up {m i : Nat} {f : Nat → Int} {x : Int} (h : asc m f) (hx : 0 ≤ x ∧ x < 128) : asc m (va_up f i x) := by
  intro j hj
  by_cases e : j = i
  · subst e; rw [va_up_self]; exact hx
  · rw [va_up_ne _ _ e]; exact h j hj
/-- the same text in an array grown -/
theorem sbI.grown {L : List Int} {len mm9 gr : Nat} {f : Nat → Int} (h : sbI L len mm9 gr f) (hm : mm9 ≤ 70) : sbI L len (2 * mm9 + 2) (gr + 1) (fun j => if j < mm9 then f j else 0) := by
  obtain ⟨h1, h2, h3, h4, h5⟩ := h
  refine ⟨h1, fun j hj => ?_, asc_gr h3, by omega, ?_⟩
  · show (if j < mm9 then f j else 0) = _
    rw [if_pos (by omega)]; exact h2 j hj
  · unfold capR at h5 ⊢; omega
theorem sbI.chr {L : List Int} {len mm9 gr c : Nat} {f : Nat → Int} (h : sbI L len mm9 gr f) (hm : len + 1 ≤ mm9) (hc : c < 128) : sbI (L ++ [((c : Nat) : Int)]) (len + 1) mm9 gr (va_up f len ((c : Nat) : Int)) := by
  obtain ⟨h1, h2, h3, h4, h5⟩ := h
  refine ⟨by rw [h1, List.length_append]; rfl, fun j hj => ?_, asc_up h3 (by omega), hm, h5⟩
  rw [getD_app, ← h1]
  by_cases e : j = len
  · subst e; rw [va_up_self, if_neg (by omega), Nat.sub_self]; rfl
  · rw [va_up_ne _ _ e, if_pos (by omega)]; exact h2 j (by omega)
theorem dgL_len (v : Nat) : (dgL v).length = ssz v := by unfold dgL ssz; split <;> rfl
theorem sbI.num {L : List Int} {len mm9 gr v : Nat} {f : Nat → Int} (h : sbI L len mm9 gr f) (hm : len + ssz v ≤ mm9) (hv : v < 16) : sbI (L ++ dgL v) (len + ssz v) mm9 gr (gcV f (len + ssz v) v) := by
  obtain ⟨h1, h2, h3, h4, h5⟩ := h
  refine ⟨by rw [h1, List.length_append, dgL_len], fun j hj => ?_, ?_, hm, h5⟩
  · rw [getD_app, ← h1]
    unfold gcV dgL ssz at *
    by_cases hv9 : v < 10
    · rw [if_pos hv9] at hj ⊢
      simp only [if_pos hv9]
      by_cases e : j = len
      · subst e; rw [show j + 1 - 1 = j by omega, va_up_self, if_neg (by omega), Nat.sub_self]; rfl
      · rw [va_up_ne _ _ (by omega), if_pos (by omega)]; exact h2 j (by omega)
    · rw [if_neg hv9] at hj ⊢
      simp only [if_neg hv9]
      by_cases e : j = len
      · subst e; rw [show j + 2 - 2 = j by omega, va_up_self, if_neg (by omega), Nat.sub_self]; rfl
      · by_cases e2 : j = len + 1
        · subst e2; rw [va_up_ne _ _ (by omega), show len + 2 - 1 = len + 1 by omega, va_up_self, if_neg (by omega), show len + 1 - len = 1 by omega]; rfl
        · rw [va_up_ne _ _ (by omega), va_up_ne _ _ (by omega), if_pos (by omega)]; exact h2 j (by omega)
  · unfold gcV
    split
    · exact asc_up h3 (by omega)
    · exact asc_up (asc_up h3 (by omega)) (by omega)
theorem txL_s {v : Nat → Int} {k : Nat} (h : v k ≠ 0) : txL v (k + 1) = (((plL (txL v k) ++ dgL (v k).toNat)) ++ [((101 : Nat) : Int)]) ++ dgL k := by simp only [txL]; rw [if_neg h]; rfl
theorem sbI.pl0 {L : List Int} {len mm9 gr : Nat} {f : Nat → Int} (h : sbI L len mm9 gr f) (h0 : len ≤ 0) : sbI (plL L) len mm9 gr f := by
  have e : L = [] := List.length_eq_zero_iff.mp (by have := h.1; omega)
  unfold plL
  rw [if_pos e, ← e]
  exact h
theorem sbI.pl1 {L : List Int} {len mm9 gr : Nat} {f : Nat → Int} (h : sbI (L ++ [((43 : Nat) : Int)]) len mm9 gr f) (h0 : L ≠ []) : sbI (plL L) len mm9 gr f := by
  unfold plL
  rw [if_neg h0]
  exact h
theorem sbI.ne {L : List Int} {len mm9 gr : Nat} {f : Nat → Int} (h : sbI L len mm9 gr f) (h0 : 0 < len) : L ≠ [] := fun e => by
  have := h.1
  rw [e] at this
  simp at this
  omega
theorem sb_hb {s0 : State} {H0 : Heap} {q arr : Nat} {e e2 : va_E} {ws : va_W} (hO : zO s0 H0) (hD : va_D (zA M0 H0) ((q, e) :: (arr, e2) :: ws)) : (s0.heap.size ≤ q ∧ s0.heap.size ≤ arr) ∧ q ≠ arr :=
  ⟨⟨Nat.le_trans hO.1 ((hD.2 0 _ rfl).resolve_left id), Nat.le_trans hO.1 ((hD.2 1 _ rfl).resolve_left id)⟩, fun z => by have := hD.1 0 1 _ _ rfl rfl z; omega⟩
abbrev rm_m_X7_toString : Room := { frames := 6, cells := 12, slots := 900, locals := 171 }
set_option maxHeartbeats 4000000 in
theorem m_X7_toString {l : Launch} {s0 : State} {G : zG} (hE : zE l s0 G) (H0 : Heap) (hO : zO s0 H0) (x g : Nat) (p : Int) (d n kd : Nat) (dv : Nat → Int) (sg : Nat → Nat → Int) (a r : Nat) (v : Nat → Int) (hA : zAg G x g p d n kd dv sg H0) (h : zEl G x g a r n v H0) (hv : rw_ok p n v) : zM l s0 yX7_toString cX7_toString 3 (some (FieldType.object "java/lang/String")) rm_m_X7_toString [.ref a] H0 M0 (rr (fun y h1 => zStr G H0 y (txF n v) h1)) := by
  refine z_met hE (by decide +kernel) (Nat.le_of_ble_eq_true rfl) ?_
  intro pp ee ss mm args below meth cd Q ls hC hml hrt hlk hnm hH hQ hS hl
  have hx := hC.x
  have hb := hC.b
  have hl : lv_has ls 3 [(0, .ref a)] := hl
  have hP : va_P G.1 zCl [] H0 := va_nil
  have hD : va_D (zA M0 H0) [] := va_nilD
  obtain ⟨la, le, dr, kn, sm, dl, da, ml, so, dm, ro, hx0, hg0, hL0, hso, hro, hfa⟩ := id hA
  obtain ⟨hp, hd4, hn2, hkd, hdv, hsg⟩ := hfa
  obtain ⟨hn16, hp7⟩ := hA.n
  refine z_new hC hP hD hS (c1 := 1) (s1 := 4) (fs := [.null, .int (iI 0), .int (iI 0), .int (iI 0)]) (ci := 11) rfl in_J24 tyJ24_ok q549 q550 q98 df_J24 ⟨zle (z := 12) rfl (by omega), zle (z := 900) rfl (by omega)⟩ ⟨by omega, by omega⟩ (ws' := fun q1 => [(q1, zOb 11 [.null, .int (iI 0), .int (iI 0), .int (iI 0)])]) (fun _ => rfl) dX7_toString_0 (fun q1 H2 hq0q1 hq1q1 hP hD hS hF => ?_)
  refine lv_dup hx hb dX7_toString_3 rfl ?_
  refine z_go 2 20 (z_runI (As := []) (rest := [.ref q1]) hC hml hl.1 (m_J24_init hE H2 (hO.ext0 (zS_F hS)) q1 (Nat.le_trans hO.1 hq0q1) (hP 0 _ rfl)) q553 q98 q551 q552 rfl nd_J24_init rfl rfl (Nat.le_of_ble_eq_true rfl) ⟨Nat.le_of_ble_eq_true rfl, Nat.le_of_ble_eq_true rfl⟩ ⟨zfit (k := 1) (z := 12) rfl rfl (by omega), zfit (k := 16) (z := 900) rfl rfl (by omega)⟩ dX7_toString_4) ⟨zad (k := 1) rfl (by omega), zad (k := 16) rfl (by omega)⟩ hS (fun q z => by subst z; exact hD.2 0 _ rfl) (fun r H3 locs hp hF hS1 => ?_)
  obtain ⟨rfl, arr0, hm, hN⟩ := hp
  obtain ⟨hP, hD⟩ := zjmn hP hD hS.1 hF 0 rfl hm hN
  have hP : va_P G.1 zCl ([(q1, zOb 11 [.ref arr0, .int (iI 0), .int (iI 0), .int (iI 0)]), (arr0, zB G 16 (fun _ => 0))]) H3 := hP
  have hD : va_D (zA M0 H0) ([(q1, zOb 11 [.ref arr0, .int (iI 0), .int (iI 0), .int (iI 0)]), (arr0, zB G 16 (fun _ => 0))]) := hD
  have hS := hS1
  refine lv_astore_n (lv' := [(1, .ref q1), (0, .ref a)]) hx hb dX7_toString_7 rfl hl (by decide) rfl (fun ls hl => ?_)
  refine lv_iconst (v := iI 0) hx hb dX7_toString_8 rfl ?_
  refine lv_istore_n (lv' := [(2, .int (iI 0)), (1, .ref q1), (0, .ref a)]) hx hb dX7_toString_9 rfl hl (by decide) rfl (fun ls hl => ?_)
  have lp4 : ∀ (dlp4 : Nat) (k : Nat) (len0 : Nat) (arr09 : Nat) (mm09 : Nat) (gr0 : Nat) (f09 : Nat → Int), n - k = dlp4 → (k ≤ n) → (sbI (txL v k) len0 mm09 gr0 f09) → (len0 ≤ 5 * k) → ∀ (H5 : Heap) (locs : List Loc) (ls : Array Slot), va_P G.1 zCl ([(q1, zOb 11 [.ref arr09, .int (iI 0), .int (iI 0), .int (iI ((len0 : Nat) : Int))]), (arr09, zB G mm09 f09)]) H5 → va_D (zA M0 H0) ([(q1, zOb 11 [.ref arr09, .int (iI 0), .int (iI 0), .int (iI ((len0 : Nat) : Int))]), (arr09, zB G mm09 f09)]) → va_S (zA M0 H0) H0 H5 locs → lv_has ls 3 [(2, .int (iI ((k : Nat) : Int))), (1, .ref q1), (0, .ref a)] → W pp l ee rm_m_X7_toString ss mm args below meth cd H5 locs (2 + gr0) (20 + 200 * gr0) Q (F0 mm 10 ls []) := by
    intro dlp4
    induction dlp4 using Nat.strongRecOn with
    | ind dlp4 ihlp4 =>
      intro k len0 arr09 mm09 gr0 f09 hdlp4 hk hs0 hlen0 H5 locs ls  hP hD hS hl
      refine lv_iload_n hx hb dX7_toString_10 rfl (lv_at hl 0 rfl) ?_
      refine lv_aload_n hx hb dX7_toString_11 rfl (lv_at hl 2 rfl) ?_
      refine z_get hC (k := 1) rfl in_X7 (zo hS h.1 id) (by decide) q324 (fun _ h => h) rfl dX7_toString_12 ?_
      refine z_alen hC 0 (zo hS h.2 id) rfl (y := ((n : Nat) : Int)) rfl dX7_toString_15 ?_
      refine z_cge (tgt := 71) hx hb dX7_toString_16 (by decide) (by omega) (fun c6 => ?_) (fun c6 => ?_)
      · have ek : k = n := by omega
        rw [ek] at hs0
        have hcap := hs0.2.2.2.2
        unfold capR at hcap
        have hlm := hs0.2.2.2.1
        refine lv_aload_n hx hb dX7_toString_71 rfl (lv_at hl 1 rfl) ?_
        refine z_go (2 + gr0) (20 + 200 * gr0) (z_runV (As := []) (rest := []) hC hml hl.1 (m_J24_length hE H5 (hO.ext0 (zS_F hS)) q1 arr09 len0 (hP 0 _ rfl)) (lw_V q581 q582 q583 q98 q584) rfl nd_J24_length rfl (z_rv hC (ci := 11) rfl (hP 0 _ rfl) rfl) rfl (Nat.le_of_ble_eq_true rfl) ⟨Nat.le_of_ble_eq_true rfl, Nat.le_of_ble_eq_true rfl⟩ ⟨zfit (k := 0) (z := 12) rfl rfl (by omega), zfit (k := 0) (z := 900) rfl rfl (by omega)⟩ dX7_toString_72) ⟨zad (k := 0) rfl (by omega), zad (k := 0) rfl (by omega)⟩ hS (fun _ z => z.elim) (fun r H7 locs hp hF hS1 => ?_)
        obtain ⟨_, rfl, rfl⟩ := hp
        have hP := zpk hP hF
        have hP : va_P G.1 zCl ([(q1, zOb 11 [.ref arr09, .int (iI 0), .int (iI 0), .int (iI ((len0 : Nat) : Int))]), (arr09, zB G mm09 f09)]) H7 := hP
        have hD : va_D (zA M0 H0) ([(q1, zOb 11 [.ref arr09, .int (iI 0), .int (iI 0), .int (iI ((len0 : Nat) : Int))]), (arr09, zB G mm09 f09)]) := hD
        have hS := hS1
        refine z_zne (tgt := 83) hx hb dX7_toString_75 (by decide) (by omega) (fun c8 => ?_) (fun c8 => ?_)
        · refine lv_aload_n hx hb dX7_toString_83 rfl (lv_at hl 1 rfl) ?_
          refine z_go ((2 + gr0) + 2) ((20 + 200 * gr0) + 104) (z_runV (As := []) (rest := []) hC hml hl.1 (m_J24_toString hE H7 (hO.ext0 (zS_F hS)) q1 arr09 len0 mm09 f09 (hP 0 _ rfl) (hP 1 _ rfl) ⟨by omega, by omega, by omega⟩ (fun j hj => hs0.2.2.1 j (by omega))) (lw_V q716 q717 q718 q98 q719) rfl nd_J24_toString rfl (z_rv hC (ci := 11) rfl (hP 0 _ rfl) rfl) rfl (Nat.le_of_ble_eq_true rfl) ⟨Nat.le_of_ble_eq_true rfl, Nat.le_of_ble_eq_true rfl⟩ ⟨zfit (k := 2) (z := 12) rfl rfl (by omega), zfit (k := 104) (z := 900) rfl rfl (by omega)⟩ dX7_toString_84) ⟨zad (k := 2) rfl (by omega), zad (k := 104) rfl (by omega)⟩ hS (fun _ z => z.elim) (fun r H9 locs hp hF hS1 => ?_)
          obtain ⟨qs9, rfl, b9, f1, hf1, hN⟩ := hp
          obtain ⟨hP, hD⟩ := zjn hP hD hS.1 hF hN
          have hP : va_P G.1 zCl ([(q1, zOb 11 [.ref arr09, .int (iI 0), .int (iI 0), .int (iI ((len0 : Nat) : Int))]), (arr09, zB G mm09 f09), (qs9, zOb 12 [.ref b9, .int (iI 0), .int (iI 0), .int (iI 0)]), (b9, zB G len0 f1)]) H9 := hP
          have hD : va_D (zA M0 H0) ([(q1, zOb 11 [.ref arr09, .int (iI 0), .int (iI 0), .int (iI ((len0 : Nat) : Int))]), (arr09, zB G mm09 f09), (qs9, zOb 12 [.ref b9, .int (iI 0), .int (iI 0), .int (iI 0)]), (b9, zB G len0 f1)]) := hD
          have hS := hS1
          have hne : txL v n ≠ [] := fun e => by have := hs0.1; rw [e] at this; simp at this; omega
          have etx : txF n v = txL v n := by unfold txF; rw [if_neg hne]
          have hP : va_P G.1 zCl [(q1, zOb 11 [.ref arr09, .int (iI 0), .int (iI 0), .int (iI ((len0 : Nat) : Int))]), (arr09, zB G mm09 f09), (qs9, zOb 12 [.ref b9, .int (iI 0), .int (iI 0), .int (iI 0)]), (b9, zB G ((txF n v).length) (fun j => (txF n v).getD j 0))] H9 := by rw [etx, ← hs0.1]; exact zcB hP 3 rfl (fun j hj => by rw [hf1 j hj]; exact hs0.2.1 j hj)
          have hD : va_D (zA M0 H0) [(q1, zOb 11 [.ref arr09, .int (iI 0), .int (iI 0), .int (iI ((len0 : Nat) : Int))]), (arr09, zB G mm09 f09), (qs9, zOb 12 [.ref b9, .int (iI 0), .int (iI 0), .int (iI 0)]), (b9, zB G ((txF n v).length) (fun j => (txF n v).getD j 0))] := by rw [etx, ← hs0.1]; exact hD.set (p := 3) rfl
          exact z_aret hC hrt hlk hQ hS ⟨zle (z := 12) rfl (by omega), zle (z := 900) rfl (by omega)⟩ ⟨_, rfl, Or.inl ⟨_, hP.sub [2, 3] rfl, zdn (hD.sub [2, 3] (by decide) rfl)⟩⟩ dX7_toString_87
        · have he : txL v n = [] := List.length_eq_zero_iff.mp (by have := hs0.1; omega)
          refine z_lds hC hE.2.2.2.1.2.2.2.2.2.2.1.1 dX7_toString_78 ?_
          refine lv_goto (tgt := 87) hx hb dX7_toString_80 (by decide) ?_
          exact z_aret hC hrt hlk hQ hS ⟨zle (z := 12) rfl (by omega), zle (z := 900) rfl (by omega)⟩ ⟨_, rfl, Or.inr ⟨rfl, by unfold txF; rw [if_pos he]⟩⟩ dX7_toString_87
      · have hvk := hv k (by omega)
        have hcap := hs0.2.2.2.2
        unfold capR at hcap
        have hlm := hs0.2.2.2.1
        refine lv_aload_n hx hb dX7_toString_19 rfl (lv_at hl 2 rfl) ?_
        refine z_get hC (k := 1) rfl in_X7 (zo hS h.1 id) (by decide) q324 (fun _ h => h) rfl dX7_toString_20 ?_
        refine lv_iload_n hx hb dX7_toString_23 rfl (lv_at hl 0 rfl) ?_
        refine z_iald hC (zo hS h.2 id) (k := k) rfl (by omega) (y := v k) rfl dX7_toString_24 ?_
        refine z_zne (tgt := 31) hx hb dX7_toString_25 (by decide) (by omega) (fun c10 => ?_) (fun c10 => ?_)
        · refine lv_aload_n hx hb dX7_toString_31 rfl (lv_at hl 1 rfl) ?_
          refine z_go (2 + gr0) (20 + 200 * gr0) (z_runV (As := []) (rest := []) hC hml hl.1 (m_J24_length hE H5 (hO.ext0 (zS_F hS)) q1 arr09 len0 (hP 0 _ rfl)) (lw_V q581 q582 q583 q98 q584) rfl nd_J24_length rfl (z_rv hC (ci := 11) rfl (hP 0 _ rfl) rfl) rfl (Nat.le_of_ble_eq_true rfl) ⟨Nat.le_of_ble_eq_true rfl, Nat.le_of_ble_eq_true rfl⟩ ⟨zfit (k := 0) (z := 12) rfl rfl (by omega), zfit (k := 0) (z := 900) rfl rfl (by omega)⟩ dX7_toString_32) ⟨zad (k := 0) rfl (by omega), zad (k := 0) rfl (by omega)⟩ hS (fun _ z => z.elim) (fun r H11 locs hp hF hS1 => ?_)
          obtain ⟨_, rfl, rfl⟩ := hp
          have hP := zpk hP hF
          have hP : va_P G.1 zCl ([(q1, zOb 11 [.ref arr09, .int (iI 0), .int (iI 0), .int (iI ((len0 : Nat) : Int))]), (arr09, zB G mm09 f09)]) H11 := hP
          have hD : va_D (zA M0 H0) ([(q1, zOb 11 [.ref arr09, .int (iI 0), .int (iI 0), .int (iI ((len0 : Nat) : Int))]), (arr09, zB G mm09 f09)]) := hD
          have hS := hS1
          have ja : ∀ (len1 : Nat) (arr19 : Nat) (mm19 : Nat) (gr1 : Nat) (f19 : Nat → Int), (sbI (plL (txL v k)) len1 mm19 gr1 f19) → (len1 ≤ 5 * k + 1) → ∀ (H12 : Heap) (locs : List Loc) (ls : Array Slot), va_P G.1 zCl ([(q1, zOb 11 [.ref arr19, .int (iI 0), .int (iI 0), .int (iI ((len1 : Nat) : Int))]), (arr19, zB G mm19 f19)]) H12 → va_D (zA M0 H0) ([(q1, zOb 11 [.ref arr19, .int (iI 0), .int (iI 0), .int (iI ((len1 : Nat) : Int))]), (arr19, zB G mm19 f19)]) → va_S (zA M0 H0) H0 H12 locs → lv_has ls 3 [(2, .int (iI ((k : Nat) : Int))), (1, .ref q1), (0, .ref a)] → W pp l ee rm_m_X7_toString ss mm args below meth cd H12 locs (2 + gr1) (20 + 200 * gr1) Q (F0 mm 45 ls []) := by
            intro len1 arr19 mm19 gr1 f19 hs1 hlen1 H12 locs ls  hP hD hS hl
            refine lv_aload_n hx hb dX7_toString_45 rfl (lv_at hl 1 rfl) ?_
            refine lv_aload_n hx hb dX7_toString_46 rfl (lv_at hl 2 rfl) ?_
            refine z_get hC (k := 1) rfl in_X7 (zo hS h.1 id) (by decide) q324 (fun _ h => h) rfl dX7_toString_47 ?_
            refine lv_iload_n hx hb dX7_toString_50 rfl (lv_at hl 0 rfl) ?_
            refine z_iald hC (zo hS h.2 id) (k := k) rfl (by omega) (y := v k) rfl dX7_toString_51 ?_
            refine z_top (b := (((v k).toNat : Nat) : Int)) (by omega) ?_
            have hs19 : ssz (v k).toNat = 1 := by unfold ssz; rw [if_pos (by omega)]
            have jb : ∀ (len2 : Nat) (arr29 : Nat) (mm29 : Nat) (gr2 : Nat) (f29 : Nat → Int), (sbI (plL (txL v k) ++ dgL (v k).toNat) len2 mm29 gr2 f29) → (len2 ≤ 5 * k + 2) → ∀ (H13 : Heap) (locs : List Loc) (ls : Array Slot), va_P G.1 zCl ([(q1, zOb 11 [.ref arr29, .int (iI 0), .int (iI 0), .int (iI ((len2 : Nat) : Int))]), (arr29, zB G mm29 f29)]) H13 → va_D (zA M0 H0) ([(q1, zOb 11 [.ref arr29, .int (iI 0), .int (iI 0), .int (iI ((len2 : Nat) : Int))]), (arr29, zB G mm29 f29)]) → va_S (zA M0 H0) H0 H13 locs → lv_has ls 3 [(2, .int (iI ((k : Nat) : Int))), (1, .ref q1), (0, .ref a)] → W pp l ee rm_m_X7_toString ss mm args below meth cd H13 locs (2 + gr2) (20 + 200 * gr2) Q (F0 mm 55 ls [.ref q1]) := by
              intro len2 arr29 mm29 gr2 f29 hs2 hlen2 H13 locs ls  hP hD hS hl
              refine lv_bipush (v := iI 101) hx hb dX7_toString_55 (by decide) ?_
              have jc : ∀ (len3 : Nat) (arr39 : Nat) (mm39 : Nat) (gr3 : Nat) (f39 : Nat → Int), (sbI ((plL (txL v k) ++ dgL (v k).toNat) ++ [((101 : Nat) : Int)]) len3 mm39 gr3 f39) → (len3 ≤ 5 * k + 3) → ∀ (H14 : Heap) (locs : List Loc) (ls : Array Slot), va_P G.1 zCl ([(q1, zOb 11 [.ref arr39, .int (iI 0), .int (iI 0), .int (iI ((len3 : Nat) : Int))]), (arr39, zB G mm39 f39)]) H14 → va_D (zA M0 H0) ([(q1, zOb 11 [.ref arr39, .int (iI 0), .int (iI 0), .int (iI ((len3 : Nat) : Int))]), (arr39, zB G mm39 f39)]) → va_S (zA M0 H0) H0 H14 locs → lv_has ls 3 [(2, .int (iI ((k : Nat) : Int))), (1, .ref q1), (0, .ref a)] → W pp l ee rm_m_X7_toString ss mm args below meth cd H14 locs (2 + gr3) (20 + 200 * gr3) Q (F0 mm 60 ls [.ref q1]) := by
                intro len3 arr39 mm39 gr3 f39 hs3 hlen3 H14 locs ls  hP hD hS hl
                refine lv_iload_n hx hb dX7_toString_60 rfl (lv_at hl 0 rfl) ?_
                have jd : ∀ (len4 : Nat) (arr49 : Nat) (mm49 : Nat) (gr4 : Nat) (f49 : Nat → Int), (sbI (((plL (txL v k) ++ dgL (v k).toNat) ++ [((101 : Nat) : Int)]) ++ dgL k) len4 mm49 gr4 f49) → (len4 ≤ 5 * k + 5) → ∀ (H15 : Heap) (locs : List Loc) (ls : Array Slot), va_P G.1 zCl ([(q1, zOb 11 [.ref arr49, .int (iI 0), .int (iI 0), .int (iI ((len4 : Nat) : Int))]), (arr49, zB G mm49 f49)]) H15 → va_D (zA M0 H0) ([(q1, zOb 11 [.ref arr49, .int (iI 0), .int (iI 0), .int (iI ((len4 : Nat) : Int))]), (arr49, zB G mm49 f49)]) → va_S (zA M0 H0) H0 H15 locs → lv_has ls 3 [(2, .int (iI ((k : Nat) : Int))), (1, .ref q1), (0, .ref a)] → W pp l ee rm_m_X7_toString ss mm args below meth cd H15 locs (2 + gr4) (20 + 200 * gr4) Q (F0 mm 64 ls [.ref q1]) := by
                  intro len4 arr49 mm49 gr4 f49 hs4 hlen4 H15 locs ls  hP hD hS hl
                  refine lv_pop hx hb dX7_toString_64 rfl ?_
                  refine z_iinc (z := ((k + 1 : Nat) : Int)) (lv' := [(2, .int (iI ((k + 1 : Nat) : Int))), (1, .ref q1), (0, .ref a)]) hx hb dX7_toString_65 hl (k := 0) rfl (by omega) (by decide) rfl (fun ls hl => ?_)
                  refine lv_goto (tgt := 10) hx hb dX7_toString_68 (by decide) ?_
                  exact W.widen (by omega) (by omega) (ihlp4 (n - (k + 1)) (by omega) (k + 1) len4 arr49 mm49 gr4 f49 rfl (by omega) (by rw [txL_s (by omega)]; exact hs4) (by omega) _ _ _  hP hD hS hl)
                have hsz := ssz_in (k)
                have hcap := hs3.2.2.2.2
                have hlm := hs3.2.2.2.1
                unfold capR at hcap
                rcases (show len3 + ssz (k) ≤ mm39 ∨ mm39 < len3 + ssz (k) from by omega) with hfit | hfit
                · refine z_go (2 + gr3) (20 + 200 * gr3) (z_runV (As := [.int (iI ((k : Nat) : Int))]) (rest := []) hC hml hl.1 (m_J24_appendi_a hE H14 (hO.ext0 (zS_F hS)) q1 arr39 len3 mm39 f39 (k) (sb_hb hO hD) (hP 0 _ rfl) (hP 1 _ rfl) (by omega) (by omega)) (lw_V q681 q682 q683 q98 q684) rfl nd_J24_append_2 rfl (z_rv hC (ci := 11) rfl (hP 0 _ rfl) rfl) rfl (Nat.le_of_ble_eq_true rfl) ⟨Nat.le_of_ble_eq_true rfl, Nat.le_of_ble_eq_true rfl⟩ ⟨zfit (k := 0) (z := 12) rfl rfl (by omega), zfit (k := 0) (z := 900) rfl rfl (by omega)⟩ dX7_toString_61) ⟨zad (k := 0) rfl (by omega), zad (k := 0) rfl (by omega)⟩ hS (fun q z => z.elim (fun y => by rw [y]; exact hD.2 0 _ rfl) (fun y => by rw [y]; exact hD.2 1 _ rfl)) (fun r H16 locs hp hF hS1 => ?_)
                  obtain ⟨y9, rfl, hy9, hm1, hm2⟩ := hp
                  obtain ⟨hP, hD⟩ := zjm2 hP hD hF 0 1 rfl rfl hm1 hm2
                  have hP : va_P G.1 zCl ([(q1, zOb 11 [.ref arr39, .int (iI 0), .int (iI 0), .int (iI ((len3 + ssz (k) : Nat) : Int))]), (arr39, zB G mm39 (gcV f39 (len3 + ssz (k)) (k)))]) H16 := hP
                  have hD : va_D (zA M0 H0) ([(q1, zOb 11 [.ref arr39, .int (iI 0), .int (iI 0), .int (iI ((len3 + ssz (k) : Nat) : Int))]), (arr39, zB G mm39 (gcV f39 (len3 + ssz (k)) (k)))]) := hD
                  have hS := hS1
                  have hy9 := hy9.symm
                  subst hy9
                  exact W.widen (by omega) (by omega) (jd (len3 + ssz (k)) arr39 mm39 gr3 (gcV f39 (len3 + ssz (k)) (k)) (hs3.num (by omega) (by omega)) (by omega) _ _ _  hP hD hS hl)
                · refine z_go ((2 + gr3) + 1) ((20 + 200 * gr3) + 200) (z_runV (As := [.int (iI ((k : Nat) : Int))]) (rest := []) hC hml hl.1 (m_J24_appendi_b hE H14 (hO.ext0 (zS_F hS)) q1 arr39 len3 mm39 f39 (k) ⟨(sb_hb hO hD).1.1, (sb_hb hO hD).2⟩ (hP 0 _ rfl) (hP 1 _ rfl) hs3.2.2.1 (by omega) (by omega)) (lw_V q681 q682 q683 q98 q684) rfl nd_J24_append_2 rfl (z_rv hC (ci := 11) rfl (hP 0 _ rfl) rfl) rfl (Nat.le_of_ble_eq_true rfl) ⟨Nat.le_of_ble_eq_true rfl, Nat.le_of_ble_eq_true rfl⟩ ⟨zfit (k := 1) (z := 12) rfl rfl (by omega), zfit (k := 200) (z := 900) rfl rfl (by omega)⟩ dX7_toString_61) ⟨zad (k := 1) rfl (by omega), zad (k := 200) rfl (by omega)⟩ hS (fun q z => by subst z; exact hD.2 0 _ rfl) (fun r H17 locs hp hF hS1 => ?_)
                  obtain ⟨y9, rfl, hy9, ab9, hm, hN⟩ := hp
                  obtain ⟨hP, hD⟩ := zjmn hP hD hS.1 hF 0 rfl hm hN
                  have hP : va_P G.1 zCl ([(q1, zOb 11 [.ref ab9, .int (iI 0), .int (iI 0), .int (iI ((len3 + ssz (k) : Nat) : Int))]), (arr39, zB G mm39 f39), (ab9, zB G (2 * mm39 + 2) (gcV (fun j => if j < mm39 then f39 j else 0) (len3 + ssz (k)) (k)))]) H17 := hP
                  have hD : va_D (zA M0 H0) ([(q1, zOb 11 [.ref ab9, .int (iI 0), .int (iI 0), .int (iI ((len3 + ssz (k) : Nat) : Int))]), (arr39, zB G mm39 f39), (ab9, zB G (2 * mm39 + 2) (gcV (fun j => if j < mm39 then f39 j else 0) (len3 + ssz (k)) (k)))]) := hD
                  have hS := hS1
                  have hy9 := hy9.symm
                  subst hy9
                  exact W.widen (by omega) (by omega) (jd (len3 + ssz (k)) ab9 (2 * mm39 + 2) (gr3 + 1) (gcV (fun j => if j < mm39 then f39 j else 0) (len3 + ssz (k)) (k)) ((hs3.grown (by omega)).num (by omega) (by omega)) (by omega) _ _ _  (hP.sub [0, 2] rfl) (hD.sub [0, 2] (by decide) rfl) hS hl)
              have hcap := hs2.2.2.2.2
              have hlm := hs2.2.2.2.1
              unfold capR at hcap
              rcases (show len2 + 1 ≤ mm29 ∨ mm29 < len2 + 1 from by omega) with hfit | hfit
              · refine z_go (2 + gr2) (20 + 200 * gr2) (z_runV (As := [.int (iI 101)]) (rest := []) hC hml hl.1 (m_J24_append_a hE H13 (hO.ext0 (zS_F hS)) q1 arr29 len2 mm29 f29 (101) (sb_hb hO hD) (hP 0 _ rfl) (hP 1 _ rfl) (by omega) (by omega)) (lw_V q588 q589 q590 q98 q591) rfl nd_J24_append rfl (z_rv hC (ci := 11) rfl (hP 0 _ rfl) rfl) rfl (Nat.le_of_ble_eq_true rfl) ⟨Nat.le_of_ble_eq_true rfl, Nat.le_of_ble_eq_true rfl⟩ ⟨zfit (k := 0) (z := 12) rfl rfl (by omega), zfit (k := 0) (z := 900) rfl rfl (by omega)⟩ dX7_toString_57) ⟨zad (k := 0) rfl (by omega), zad (k := 0) rfl (by omega)⟩ hS (fun q z => z.elim (fun y => by rw [y]; exact hD.2 0 _ rfl) (fun y => by rw [y]; exact hD.2 1 _ rfl)) (fun r H18 locs hp hF hS1 => ?_)
                obtain ⟨y9, rfl, hy9, hm1, hm2⟩ := hp
                obtain ⟨hP, hD⟩ := zjm2 hP hD hF 0 1 rfl rfl hm1 hm2
                have hP : va_P G.1 zCl ([(q1, zOb 11 [.ref arr29, .int (iI 0), .int (iI 0), .int (iI ((len2 + 1 : Nat) : Int))]), (arr29, zB G mm29 (va_up f29 len2 ((101 : Nat) : Int)))]) H18 := hP
                have hD : va_D (zA M0 H0) ([(q1, zOb 11 [.ref arr29, .int (iI 0), .int (iI 0), .int (iI ((len2 + 1 : Nat) : Int))]), (arr29, zB G mm29 (va_up f29 len2 ((101 : Nat) : Int)))]) := hD
                have hS := hS1
                have hy9 := hy9.symm
                subst hy9
                exact W.widen (by omega) (by omega) (jc (len2 + 1) arr29 mm29 gr2 (va_up f29 len2 ((101 : Nat) : Int)) (hs2.chr (by omega) (by omega)) (by omega) _ _ _  hP hD hS hl)
              · refine z_go ((2 + gr2) + 1) ((20 + 200 * gr2) + 200) (z_runV (As := [.int (iI 101)]) (rest := []) hC hml hl.1 (m_J24_append_b hE H13 (hO.ext0 (zS_F hS)) q1 arr29 len2 mm29 f29 (101) ⟨(sb_hb hO hD).1.1, (sb_hb hO hD).2⟩ (hP 0 _ rfl) (hP 1 _ rfl) hs2.2.2.1 (by omega) (by omega)) (lw_V q588 q589 q590 q98 q591) rfl nd_J24_append rfl (z_rv hC (ci := 11) rfl (hP 0 _ rfl) rfl) rfl (Nat.le_of_ble_eq_true rfl) ⟨Nat.le_of_ble_eq_true rfl, Nat.le_of_ble_eq_true rfl⟩ ⟨zfit (k := 1) (z := 12) rfl rfl (by omega), zfit (k := 200) (z := 900) rfl rfl (by omega)⟩ dX7_toString_57) ⟨zad (k := 1) rfl (by omega), zad (k := 200) rfl (by omega)⟩ hS (fun q z => by subst z; exact hD.2 0 _ rfl) (fun r H19 locs hp hF hS1 => ?_)
                obtain ⟨y9, rfl, hy9, ab9, hm, hN⟩ := hp
                obtain ⟨hP, hD⟩ := zjmn hP hD hS.1 hF 0 rfl hm hN
                have hP : va_P G.1 zCl ([(q1, zOb 11 [.ref ab9, .int (iI 0), .int (iI 0), .int (iI ((len2 + 1 : Nat) : Int))]), (arr29, zB G mm29 f29), (ab9, zB G (2 * mm29 + 2) (va_up (fun j => if j < mm29 then f29 j else 0) len2 ((101 : Nat) : Int)))]) H19 := hP
                have hD : va_D (zA M0 H0) ([(q1, zOb 11 [.ref ab9, .int (iI 0), .int (iI 0), .int (iI ((len2 + 1 : Nat) : Int))]), (arr29, zB G mm29 f29), (ab9, zB G (2 * mm29 + 2) (va_up (fun j => if j < mm29 then f29 j else 0) len2 ((101 : Nat) : Int)))]) := hD
                have hS := hS1
                have hy9 := hy9.symm
                subst hy9
                exact W.widen (by omega) (by omega) (jc (len2 + 1) ab9 (2 * mm29 + 2) (gr2 + 1) (va_up (fun j => if j < mm29 then f29 j else 0) len2 ((101 : Nat) : Int)) ((hs2.grown (by omega)).chr (by omega) (by omega)) (by omega) _ _ _  (hP.sub [0, 2] rfl) (hD.sub [0, 2] (by decide) rfl) hS hl)
            have hsz := ssz_in ((v k).toNat)
            have hcap := hs1.2.2.2.2
            have hlm := hs1.2.2.2.1
            unfold capR at hcap
            rcases (show len1 + ssz ((v k).toNat) ≤ mm19 ∨ mm19 < len1 + ssz ((v k).toNat) from by omega) with hfit | hfit
            · refine z_go (2 + gr1) (20 + 200 * gr1) (z_runV (As := [.int (iI (((v k).toNat : Nat) : Int))]) (rest := []) hC hml hl.1 (m_J24_appendi_a hE H12 (hO.ext0 (zS_F hS)) q1 arr19 len1 mm19 f19 ((v k).toNat) (sb_hb hO hD) (hP 0 _ rfl) (hP 1 _ rfl) (by omega) (by omega)) (lw_V q681 q682 q683 q98 q684) rfl nd_J24_append_2 rfl (z_rv hC (ci := 11) rfl (hP 0 _ rfl) rfl) rfl (Nat.le_of_ble_eq_true rfl) ⟨Nat.le_of_ble_eq_true rfl, Nat.le_of_ble_eq_true rfl⟩ ⟨zfit (k := 0) (z := 12) rfl rfl (by omega), zfit (k := 0) (z := 900) rfl rfl (by omega)⟩ dX7_toString_52) ⟨zad (k := 0) rfl (by omega), zad (k := 0) rfl (by omega)⟩ hS (fun q z => z.elim (fun y => by rw [y]; exact hD.2 0 _ rfl) (fun y => by rw [y]; exact hD.2 1 _ rfl)) (fun r H20 locs hp hF hS1 => ?_)
              obtain ⟨y9, rfl, hy9, hm1, hm2⟩ := hp
              obtain ⟨hP, hD⟩ := zjm2 hP hD hF 0 1 rfl rfl hm1 hm2
              have hP : va_P G.1 zCl ([(q1, zOb 11 [.ref arr19, .int (iI 0), .int (iI 0), .int (iI ((len1 + ssz ((v k).toNat) : Nat) : Int))]), (arr19, zB G mm19 (gcV f19 (len1 + ssz ((v k).toNat)) ((v k).toNat)))]) H20 := hP
              have hD : va_D (zA M0 H0) ([(q1, zOb 11 [.ref arr19, .int (iI 0), .int (iI 0), .int (iI ((len1 + ssz ((v k).toNat) : Nat) : Int))]), (arr19, zB G mm19 (gcV f19 (len1 + ssz ((v k).toNat)) ((v k).toNat)))]) := hD
              have hS := hS1
              have hy9 := hy9.symm
              subst hy9
              exact W.widen (by omega) (by omega) (jb (len1 + ssz ((v k).toNat)) arr19 mm19 gr1 (gcV f19 (len1 + ssz ((v k).toNat)) ((v k).toNat)) (hs1.num (by omega) (by omega)) (by omega) _ _ _  hP hD hS hl)
            · refine z_go ((2 + gr1) + 1) ((20 + 200 * gr1) + 200) (z_runV (As := [.int (iI (((v k).toNat : Nat) : Int))]) (rest := []) hC hml hl.1 (m_J24_appendi_b hE H12 (hO.ext0 (zS_F hS)) q1 arr19 len1 mm19 f19 ((v k).toNat) ⟨(sb_hb hO hD).1.1, (sb_hb hO hD).2⟩ (hP 0 _ rfl) (hP 1 _ rfl) hs1.2.2.1 (by omega) (by omega)) (lw_V q681 q682 q683 q98 q684) rfl nd_J24_append_2 rfl (z_rv hC (ci := 11) rfl (hP 0 _ rfl) rfl) rfl (Nat.le_of_ble_eq_true rfl) ⟨Nat.le_of_ble_eq_true rfl, Nat.le_of_ble_eq_true rfl⟩ ⟨zfit (k := 1) (z := 12) rfl rfl (by omega), zfit (k := 200) (z := 900) rfl rfl (by omega)⟩ dX7_toString_52) ⟨zad (k := 1) rfl (by omega), zad (k := 200) rfl (by omega)⟩ hS (fun q z => by subst z; exact hD.2 0 _ rfl) (fun r H21 locs hp hF hS1 => ?_)
              obtain ⟨y9, rfl, hy9, ab9, hm, hN⟩ := hp
              obtain ⟨hP, hD⟩ := zjmn hP hD hS.1 hF 0 rfl hm hN
              have hP : va_P G.1 zCl ([(q1, zOb 11 [.ref ab9, .int (iI 0), .int (iI 0), .int (iI ((len1 + ssz ((v k).toNat) : Nat) : Int))]), (arr19, zB G mm19 f19), (ab9, zB G (2 * mm19 + 2) (gcV (fun j => if j < mm19 then f19 j else 0) (len1 + ssz ((v k).toNat)) ((v k).toNat)))]) H21 := hP
              have hD : va_D (zA M0 H0) ([(q1, zOb 11 [.ref ab9, .int (iI 0), .int (iI 0), .int (iI ((len1 + ssz ((v k).toNat) : Nat) : Int))]), (arr19, zB G mm19 f19), (ab9, zB G (2 * mm19 + 2) (gcV (fun j => if j < mm19 then f19 j else 0) (len1 + ssz ((v k).toNat)) ((v k).toNat)))]) := hD
              have hS := hS1
              have hy9 := hy9.symm
              subst hy9
              exact W.widen (by omega) (by omega) (jb (len1 + ssz ((v k).toNat)) ab9 (2 * mm19 + 2) (gr1 + 1) (gcV (fun j => if j < mm19 then f19 j else 0) (len1 + ssz ((v k).toNat)) ((v k).toNat)) ((hs1.grown (by omega)).num (by omega) (by omega)) (by omega) _ _ _  (hP.sub [0, 2] rfl) (hD.sub [0, 2] (by decide) rfl) hS hl)
          refine z_zle (tgt := 45) hx hb dX7_toString_35 (by decide) (by omega) (fun c22 => ?_) (fun c22 => ?_)
          · exact W.widen (by omega) (by omega) (ja len0 arr09 mm09 gr0 f09 (hs0.pl0 (by omega)) (by omega) _ _ _  hP hD hS hl)
          · have hne : txL v k ≠ [] := hs0.ne (by omega)
            refine lv_aload_n hx hb dX7_toString_38 rfl (lv_at hl 1 rfl) ?_
            refine lv_bipush (v := iI 43) hx hb dX7_toString_39 (by decide) ?_
            have jz : ∀ (len5 : Nat) (arr59 : Nat) (mm59 : Nat) (gr5 : Nat) (f59 : Nat → Int), (sbI (txL v k ++ [((43 : Nat) : Int)]) len5 mm59 gr5 f59) → (len5 ≤ 5 * k + 1) → ∀ (H23 : Heap) (locs : List Loc) (ls : Array Slot), va_P G.1 zCl ([(q1, zOb 11 [.ref arr59, .int (iI 0), .int (iI 0), .int (iI ((len5 : Nat) : Int))]), (arr59, zB G mm59 f59)]) H23 → va_D (zA M0 H0) ([(q1, zOb 11 [.ref arr59, .int (iI 0), .int (iI 0), .int (iI ((len5 : Nat) : Int))]), (arr59, zB G mm59 f59)]) → va_S (zA M0 H0) H0 H23 locs → lv_has ls 3 [(2, .int (iI ((k : Nat) : Int))), (1, .ref q1), (0, .ref a)] → W pp l ee rm_m_X7_toString ss mm args below meth cd H23 locs (2 + gr5) (20 + 200 * gr5) Q (F0 mm 44 ls [.ref q1]) := by
              intro len5 arr59 mm59 gr5 f59 hs5 hlen5 H23 locs ls  hP hD hS hl
              refine lv_pop hx hb dX7_toString_44 rfl ?_
              exact W.widen (by omega) (by omega) (ja len5 arr59 mm59 gr5 f59 (hs5.pl1 hne) (by omega) _ _ _  hP hD hS hl)
            have hcap := hs0.2.2.2.2
            have hlm := hs0.2.2.2.1
            unfold capR at hcap
            rcases (show len0 + 1 ≤ mm09 ∨ mm09 < len0 + 1 from by omega) with hfit | hfit
            · refine z_go (2 + gr0) (20 + 200 * gr0) (z_runV (As := [.int (iI 43)]) (rest := []) hC hml hl.1 (m_J24_append_a hE H11 (hO.ext0 (zS_F hS)) q1 arr09 len0 mm09 f09 (43) (sb_hb hO hD) (hP 0 _ rfl) (hP 1 _ rfl) (by omega) (by omega)) (lw_V q588 q589 q590 q98 q591) rfl nd_J24_append rfl (z_rv hC (ci := 11) rfl (hP 0 _ rfl) rfl) rfl (Nat.le_of_ble_eq_true rfl) ⟨Nat.le_of_ble_eq_true rfl, Nat.le_of_ble_eq_true rfl⟩ ⟨zfit (k := 0) (z := 12) rfl rfl (by omega), zfit (k := 0) (z := 900) rfl rfl (by omega)⟩ dX7_toString_41) ⟨zad (k := 0) rfl (by omega), zad (k := 0) rfl (by omega)⟩ hS (fun q z => z.elim (fun y => by rw [y]; exact hD.2 0 _ rfl) (fun y => by rw [y]; exact hD.2 1 _ rfl)) (fun r H24 locs hp hF hS1 => ?_)
              obtain ⟨y9, rfl, hy9, hm1, hm2⟩ := hp
              obtain ⟨hP, hD⟩ := zjm2 hP hD hF 0 1 rfl rfl hm1 hm2
              have hP : va_P G.1 zCl ([(q1, zOb 11 [.ref arr09, .int (iI 0), .int (iI 0), .int (iI ((len0 + 1 : Nat) : Int))]), (arr09, zB G mm09 (va_up f09 len0 ((43 : Nat) : Int)))]) H24 := hP
              have hD : va_D (zA M0 H0) ([(q1, zOb 11 [.ref arr09, .int (iI 0), .int (iI 0), .int (iI ((len0 + 1 : Nat) : Int))]), (arr09, zB G mm09 (va_up f09 len0 ((43 : Nat) : Int)))]) := hD
              have hS := hS1
              have hy9 := hy9.symm
              subst hy9
              exact W.widen (by omega) (by omega) (jz (len0 + 1) arr09 mm09 gr0 (va_up f09 len0 ((43 : Nat) : Int)) (hs0.chr (by omega) (by omega)) (by omega) _ _ _  hP hD hS hl)
            · refine z_go ((2 + gr0) + 1) ((20 + 200 * gr0) + 200) (z_runV (As := [.int (iI 43)]) (rest := []) hC hml hl.1 (m_J24_append_b hE H11 (hO.ext0 (zS_F hS)) q1 arr09 len0 mm09 f09 (43) ⟨(sb_hb hO hD).1.1, (sb_hb hO hD).2⟩ (hP 0 _ rfl) (hP 1 _ rfl) hs0.2.2.1 (by omega) (by omega)) (lw_V q588 q589 q590 q98 q591) rfl nd_J24_append rfl (z_rv hC (ci := 11) rfl (hP 0 _ rfl) rfl) rfl (Nat.le_of_ble_eq_true rfl) ⟨Nat.le_of_ble_eq_true rfl, Nat.le_of_ble_eq_true rfl⟩ ⟨zfit (k := 1) (z := 12) rfl rfl (by omega), zfit (k := 200) (z := 900) rfl rfl (by omega)⟩ dX7_toString_41) ⟨zad (k := 1) rfl (by omega), zad (k := 200) rfl (by omega)⟩ hS (fun q z => by subst z; exact hD.2 0 _ rfl) (fun r H25 locs hp hF hS1 => ?_)
              obtain ⟨y9, rfl, hy9, ab9, hm, hN⟩ := hp
              obtain ⟨hP, hD⟩ := zjmn hP hD hS.1 hF 0 rfl hm hN
              have hP : va_P G.1 zCl ([(q1, zOb 11 [.ref ab9, .int (iI 0), .int (iI 0), .int (iI ((len0 + 1 : Nat) : Int))]), (arr09, zB G mm09 f09), (ab9, zB G (2 * mm09 + 2) (va_up (fun j => if j < mm09 then f09 j else 0) len0 ((43 : Nat) : Int)))]) H25 := hP
              have hD : va_D (zA M0 H0) ([(q1, zOb 11 [.ref ab9, .int (iI 0), .int (iI 0), .int (iI ((len0 + 1 : Nat) : Int))]), (arr09, zB G mm09 f09), (ab9, zB G (2 * mm09 + 2) (va_up (fun j => if j < mm09 then f09 j else 0) len0 ((43 : Nat) : Int)))]) := hD
              have hS := hS1
              have hy9 := hy9.symm
              subst hy9
              exact W.widen (by omega) (by omega) (jz (len0 + 1) ab9 (2 * mm09 + 2) (gr0 + 1) (va_up (fun j => if j < mm09 then f09 j else 0) len0 ((43 : Nat) : Int)) ((hs0.grown (by omega)).chr (by omega) (by omega)) (by omega) _ _ _  (hP.sub [0, 2] rfl) (hD.sub [0, 2] (by decide) rfl) hS hl)
        · refine lv_goto (tgt := 65) hx hb dX7_toString_28 (by decide) ?_
          refine z_iinc (z := ((k + 1 : Nat) : Int)) (lv' := [(2, .int (iI ((k + 1 : Nat) : Int))), (1, .ref q1), (0, .ref a)]) hx hb dX7_toString_65 hl (k := 0) rfl (by omega) (by decide) rfl (fun ls hl => ?_)
          refine lv_goto (tgt := 10) hx hb dX7_toString_68 (by decide) ?_
          exact W.widen (by omega) (by omega) (ihlp4 (n - (k + 1)) (by omega) (k + 1) len0 arr09 mm09 gr0 f09 rfl (by omega) (by simp only [txL]; rw [if_pos (by omega)]; exact hs0) (by omega) _ _ _  hP hD hS hl)
  exact W.widen (by omega) (by omega) (lp4 _ 0 0 arr0 16 0 (fun _ => 0) rfl (Nat.zero_le _) (⟨rfl, fun j hj => absurd hj (Nat.not_lt_zero j), fun j _ => by show 0 ≤ (0 : Int) ∧ (0 : Int) < 128; decide, by omega, Or.inl ⟨rfl, rfl⟩⟩) (by omega) _ _ _  hP hD hS hl)

