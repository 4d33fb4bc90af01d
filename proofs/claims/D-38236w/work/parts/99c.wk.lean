/-! THE LAW: its round; its walk from the entry -/
set_option maxRecDepth 100000
theorem st_63 (x : Int32) : ∃ n : Nat, n < 64 ∧ x &&& iI 63 = iI ((n : Nat) : Int) := by
  refine ⟨(x.toBitVec &&& 63#32).toNat, ?_, ?_⟩
  · rw [BitVec.toNat_and]
    have h : x.toBitVec.toNat &&& (63#32).toNat ≤ (63#32).toNat := Nat.and_le_right
    have h2 : (63#32).toNat = 63 := rfl
    omega
  · rw [iI_nat]
    apply Int32.toBitVec_inj.mp
    show x.toBitVec &&& (iI 63).toBitVec = BitVec.ofNat 32 (x.toBitVec &&& 63#32).toNat
    rw [BitVec.ofNat_toNat]
    rw [show (iI 63).toBitVec = 63#32 by decide]
    simp
set_option maxHeartbeats 4000000 in
theorem lw_next {p : Program} {l : Launch} {e : Env} {s : State} {m : MethodId} {below : List Frame} {meth : Method} {c : Code} {G : zG} {H0 : Heap} {b L xa ma oa : Nat} {xs : Nat → Int32} {Q : State → Prop} {i cells slots : Nat} (hC : zC p l s G s m #[.ref b] c "VersorhallLaw" cL_law) (hi : i ≤ 300) (K : lwJ p l e s m below meth c G H0 b xa ma oa Q 27 (i + 4) cells slots) : lwJ p l e s m below meth c G H0 b xa ma oa Q 2435 i cells slots := by
  intro H locs ls ρ μ σ th n9 d9 s9 hh hm exa ema hdm ho hof hom hdj hS hl
  have hx := hC.x
  have hb := hC.b
  refine z_iinc (z := ((i + 4 : Nat) : Int)) (lv' := [(4, .int (iI ((i + 4 : Nat) : Int))), (3, .ref oa), (2, .ref ma), (1, .ref xa), (0, .ref b)]) hx hb dL_law_2435 hl (k := 0) rfl (by omega) (by decide) rfl (fun ls hl => ?_)
  refine lv_goto (tgt := 27) hx hb dL_law_2438 (by decide) ?_
  exact K _ _ _ _ _ _ _ _ _ _ hh hm exa ema hdm ho hof hom hdj hS hl
set_option maxHeartbeats 8000000 in
theorem lw_loop {p : Program} {l : Launch} {e : Env} {s : State} {m : MethodId} {below : List Frame} {meth : Method} {c : Code} {G : zG} {H0 : Heap} {b L xa ma oa : Nat} {xs : Nat → Int32} {Q : State → Prop} (hE : zE l s G) (hC : zC p l s G s m #[.ref b] c "VersorhallLaw" cL_law) (hml : c.maxLocals = 9) (hH0 : s.heap = H0) (hX : va_X b L xs s H0) (hbl : b < H0.size) (hL : L ≤ 256) (hnc : zNc s) (hoa : s.heap.size ≤ oa) (hex : ∀ (H : Heap) (locs : List Loc) (ls : Array Slot) (cells slots : Nat), cells ≤ 601152 → slots ≤ 7254250 → va_S (zA M0 H0) H0 H locs → W p l e room_1 s m #[.ref b] below meth c H locs cells slots Q (F0 m 2441 ls [])) : ∀ (d r : Nat), 64 - r = d → r ≤ 64 → lwJ p l e s m below meth c G H0 b xa ma oa Q 27 (4 * r) (100 + 9000 * r) (2000 + 110000 * r) := by
  intro d
  induction d using Nat.strongRecOn with
  | ind d ih =>
    intro r hd hr9
    intro H locs ls ρ μ σ th n9 d9 s9 hh hm exa ema hdm ho hof hom hdj hS hl
    have hx := hC.x
    have hb := hC.b
    refine lv_iload hx hb dL_law_27 (lv_at hl 0 rfl) ?_
    refine lv_aload_n hx hb dL_law_29 rfl (lv_at hl 4 rfl) ?_
    refine z_slen hC hX hbl hS dL_law_30 ?_
    refine lv_iconst (v := iI 4) hx hb dL_law_31 rfl ?_
    refine z_sub hx hb (z := ((L : Nat) : Int) - 4) dL_law_32 rfl ?_
    refine z_cgt (tgt := 2441) hx hb dL_law_33 (by decide) (by omega) (fun c1 => ?_) (fun c1 => ?_)
    · exact hex _ _ _ _ _ (by omega) (by omega) hS
    · refine lv_aload_n hx hb dL_law_36 rfl (lv_at hl 4 rfl) ?_
      refine lv_iload hx hb dL_law_37 (lv_at hl 0 rfl) ?_
      refine z_sld hC hX hbl hS (k := 4 * r) (by omega) (by omega) (by omega) dL_law_39 ?_
      rw [show iI ((xs (4 * r)).toInt) = xs (4 * r) from Int32.ofInt_toInt _]
      refine lv_bipush (v := iI 63) hx hb dL_law_40 (by decide) ?_
      refine lv_iand hx hb dL_law_42 ?_
      obtain ⟨n, hn, en⟩ := st_63 (xs (4 * r))
      rw [en]
      have K : lwJ p l e s m below meth c G H0 b xa ma oa Q 27 (4 * r + 4) (100 + 9000 * r + 9000) (2000 + 110000 * r + 110000) := by
        have h := ih (64 - (r + 1)) (by omega) (r + 1) rfl (by omega)
        rw [show 4 * (r + 1) = 4 * r + 4 by omega, show 100 + 9000 * (r + 1) = 100 + 9000 * r + 9000 by omega, show 2000 + 110000 * (r + 1) = 2000 + 110000 * r + 110000 by omega] at h
        exact h
      have IH := lw_next (L := L) (xs := xs) hC (by omega) K
      rcases (show n = 0 ∨ n = 1 ∨ n = 2 ∨ n = 3 ∨ n = 4 ∨ n = 5 ∨ n = 6 ∨ n = 7 ∨ n = 8 ∨ n = 9 ∨ n = 10 ∨ n = 11 ∨ n = 12 ∨ n = 13 ∨ n = 14 ∨ n = 15 ∨ n = 16 ∨ n = 17 ∨ n = 18 ∨ n = 19 ∨ n = 20 ∨ n = 21 ∨ n = 22 ∨ n = 23 ∨ n = 24 ∨ n = 25 ∨ n = 26 ∨ n = 27 ∨ n = 28 ∨ n = 29 ∨ n = 30 ∨ n = 31 ∨ n = 32 ∨ n = 33 ∨ 34 ≤ n from by omega) with rfl | rfl | rfl | rfl | rfl | rfl | rfl | rfl | rfl | rfl | rfl | rfl | rfl | rfl | rfl | rfl | rfl | rfl | rfl | rfl | rfl | rfl | rfl | rfl | rfl | rfl | rfl | rfl | rfl | rfl | rfl | rfl | rfl | rfl | h34
      · refine lv_tableIn (off := 149) (tgt := 192) hx hb dL_law_43 (by decide) (by decide) rfl (by decide) ?_
        exact lwc_0 hE hC hml hH0 hX hbl hL hnc hoa (by omega) ⟨by omega, by omega⟩ IH _ _ _ _ _ _ _ _ _ _ hh hm exa ema hdm ho hof hom hdj hS hl
      · refine lv_tableIn (off := 206) (tgt := 249) hx hb dL_law_43 (by decide) (by decide) rfl (by decide) ?_
        exact lwc_1 hE hC hml hH0 hX hbl hL hnc hoa (by omega) ⟨by omega, by omega⟩ IH _ _ _ _ _ _ _ _ _ _ hh hm exa ema hdm ho hof hom hdj hS hl
      · refine lv_tableIn (off := 263) (tgt := 306) hx hb dL_law_43 (by decide) (by decide) rfl (by decide) ?_
        exact lwc_2 hE hC hml hH0 hX hbl hL hnc hoa (by omega) ⟨by omega, by omega⟩ IH _ _ _ _ _ _ _ _ _ _ hh hm exa ema hdm ho hof hom hdj hS hl
      · refine lv_tableIn (off := 332) (tgt := 375) hx hb dL_law_43 (by decide) (by decide) rfl (by decide) ?_
        exact lwc_3 hE hC hml hH0 hX hbl hL hnc hoa (by omega) ⟨by omega, by omega⟩ IH _ _ _ _ _ _ _ _ _ _ hh hm exa ema hdm ho hof hom hdj hS hl
      · refine lv_tableIn (off := 389) (tgt := 432) hx hb dL_law_43 (by decide) (by decide) rfl (by decide) ?_
        exact lwc_4 hE hC hml hH0 hX hbl hL hnc hoa (by omega) ⟨by omega, by omega⟩ IH _ _ _ _ _ _ _ _ _ _ hh hm exa ema hdm ho hof hom hdj hS hl
      · refine lv_tableIn (off := 470) (tgt := 513) hx hb dL_law_43 (by decide) (by decide) rfl (by decide) ?_
        exact lwc_5 hE hC hml hH0 hX hbl hL hnc hoa (by omega) ⟨by omega, by omega⟩ IH _ _ _ _ _ _ _ _ _ _ hh hm exa ema hdm ho hof hom hdj hS hl
      · refine lv_tableIn (off := 551) (tgt := 594) hx hb dL_law_43 (by decide) (by decide) rfl (by decide) ?_
        exact lwc_6 hE hC hml hH0 hX hbl hL hnc hoa (by omega) ⟨by omega, by omega⟩ IH _ _ _ _ _ _ _ _ _ _ hh hm exa ema hdm ho hof hom hdj hS hl
      · refine lv_tableIn (off := 632) (tgt := 675) hx hb dL_law_43 (by decide) (by decide) rfl (by decide) ?_
        exact lwc_7 hE hC hml hH0 hX hbl hL hnc hoa (by omega) ⟨by omega, by omega⟩ IH _ _ _ _ _ _ _ _ _ _ hh hm exa ema hdm ho hof hom hdj hS hl
      · refine lv_tableIn (off := 713) (tgt := 756) hx hb dL_law_43 (by decide) (by decide) rfl (by decide) ?_
        exact lwc_8 hE hC hml hH0 hX hbl hL hnc hoa (by omega) ⟨by omega, by omega⟩ IH _ _ _ _ _ _ _ _ _ _ hh hm exa ema hdm ho hof hom hdj hS hl
      · refine lv_tableIn (off := 782) (tgt := 825) hx hb dL_law_43 (by decide) (by decide) rfl (by decide) ?_
        exact lwc_9 hE hC hml hH0 hX hbl hL hnc hoa (by omega) ⟨by omega, by omega⟩ IH _ _ _ _ _ _ _ _ _ _ hh hm exa ema hdm ho hof hom hdj hS hl
      · refine lv_tableIn (off := 863) (tgt := 906) hx hb dL_law_43 (by decide) (by decide) rfl (by decide) ?_
        exact lwc_10 hE hC hml hH0 hX hbl hL hnc hoa (by omega) ⟨by omega, by omega⟩ IH _ _ _ _ _ _ _ _ _ _ hh hm exa ema hdm ho hof hom hdj hS hl
      · refine lv_tableIn (off := 932) (tgt := 975) hx hb dL_law_43 (by decide) (by decide) rfl (by decide) ?_
        exact lwc_11 hE hC hml hH0 hX hbl hL hnc hoa (by omega) ⟨by omega, by omega⟩ IH _ _ _ _ _ _ _ _ _ _ hh hm exa ema hdm ho hof hom hdj hS hl
      · refine lv_tableIn (off := 1001) (tgt := 1044) hx hb dL_law_43 (by decide) (by decide) rfl (by decide) ?_
        exact lwc_12 hE hC hml hH0 hX hbl hL hnc hoa (by omega) ⟨by omega, by omega⟩ IH _ _ _ _ _ _ _ _ _ _ hh hm exa ema hdm ho hof hom hdj hS hl
      · refine lv_tableIn (off := 1070) (tgt := 1113) hx hb dL_law_43 (by decide) (by decide) rfl (by decide) ?_
        exact lwc_13 hE hC hml hH0 hX hbl hL hnc hoa (by omega) ⟨by omega, by omega⟩ IH _ _ _ _ _ _ _ _ _ _ hh hm exa ema hdm ho hof hom hdj hS hl
      · refine lv_tableIn (off := 1127) (tgt := 1170) hx hb dL_law_43 (by decide) (by decide) rfl (by decide) ?_
        exact lwc_14 hE hC hml hH0 hX hbl hL hnc hoa (by omega) ⟨by omega, by omega⟩ IH _ _ _ _ _ _ _ _ _ _ hh hm exa ema hdm ho hof hom hdj hS hl
      · refine lv_tableIn (off := 1184) (tgt := 1227) hx hb dL_law_43 (by decide) (by decide) rfl (by decide) ?_
        exact lwc_15 hE hC hml hH0 hX hbl hL hnc hoa (by omega) ⟨by omega, by omega⟩ IH _ _ _ _ _ _ _ _ _ _ hh hm exa ema hdm ho hof hom hdj hS hl
      · refine lv_tableIn (off := 1265) (tgt := 1308) hx hb dL_law_43 (by decide) (by decide) rfl (by decide) ?_
        exact lwc_16 hE hC hml hH0 hX hbl hL hnc hoa (by omega) ⟨by omega, by omega⟩ IH _ _ _ _ _ _ _ _ _ _ hh hm exa ema hdm ho hof hom hdj hS hl
      · refine lv_tableIn (off := 1334) (tgt := 1377) hx hb dL_law_43 (by decide) (by decide) rfl (by decide) ?_
        exact lwc_17 hE hC hml hH0 hX hbl hL hnc hoa (by omega) ⟨by omega, by omega⟩ IH _ _ _ _ _ _ _ _ _ _ hh hm exa ema hdm ho hof hom hdj hS hl
      · refine lv_tableIn (off := 1391) (tgt := 1434) hx hb dL_law_43 (by decide) (by decide) rfl (by decide) ?_
        exact lwc_18 hE hC hml hH0 hX hbl hL hnc hoa (by omega) ⟨by omega, by omega⟩ IH _ _ _ _ _ _ _ _ _ _ hh hm exa ema hdm ho hof hom hdj hS hl
      · refine lv_tableIn (off := 1460) (tgt := 1503) hx hb dL_law_43 (by decide) (by decide) rfl (by decide) ?_
        exact lwc_19 hE hC hml hH0 hX hbl hL hnc hoa (by omega) ⟨by omega, by omega⟩ IH _ _ _ _ _ _ _ _ _ _ hh hm exa ema hdm ho hof hom hdj hS hl
      · refine lv_tableIn (off := 1529) (tgt := 1572) hx hb dL_law_43 (by decide) (by decide) rfl (by decide) ?_
        exact lwc_20 hE hC hml hH0 hX hbl hL hnc hoa (by omega) ⟨by omega, by omega⟩ IH _ _ _ _ _ _ _ _ _ _ hh hm exa ema hdm ho hof hom hdj hS hl
      · refine lv_tableIn (off := 1598) (tgt := 1641) hx hb dL_law_43 (by decide) (by decide) rfl (by decide) ?_
        exact lwc_21 hE hC hml hH0 hX hbl hL hnc hoa (by omega) ⟨by omega, by omega⟩ IH _ _ _ _ _ _ _ _ _ _ hh hm exa ema hdm ho hof hom hdj hS hl
      · refine lv_tableIn (off := 1656) (tgt := 1699) hx hb dL_law_43 (by decide) (by decide) rfl (by decide) ?_
        exact lwc_22 hE hC hml hH0 hX hbl hL hnc hoa (by omega) ⟨by omega, by omega⟩ IH _ _ _ _ _ _ _ _ _ _ hh hm exa ema hdm ho hof hom hdj hS hl
      · refine lv_tableIn (off := 1725) (tgt := 1768) hx hb dL_law_43 (by decide) (by decide) rfl (by decide) ?_
        exact lwc_23 hE hC hml hH0 hX hbl hL hnc hoa (by omega) ⟨by omega, by omega⟩ IH _ _ _ _ _ _ _ _ _ _ hh hm exa ema hdm ho hof hom hdj hS hl
      · refine lv_tableIn (off := 1806) (tgt := 1849) hx hb dL_law_43 (by decide) (by decide) rfl (by decide) ?_
        exact lwc_24 hE hC hml hH0 hX hbl hL hnc hoa (by omega) ⟨by omega, by omega⟩ IH _ _ _ _ _ _ _ _ _ _ hh hm exa ema hdm ho hof hom hdj hS hl
      · refine lv_tableIn (off := 1875) (tgt := 1918) hx hb dL_law_43 (by decide) (by decide) rfl (by decide) ?_
        exact lwc_25 hE hC hml hH0 hX hbl hL hnc hoa (by omega) ⟨by omega, by omega⟩ IH _ _ _ _ _ _ _ _ _ _ hh hm exa ema hdm ho hof hom hdj hS hl
      · refine lv_tableIn (off := 1916) (tgt := 1959) hx hb dL_law_43 (by decide) (by decide) rfl (by decide) ?_
        exact lwc_26 hE hC hml hH0 hX hbl hL hnc hoa (by omega) ⟨by omega, by omega⟩ IH _ _ _ _ _ _ _ _ _ _ hh hm exa ema hdm ho hof hom hdj hS hl
      · refine lv_tableIn (off := 1992) (tgt := 2035) hx hb dL_law_43 (by decide) (by decide) rfl (by decide) ?_
        exact lwc_27 hE hC hml hH0 hX hbl hL hnc hoa (by omega) ⟨by omega, by omega⟩ IH _ _ _ _ _ _ _ _ _ _ hh hm exa ema hdm ho hof hom hdj hS hl
      · refine lv_tableIn (off := 2033) (tgt := 2076) hx hb dL_law_43 (by decide) (by decide) rfl (by decide) ?_
        exact lwc_28 hE hC hml hH0 hX hbl hL hnc hoa (by omega) ⟨by omega, by omega⟩ IH _ _ _ _ _ _ _ _ _ _ hh hm exa ema hdm ho hof hom hdj hS hl
      · refine lv_tableIn (off := 2090) (tgt := 2133) hx hb dL_law_43 (by decide) (by decide) rfl (by decide) ?_
        exact lwc_29 hE hC hml hH0 hX hbl hL hnc hoa (by omega) ⟨by omega, by omega⟩ IH _ _ _ _ _ _ _ _ _ _ hh hm exa ema hdm ho hof hom hdj hS hl
      · refine lv_tableIn (off := 2159) (tgt := 2202) hx hb dL_law_43 (by decide) (by decide) rfl (by decide) ?_
        exact lwc_30 hE hC hml hH0 hX hbl hL hnc hoa (by omega) ⟨by omega, by omega⟩ IH _ _ _ _ _ _ _ _ _ _ hh hm exa ema hdm ho hof hom hdj hS hl
      · refine lv_tableIn (off := 2228) (tgt := 2271) hx hb dL_law_43 (by decide) (by decide) rfl (by decide) ?_
        exact lwc_31 hE hC hml hH0 hX hbl hL hnc hoa (by omega) ⟨by omega, by omega⟩ IH _ _ _ _ _ _ _ _ _ _ hh hm exa ema hdm ho hof hom hdj hS hl
      · refine lv_tableIn (off := 2297) (tgt := 2340) hx hb dL_law_43 (by decide) (by decide) rfl (by decide) ?_
        exact lwc_32 hE hC hml hH0 hX hbl hL hnc hoa (by omega) ⟨by omega, by omega⟩ IH _ _ _ _ _ _ _ _ _ _ hh hm exa ema hdm ho hof hom hdj hS hl
      · refine lv_tableIn (off := 2378) (tgt := 2421) hx hb dL_law_43 (by decide) (by decide) rfl (by decide) ?_
        exact lwc_33 hE hC hml hH0 hX hbl hL hnc hoa (by omega) ⟨by omega, by omega⟩ IH _ _ _ _ _ _ _ _ _ _ hh hm exa ema hdm ho hof hom hdj hS hl
      · refine lv_tableOut (tgt := 2435) hx hb dL_law_43 (Or.inr (by rw [iI_toInt ⟨by omega, by omega⟩]; omega)) (by decide) ?_
        exact W.widen (by omega) (by omega) (IH _ _ _ _ _ _ _ _ _ _ hh hm exa ema hdm ho hof hom hdj hS hl)
set_option maxHeartbeats 8000000 in
theorem lw_from {p : Program} {l : Launch} {e : Env} {s : State} {m : MethodId} {below : List Frame} {meth : Method} {c : Code} {G : zG} {H0 : Heap} {b L : Nat} {xs : Nat → Int32} {Q : State → Prop} (hE : zE l s G) (hC : zC p l s G s m #[.ref b] c "VersorhallLaw" cL_law) (hml : c.maxLocals = 9) (hH0 : s.heap = H0) (hX : va_X b L xs s H0) (hbl : b < H0.size) (hL : L ≤ 256) (hnc : zNc s) (hex : ∀ (H : Heap) (locs : List Loc) (ls : Array Slot) (cells slots : Nat), cells ≤ 601152 → slots ≤ 7254250 → va_S (zA M0 H0) H0 H locs → W p l e room_1 s m #[.ref b] below meth c H locs cells slots Q (F0 m 2441 ls [])) {ls : Array Slot} (hl : lv_has ls 9 [(0, .ref b)]) : W p l e room_1 s m #[.ref b] below meth c H0 [] 0 0 Q (F0 m 0 ls []) := by
  have hx := hC.x
  have hb := hC.b
  have hO : zO s H0 := ⟨by rw [hH0]; exact Nat.le_refl _, fun _ _ => by rw [hH0]⟩
  have hP : va_P G.1 zCl [] H0 := va_nil
  have hD : va_D (zA M0 H0) [] := va_nilD
  have hS : va_S (zA M0 H0) H0 H0 [] := va_S.rf
  refine z_new hC hP hD hS (c1 := 1) (s1 := 6) (fs := [.int (iI 0), .null, .null, .null, .int (iI 0), .long (lI 0)]) (ci := 0) rfl in_X1 tyX1_ok q102 q103 q62 df_X1 ⟨zle (z := 601152) rfl (by omega), zle (z := 7254250) rfl (by omega)⟩ ⟨by omega, by omega⟩ (ws' := fun q1 => [(q1, zOb 0 [.int (iI 0), .null, .null, .null, .int (iI 0), .long (lI 0)])]) (fun _ => rfl) dL_law_0 (fun q1 H2 hq0q1 hq1q1 hP hD hS hF => ?_)
  refine lv_dup hx hb dL_law_3 rfl ?_
  have hlt1 : q1 < H2.size := (hP 0 _ rfl).lt
  have hsqq1 : s.heap.size ≤ q1 := by rw [hH0]; exact hq0q1
  refine z_go 4 13 (z_runI (As := []) (rest := [.ref q1]) hC hml hl.1 (m_X1_init hE H2 (hO.ext0 (zS_F hS)) q1 hsqq1 (hP 0 _ rfl)) q106 q62 q104 q105 rfl nd_X1_init rfl rfl (Nat.le_of_ble_eq_true rfl) ⟨Nat.le_of_ble_eq_true rfl, Nat.le_of_ble_eq_true rfl⟩ ⟨zfit (k := 3) (z := 601152) rfl rfl (by omega), zfit (k := 7) (z := 7254250) rfl rfl (by omega)⟩ dL_law_4) ⟨zad (k := 3) rfl (by omega), zad (k := 7) rfl (by omega)⟩ hS (fun z w => Or.inr (by rw [w]; exact hq0q1)) (fun r H3 locs hp hF hS1 => ?_)
  obtain ⟨rfl, ρ, er, hh, hdm, hfc⟩ := hp
  have hP : va_P G.1 zCl [] H3 := va_nil
  have hD : va_D (zA M0 H0) [] := va_nilD
  have hP : va_P G.1 zCl ([]) H3 := hP
  have hD : va_D (zA M0 H0) ([]) := hD
  have hS := hS1
  refine lv_astore_n (lv' := [(1, .ref q1), (0, .ref b)]) hx hb dL_law_7 rfl hl (by decide) rfl (fun ls hl => ?_)
  have hO1 : zO s H3 := hO.ext0 (zS_F hS)
  have hltC : ∀ a, domC st0 a → ρ a < H3.size := fun a ha => hh.lt hE hO1 a ha
  have hd5 : ρ (5, 0, 0) < H3.size := hltC _ (dom0 5 (by omega))
  refine z_new hC hP hD hS (c1 := 5) (s1 := 18) (fs := [.int (iI 0), .int (iI 0), .int (iI 0), .null, .null]) (ci := 2) rfl in_X3 tyX3_ok q1487 q1488 q67 df_X3 ⟨zle (z := 601152) rfl (by omega), zle (z := 7254250) rfl (by omega)⟩ ⟨by omega, by omega⟩ (ws' := fun q4 => [(q4, zOb 2 [.int (iI 0), .int (iI 0), .int (iI 0), .null, .null])]) (fun _ => rfl) dL_law_8 (fun q4 H5 hq0q4 hq1q4 hP hD hS hF => ?_)
  have hh := hh.ext0 hE hF
  have hdm := hdm.ext0 hF
  have hsqq4 : s.heap.size ≤ q4 := by rw [hH0]; exact hq0q4
  have hsz2 : q4 < H5.size := (hP 0 _ rfl).lt
  refine lv_dup hx hb dL_law_11 rfl ?_
  refine z_go 7 24 (z_runI (As := []) (rest := [.ref q4]) hC hml hl.1 (m_X3_init hE H5 (hO.ext0 (zS_F hS)) q4 hsqq4 (hP 0 _ rfl)) q1491 q67 q1489 q1490 rfl nd_X3_init rfl rfl (Nat.le_of_ble_eq_true rfl) ⟨Nat.le_of_ble_eq_true rfl, Nat.le_of_ble_eq_true rfl⟩ ⟨zfit (k := 2) (z := 601152) rfl rfl (by omega), zfit (k := 6) (z := 7254250) rfl rfl (by omega)⟩ dL_law_12) ⟨zad (k := 2) rfl (by omega), zad (k := 6) rfl (by omega)⟩ hS (fun z w => Or.inr (by rw [w]; exact hq0q4)) (fun r H6 locs hp hF hS1 => ?_)
  obtain ⟨rfl, μ, em, hm, hfm⟩ := hp
  have hP : va_P G.1 zCl [] H6 := va_nil
  have hD : va_D (zA M0 H0) [] := va_nilD
  have hh := hh.ext hE hF (fun a ha _ z => by have z : ρ a = q4 := z; have := hltC a ha; omega)
  have hdm := hdm.ext hF (fun z => by have z : ρ (5, 0, 0) = q4 := z; omega)
  have hP : va_P G.1 zCl ([]) H6 := hP
  have hD : va_D (zA M0 H0) ([]) := hD
  have hS := hS1
  refine lv_astore_n (lv' := [(2, .ref q4), (1, .ref q1), (0, .ref b)]) hx hb dL_law_15 rfl hl (by decide) rfl (fun ls hl => ?_)
  have hO2 : zO s H6 := hO.ext0 (zS_F hS)
  have hltM : ∀ a, dmMo st0 a → μ a < H6.size := fun a ha => hm.lt hE hO2 a ha
  have hltC2 : ∀ a, domC st0 a → ρ a < H6.size := fun a ha => hh.lt hE hO2 a ha
  refine z_new hC hP hD hS (c1 := 8) (s1 := 27) (fs := [.long (lI 0), .double 0, .null]) (ci := 3) rfl in_X4 tyX4_ok q880 q881 q68 df_X4 ⟨zle (z := 601152) rfl (by omega), zle (z := 7254250) rfl (by omega)⟩ ⟨by omega, by omega⟩ (ws' := fun q7 => [(q7, zOb 3 [.long (lI 0), .double 0, .null])]) (fun _ => rfl) dL_law_16 (fun q7 H8 hq0q7 hq1q7 hP hD hS hF => ?_)
  have hh := hh.ext0 hE hF
  have hdm := hdm.ext0 hF
  have hm := hm.ext0 hE hF
  have hsqq7 : s.heap.size ≤ q7 := by rw [hH0]; exact hq0q7
  have ho := hP 0 _ rfl
  have ho : zAt G q7 (zOb 3 [.long (lI 0), .double 0, .null]) H8 := ho
  refine lv_dup hx hb dL_law_19 rfl ?_
  refine z_go 8 27 (z_runIN (As := []) (rest := [.ref q7]) hC hml hl.1 (m_X4_init hE H8 (hO.ext0 (zS_F hS)) q7 ) q884 q68 q882 q883 rfl nd_X4_init rfl rfl (Nat.le_of_ble_eq_true rfl) ⟨Nat.le_of_ble_eq_true rfl, Nat.le_of_ble_eq_true rfl⟩ ⟨zfit (k := 0) (z := 601152) rfl rfl (by omega), zfit (k := 0) (z := 7254250) rfl rfl (by omega)⟩ dL_law_20) ⟨zad (k := 0) rfl (by omega), zad (k := 0) rfl (by omega)⟩ hS (fun _ z => z.elim) (fun r H9 locs hp hF hS1 => ?_)
  obtain ⟨rfl, -⟩ := hp
  have hP : va_P G.1 zCl [] H9 := va_nil
  have hD : va_D (zA M0 H0) [] := va_nilD
  have ho := ho.ext0 hF
  have hh := hh.ext0 hE hF
  have hdm := hdm.ext0 hF
  have hm := hm.ext0 hE hF
  have hP : va_P G.1 zCl ([]) H9 := hP
  have hD : va_D (zA M0 H0) ([]) := hD
  have hS := hS1
  refine lv_astore_n (lv' := [(3, .ref q7), (2, .ref q4), (1, .ref q1), (0, .ref b)]) hx hb dL_law_23 rfl hl (by decide) rfl (fun ls hl => ?_)
  refine lv_iconst (v := iI 0) hx hb dL_law_24 rfl ?_
  refine lv_istore (lv' := [(4, .int (iI 0)), (3, .ref q7), (2, .ref q4), (1, .ref q1), (0, .ref b)]) hx hb dL_law_25 hl (by decide) rfl (fun ls hl => ?_)
  have hK := lw_loop (xa := q1) (ma := q4) (oa := q7) hE hC hml hH0 hX hbl hL hnc hsqq7 hex 64 0 rfl (by omega)
  refine W.widen (by omega) (by omega) (hK _ _ _ ρ μ st0 0 _ _ _ hh hm er em hdm ho (fun z => ?_) (fun z => ?_) (fun z hz hz2 => ?_) hS (lv_sub hl [0, 1, 2, 3, 4] rfl))
  · obtain ⟨-, a, ha, ea⟩ := z
    have := hltC2 a ha
    omega
  · obtain ⟨-, a, ha, ea⟩ := z
    have := hltM a ha
    omega
  · obtain ⟨-, a, ha, ea⟩ := hz
    have := hltC a ha
    rcases hfm z hz2 with h | h <;> omega
