/-! THE TEXTS, told apart; THE LAW: its case of texts -/
set_option maxRecDepth 100000
def zStrN (G : zG) (H0 : Heap) (y : Nat) (L : List Int) (h1 : Heap) : Prop := (L ≠ [48] ∧ ∃ b : Nat, NW G H0 h1 [(y, zOb 12 [.ref b, .int (iI 0), .int (iI 0), .int (iI 0)]), (b, zB G L.length (fun j => L.getD j 0))]) ∨ (y = G.2 17 ∧ L = [48])
theorem zStrN.ext0 {G : zG} {H0 H1 H2 : Heap} {y : Nat} {L : List Int} (h : zStrN G H1 y L H2) (h0 : H0.size ≤ H1.size) : zStrN G H0 y L H2 := h.imp (fun ⟨hn, b, h1, h2⟩ => ⟨hn, b, h1, va_D.weaken h2 (fun _ _ _ z => Nat.le_trans h0 z)⟩) id
theorem zStrN.ext {G : zG} {H0 h1 h2 : Heap} {M : Nat → Prop} {y : Nat} {L : List Int} (h : zStrN G H0 y L h1) (hF : zF M h1 h2) (hM : ∀ z, M z → z < H0.size) : zStrN G H0 y L h2 := by
  refine h.imp (fun ⟨hn, b, h1, h2⟩ => ⟨hn, b, fun i x hx => (h1 i x hx).kept (hF.2 _ (show va_at G.1 zCl x _ from h1 i x hx).lt (fun z => ?_)), h2⟩) id
  have := h2.2 i x hx
  have h9 := hM _ z
  have h8 : H0.size ≤ x.1 := this
  omega
theorem plL_len9 (L : List Int) : (plL L).length ≤ L.length + 1 := by
  unfold plL
  split
  · rename_i h; rw [h]; simp
  · simp
theorem txL_len9 (v : Nat → Int) : ∀ k, (txL v k).length ≤ 6 * k
  | 0 => by simp [txL]
  | k + 1 => by
    have ih := txL_len9 v k
    simp only [txL]
    split
    · omega
    · have h1 := plL_len9 (txL v k)
      have h2 := dgL_len (v k).toNat
      have h3 := dgL_len k
      have h4 := ssz_in (v k).toNat
      have h5 := ssz_in k
      simp only [List.length_append, List.length_singleton]
      omega
theorem dgL_in {n : Nat} (hn : n < 100) : ∀ x ∈ dgL n, 0 ≤ x ∧ x < 128 := by
  intro x hx
  unfold dgL at hx
  split at hx
  · simp only [List.mem_cons, List.not_mem_nil, or_false] at hx; omega
  · simp only [List.mem_cons, List.not_mem_nil, or_false] at hx; omega
theorem txL_in {v : Nat → Int} : ∀ {k : Nat}, k ≤ 16 → (∀ j, j < k → v j < 7) → ∀ x ∈ txL v k, 0 ≤ x ∧ x < 128
  | 0, _, _ => fun x hx => by simp [txL] at hx
  | k + 1, hk, hv => by
    have ih := txL_in (v := v) (k := k) (by omega) (fun j hj => hv j (by omega))
    have hvk := hv k (by omega)
    intro x hx
    simp only [txL] at hx
    split at hx
    · exact ih x hx
    · simp only [List.mem_append, List.mem_cons, List.not_mem_nil, or_false] at hx
      rcases hx with ((hx | hx) | hx) | hx
      · unfold plL at hx
        split at hx
        · cases hx
        · simp only [List.mem_append, List.mem_cons, List.not_mem_nil, or_false] at hx
          rcases hx with hx | hx
          · exact ih x hx
          · omega
      · exact dgL_in (by omega) x hx
      · omega
      · exact dgL_in (by omega) x hx
theorem txF_len9 (n : Nat) (v : Nat → Int) (hn : n ≤ 16) : (txF n v).length ≤ 1000 := by
  unfold txF
  split
  · simp
  · have := txL_len9 v n; omega
theorem txF_in {n : Nat} {v : Nat → Int} (hn : n ≤ 16) (hv : ∀ j, j < n → v j < 7) : ∀ j, j < (txF n v).length → zi ((txF n v).getD j 0) := by
  intro j hj
  have h : ∀ x ∈ txF n v, 0 ≤ x ∧ x < 128 := by
    unfold txF
    split
    · intro x hx; simp only [List.mem_cons, List.not_mem_nil, or_false] at hx; omega
    · exact txL_in hn hv
  have h1 := h _ (List.getElem_mem hj)
  rw [List.getD_eq_getElem?_getD, List.getElem?_eq_getElem hj]
  show zi ((txF n v)[j])
  exact ⟨by omega, by omega⟩
abbrev rm_m_X7_toStringN : Room := { frames := 6, cells := 12, slots := 900, locals := 171 }
set_option maxHeartbeats 4000000 in
theorem m_X7_toStringN {l : Launch} {s0 : State} {G : zG} (hE : zE l s0 G) (H0 : Heap) (hO : zO s0 H0) (x g : Nat) (p : Int) (d n kd : Nat) (dv : Nat → Int) (sg : Nat → Nat → Int) (a r : Nat) (v : Nat → Int) (hA : zAg G x g p d n kd dv sg H0) (h : zEl G x g a r n v H0) (hv : rw_ok p n v) : zM l s0 yX7_toString cX7_toString 3 (some (FieldType.object "java/lang/String")) rm_m_X7_toStringN [.ref a] H0 M0 (rr (fun y h1 => zStrN G H0 y (txF n v) h1)) := by
  refine z_met hE (by decide +kernel) (Nat.le_of_ble_eq_true rfl) ?_
  intro pp ee ss mm args below meth cd Q ls hC hml hrt hlk hnm hH hQ hS hl
  have hx := hC.x
  have hb := hC.b
  have hl : lv_has ls 3 [(0, .ref a)] := hl
  have hP : va_P G.1 zCl [] H0 := va_nil
  have hD : va_D (zA M0 H0) [] := va_nilD
  obtain ⟨la, le, dr, kn, sm, dl, da, ml, so, dm, ro, hx0, hg0, hL0, hso, hro, hfa⟩ := id hA
  obtain ⟨hp, hd4, hn2, hkd, hdv, hsg⟩ := hfa
  obtain ⟨hn16, hp7⟩ := hA.n
  refine z_new hC hP hD hS (c1 := 1) (s1 := 4) (fs := [.null, .int (iI 0), .int (iI 0), .int (iI 0)]) (ci := 11) rfl in_J24 tyJ24_ok q549 q550 q98 df_J24 ⟨zle (z := 12) rfl (by omega), zle (z := 900) rfl (by omega)⟩ ⟨by omega, by omega⟩ (ws' := fun q1 => [(q1, zOb 11 [.null, .int (iI 0), .int (iI 0), .int (iI 0)])]) (fun _ => rfl) dX7_toString_0 (fun q1 H2 hq0q1 hq1q1 hP hD hS hF => ?_)
  refine lv_dup hx hb dX7_toString_3 rfl ?_
  refine z_go 2 20 (z_runI (As := []) (rest := [.ref q1]) hC hml hl.1 (m_J24_init hE H2 (hO.ext0 (zS_F hS)) q1 (Nat.le_trans hO.1 hq0q1) (hP 0 _ rfl)) q553 q98 q551 q552 rfl nd_J24_init rfl rfl (Nat.le_of_ble_eq_true rfl) ⟨Nat.le_of_ble_eq_true rfl, Nat.le_of_ble_eq_true rfl⟩ ⟨zfit (k := 1) (z := 12) rfl rfl (by omega), zfit (k := 16) (z := 900) rfl rfl (by omega)⟩ dX7_toString_4) ⟨zad (k := 1) rfl (by omega), zad (k := 16) rfl (by omega)⟩ hS (fun q z => by subst z; exact hD.2 0 _ rfl) (fun r H3 locs hp hF hS1 => ?_)
  obtain ⟨rfl, arr0, hm, hN⟩ := hp
  obtain ⟨hP, hD⟩ := zjmn hP hD hS.1 hF 0 rfl hm hN
  have hP : va_P G.1 zCl ([(q1, zOb 11 [.ref arr0, .int (iI 0), .int (iI 0), .int (iI 0)]), (arr0, zB G 16 (fun _ => 0))]) H3 := hP
  have hD : va_D (zA M0 H0) ([(q1, zOb 11 [.ref arr0, .int (iI 0), .int (iI 0), .int (iI 0)]), (arr0, zB G 16 (fun _ => 0))]) := hD
  have hS := hS1
  refine lv_astore_n (lv' := [(1, .ref q1), (0, .ref a)]) hx hb dX7_toString_7 rfl hl (by decide) rfl (fun ls hl => ?_)
  refine lv_iconst (v := iI 0) hx hb dX7_toString_8 rfl ?_
  refine lv_istore_n (lv' := [(2, .int (iI 0)), (1, .ref q1), (0, .ref a)]) hx hb dX7_toString_9 rfl hl (by decide) rfl (fun ls hl => ?_)
  have lp4 : ∀ (dlp4 : Nat) (k : Nat) (len0 : Nat) (arr09 : Nat) (mm09 : Nat) (gr0 : Nat) (f09 : Nat → Int), n - k = dlp4 → (k ≤ n) → (sbI (txL v k) len0 mm09 gr0 f09) → (len0 ≤ 5 * k) → ∀ (H5 : Heap) (locs : List Loc) (ls : Array Slot), va_P G.1 zCl ([(q1, zOb 11 [.ref arr09, .int (iI 0), .int (iI 0), .int (iI ((len0 : Nat) : Int))]), (arr09, zB G mm09 f09)]) H5 → va_D (zA M0 H0) ([(q1, zOb 11 [.ref arr09, .int (iI 0), .int (iI 0), .int (iI ((len0 : Nat) : Int))]), (arr09, zB G mm09 f09)]) → va_S (zA M0 H0) H0 H5 locs → lv_has ls 3 [(2, .int (iI ((k : Nat) : Int))), (1, .ref q1), (0, .ref a)] → W pp l ee rm_m_X7_toStringN ss mm args below meth cd H5 locs (2 + gr0) (20 + 200 * gr0) Q (F0 mm 10 ls []) := by
    intro dlp4
    induction dlp4 using Nat.strongRecOn with
    | ind dlp4 ihlp4 =>
      intro k len0 arr09 mm09 gr0 f09 hdlp4 hk hs0 hlen0 H5 locs ls  hP hD hS hl
      refine lv_iload_n hx hb dX7_toString_10 rfl (lv_at hl 0 rfl) ?_
      refine lv_aload_n hx hb dX7_toString_11 rfl (lv_at hl 2 rfl) ?_
      refine z_get hC (k := 1) rfl in_X7 (zo hS h.1 id) (by decide) q324 (fun _ h => h) rfl dX7_toString_12 ?_
      refine z_alen hC 0 (zo hS h.2 id) rfl (y := ((n : Nat) : Int)) rfl dX7_toString_15 ?_
      refine z_cge (tgt := 71) hx hb dX7_toString_16 (by decide) (by omega) (fun c6 => ?_) (fun c6 => ?_)
      · have ek : k = n := by omega
        rw [ek] at hs0
        have hcap := hs0.2.2.2.2
        unfold capR at hcap
        have hlm := hs0.2.2.2.1
        refine lv_aload_n hx hb dX7_toString_71 rfl (lv_at hl 1 rfl) ?_
        refine z_go (2 + gr0) (20 + 200 * gr0) (z_runV (As := []) (rest := []) hC hml hl.1 (m_J24_length hE H5 (hO.ext0 (zS_F hS)) q1 arr09 len0 (hP 0 _ rfl)) (lw_V q581 q582 q583 q98 q584) rfl nd_J24_length rfl (z_rv hC (ci := 11) rfl (hP 0 _ rfl) rfl) rfl (Nat.le_of_ble_eq_true rfl) ⟨Nat.le_of_ble_eq_true rfl, Nat.le_of_ble_eq_true rfl⟩ ⟨zfit (k := 0) (z := 12) rfl rfl (by omega), zfit (k := 0) (z := 900) rfl rfl (by omega)⟩ dX7_toString_72) ⟨zad (k := 0) rfl (by omega), zad (k := 0) rfl (by omega)⟩ hS (fun _ z => z.elim) (fun r H7 locs hp hF hS1 => ?_)
        obtain ⟨_, rfl, rfl⟩ := hp
        have hP := zpk hP hF
        have hP : va_P G.1 zCl ([(q1, zOb 11 [.ref arr09, .int (iI 0), .int (iI 0), .int (iI ((len0 : Nat) : Int))]), (arr09, zB G mm09 f09)]) H7 := hP
        have hD : va_D (zA M0 H0) ([(q1, zOb 11 [.ref arr09, .int (iI 0), .int (iI 0), .int (iI ((len0 : Nat) : Int))]), (arr09, zB G mm09 f09)]) := hD
        have hS := hS1
        refine z_zne (tgt := 83) hx hb dX7_toString_75 (by decide) (by omega) (fun c8 => ?_) (fun c8 => ?_)
        · refine lv_aload_n hx hb dX7_toString_83 rfl (lv_at hl 1 rfl) ?_
          refine z_go ((2 + gr0) + 2) ((20 + 200 * gr0) + 104) (z_runV (As := []) (rest := []) hC hml hl.1 (m_J24_toString hE H7 (hO.ext0 (zS_F hS)) q1 arr09 len0 mm09 f09 (hP 0 _ rfl) (hP 1 _ rfl) ⟨by omega, by omega, by omega⟩ (fun j hj => hs0.2.2.1 j (by omega))) (lw_V q716 q717 q718 q98 q719) rfl nd_J24_toString rfl (z_rv hC (ci := 11) rfl (hP 0 _ rfl) rfl) rfl (Nat.le_of_ble_eq_true rfl) ⟨Nat.le_of_ble_eq_true rfl, Nat.le_of_ble_eq_true rfl⟩ ⟨zfit (k := 2) (z := 12) rfl rfl (by omega), zfit (k := 104) (z := 900) rfl rfl (by omega)⟩ dX7_toString_84) ⟨zad (k := 2) rfl (by omega), zad (k := 104) rfl (by omega)⟩ hS (fun _ z => z.elim) (fun r H9 locs hp hF hS1 => ?_)
          obtain ⟨qs9, rfl, b9, f1, hf1, hN⟩ := hp
          obtain ⟨hP, hD⟩ := zjn hP hD hS.1 hF hN
          have hP : va_P G.1 zCl ([(q1, zOb 11 [.ref arr09, .int (iI 0), .int (iI 0), .int (iI ((len0 : Nat) : Int))]), (arr09, zB G mm09 f09), (qs9, zOb 12 [.ref b9, .int (iI 0), .int (iI 0), .int (iI 0)]), (b9, zB G len0 f1)]) H9 := hP
          have hD : va_D (zA M0 H0) ([(q1, zOb 11 [.ref arr09, .int (iI 0), .int (iI 0), .int (iI ((len0 : Nat) : Int))]), (arr09, zB G mm09 f09), (qs9, zOb 12 [.ref b9, .int (iI 0), .int (iI 0), .int (iI 0)]), (b9, zB G len0 f1)]) := hD
          have hS := hS1
          have hne : txL v n ≠ [] := fun e => by have := hs0.1; rw [e] at this; simp at this; omega
          have etx : txF n v = txL v n := by unfold txF; rw [if_neg hne]
          have hP : va_P G.1 zCl [(q1, zOb 11 [.ref arr09, .int (iI 0), .int (iI 0), .int (iI ((len0 : Nat) : Int))]), (arr09, zB G mm09 f09), (qs9, zOb 12 [.ref b9, .int (iI 0), .int (iI 0), .int (iI 0)]), (b9, zB G ((txF n v).length) (fun j => (txF n v).getD j 0))] H9 := by rw [etx, ← hs0.1]; exact zcB hP 3 rfl (fun j hj => by rw [hf1 j hj]; exact hs0.2.1 j hj)
          have hD : va_D (zA M0 H0) [(q1, zOb 11 [.ref arr09, .int (iI 0), .int (iI 0), .int (iI ((len0 : Nat) : Int))]), (arr09, zB G mm09 f09), (qs9, zOb 12 [.ref b9, .int (iI 0), .int (iI 0), .int (iI 0)]), (b9, zB G ((txF n v).length) (fun j => (txF n v).getD j 0))] := by rw [etx, ← hs0.1]; exact hD.set (p := 3) rfl
          exact z_aret hC hrt hlk hQ hS ⟨zle (z := 12) rfl (by omega), zle (z := 900) rfl (by omega)⟩ ⟨_, rfl, Or.inl ⟨by rw [etx]; exact txL_48 v n, _, hP.sub [2, 3] rfl, zdn (hD.sub [2, 3] (by decide) rfl)⟩⟩ dX7_toString_87
        · have he : txL v n = [] := List.length_eq_zero_iff.mp (by have := hs0.1; omega)
          refine z_lds hC hE.2.2.2.1.2.2.2.2.2.2.1.1 dX7_toString_78 ?_
          refine lv_goto (tgt := 87) hx hb dX7_toString_80 (by decide) ?_
          exact z_aret hC hrt hlk hQ hS ⟨zle (z := 12) rfl (by omega), zle (z := 900) rfl (by omega)⟩ ⟨_, rfl, Or.inr ⟨rfl, by unfold txF; rw [if_pos he]⟩⟩ dX7_toString_87
      · have hvk := hv k (by omega)
        have hcap := hs0.2.2.2.2
        unfold capR at hcap
        have hlm := hs0.2.2.2.1
        refine lv_aload_n hx hb dX7_toString_19 rfl (lv_at hl 2 rfl) ?_
        refine z_get hC (k := 1) rfl in_X7 (zo hS h.1 id) (by decide) q324 (fun _ h => h) rfl dX7_toString_20 ?_
        refine lv_iload_n hx hb dX7_toString_23 rfl (lv_at hl 0 rfl) ?_
        refine z_iald hC (zo hS h.2 id) (k := k) rfl (by omega) (y := v k) rfl dX7_toString_24 ?_
        refine z_zne (tgt := 31) hx hb dX7_toString_25 (by decide) (by omega) (fun c10 => ?_) (fun c10 => ?_)
        · refine lv_aload_n hx hb dX7_toString_31 rfl (lv_at hl 1 rfl) ?_
          refine z_go (2 + gr0) (20 + 200 * gr0) (z_runV (As := []) (rest := []) hC hml hl.1 (m_J24_length hE H5 (hO.ext0 (zS_F hS)) q1 arr09 len0 (hP 0 _ rfl)) (lw_V q581 q582 q583 q98 q584) rfl nd_J24_length rfl (z_rv hC (ci := 11) rfl (hP 0 _ rfl) rfl) rfl (Nat.le_of_ble_eq_true rfl) ⟨Nat.le_of_ble_eq_true rfl, Nat.le_of_ble_eq_true rfl⟩ ⟨zfit (k := 0) (z := 12) rfl rfl (by omega), zfit (k := 0) (z := 900) rfl rfl (by omega)⟩ dX7_toString_32) ⟨zad (k := 0) rfl (by omega), zad (k := 0) rfl (by omega)⟩ hS (fun _ z => z.elim) (fun r H11 locs hp hF hS1 => ?_)
          obtain ⟨_, rfl, rfl⟩ := hp
          have hP := zpk hP hF
          have hP : va_P G.1 zCl ([(q1, zOb 11 [.ref arr09, .int (iI 0), .int (iI 0), .int (iI ((len0 : Nat) : Int))]), (arr09, zB G mm09 f09)]) H11 := hP
          have hD : va_D (zA M0 H0) ([(q1, zOb 11 [.ref arr09, .int (iI 0), .int (iI 0), .int (iI ((len0 : Nat) : Int))]), (arr09, zB G mm09 f09)]) := hD
          have hS := hS1
          have ja : ∀ (len1 : Nat) (arr19 : Nat) (mm19 : Nat) (gr1 : Nat) (f19 : Nat → Int), (sbI (plL (txL v k)) len1 mm19 gr1 f19) → (len1 ≤ 5 * k + 1) → ∀ (H12 : Heap) (locs : List Loc) (ls : Array Slot), va_P G.1 zCl ([(q1, zOb 11 [.ref arr19, .int (iI 0), .int (iI 0), .int (iI ((len1 : Nat) : Int))]), (arr19, zB G mm19 f19)]) H12 → va_D (zA M0 H0) ([(q1, zOb 11 [.ref arr19, .int (iI 0), .int (iI 0), .int (iI ((len1 : Nat) : Int))]), (arr19, zB G mm19 f19)]) → va_S (zA M0 H0) H0 H12 locs → lv_has ls 3 [(2, .int (iI ((k : Nat) : Int))), (1, .ref q1), (0, .ref a)] → W pp l ee rm_m_X7_toStringN ss mm args below meth cd H12 locs (2 + gr1) (20 + 200 * gr1) Q (F0 mm 45 ls []) := by
            intro len1 arr19 mm19 gr1 f19 hs1 hlen1 H12 locs ls  hP hD hS hl
            refine lv_aload_n hx hb dX7_toString_45 rfl (lv_at hl 1 rfl) ?_
            refine lv_aload_n hx hb dX7_toString_46 rfl (lv_at hl 2 rfl) ?_
            refine z_get hC (k := 1) rfl in_X7 (zo hS h.1 id) (by decide) q324 (fun _ h => h) rfl dX7_toString_47 ?_
            refine lv_iload_n hx hb dX7_toString_50 rfl (lv_at hl 0 rfl) ?_
            refine z_iald hC (zo hS h.2 id) (k := k) rfl (by omega) (y := v k) rfl dX7_toString_51 ?_
            refine z_top (b := (((v k).toNat : Nat) : Int)) (by omega) ?_
            have hs19 : ssz (v k).toNat = 1 := by unfold ssz; rw [if_pos (by omega)]
            have jb : ∀ (len2 : Nat) (arr29 : Nat) (mm29 : Nat) (gr2 : Nat) (f29 : Nat → Int), (sbI (plL (txL v k) ++ dgL (v k).toNat) len2 mm29 gr2 f29) → (len2 ≤ 5 * k + 2) → ∀ (H13 : Heap) (locs : List Loc) (ls : Array Slot), va_P G.1 zCl ([(q1, zOb 11 [.ref arr29, .int (iI 0), .int (iI 0), .int (iI ((len2 : Nat) : Int))]), (arr29, zB G mm29 f29)]) H13 → va_D (zA M0 H0) ([(q1, zOb 11 [.ref arr29, .int (iI 0), .int (iI 0), .int (iI ((len2 : Nat) : Int))]), (arr29, zB G mm29 f29)]) → va_S (zA M0 H0) H0 H13 locs → lv_has ls 3 [(2, .int (iI ((k : Nat) : Int))), (1, .ref q1), (0, .ref a)] → W pp l ee rm_m_X7_toStringN ss mm args below meth cd H13 locs (2 + gr2) (20 + 200 * gr2) Q (F0 mm 55 ls [.ref q1]) := by
              intro len2 arr29 mm29 gr2 f29 hs2 hlen2 H13 locs ls  hP hD hS hl
              refine lv_bipush (v := iI 101) hx hb dX7_toString_55 (by decide) ?_
              have jc : ∀ (len3 : Nat) (arr39 : Nat) (mm39 : Nat) (gr3 : Nat) (f39 : Nat → Int), (sbI ((plL (txL v k) ++ dgL (v k).toNat) ++ [((101 : Nat) : Int)]) len3 mm39 gr3 f39) → (len3 ≤ 5 * k + 3) → ∀ (H14 : Heap) (locs : List Loc) (ls : Array Slot), va_P G.1 zCl ([(q1, zOb 11 [.ref arr39, .int (iI 0), .int (iI 0), .int (iI ((len3 : Nat) : Int))]), (arr39, zB G mm39 f39)]) H14 → va_D (zA M0 H0) ([(q1, zOb 11 [.ref arr39, .int (iI 0), .int (iI 0), .int (iI ((len3 : Nat) : Int))]), (arr39, zB G mm39 f39)]) → va_S (zA M0 H0) H0 H14 locs → lv_has ls 3 [(2, .int (iI ((k : Nat) : Int))), (1, .ref q1), (0, .ref a)] → W pp l ee rm_m_X7_toStringN ss mm args below meth cd H14 locs (2 + gr3) (20 + 200 * gr3) Q (F0 mm 60 ls [.ref q1]) := by
                intro len3 arr39 mm39 gr3 f39 hs3 hlen3 H14 locs ls  hP hD hS hl
                refine lv_iload_n hx hb dX7_toString_60 rfl (lv_at hl 0 rfl) ?_
                have jd : ∀ (len4 : Nat) (arr49 : Nat) (mm49 : Nat) (gr4 : Nat) (f49 : Nat → Int), (sbI (((plL (txL v k) ++ dgL (v k).toNat) ++ [((101 : Nat) : Int)]) ++ dgL k) len4 mm49 gr4 f49) → (len4 ≤ 5 * k + 5) → ∀ (H15 : Heap) (locs : List Loc) (ls : Array Slot), va_P G.1 zCl ([(q1, zOb 11 [.ref arr49, .int (iI 0), .int (iI 0), .int (iI ((len4 : Nat) : Int))]), (arr49, zB G mm49 f49)]) H15 → va_D (zA M0 H0) ([(q1, zOb 11 [.ref arr49, .int (iI 0), .int (iI 0), .int (iI ((len4 : Nat) : Int))]), (arr49, zB G mm49 f49)]) → va_S (zA M0 H0) H0 H15 locs → lv_has ls 3 [(2, .int (iI ((k : Nat) : Int))), (1, .ref q1), (0, .ref a)] → W pp l ee rm_m_X7_toStringN ss mm args below meth cd H15 locs (2 + gr4) (20 + 200 * gr4) Q (F0 mm 64 ls [.ref q1]) := by
                  intro len4 arr49 mm49 gr4 f49 hs4 hlen4 H15 locs ls  hP hD hS hl
                  refine lv_pop hx hb dX7_toString_64 rfl ?_
                  refine z_iinc (z := ((k + 1 : Nat) : Int)) (lv' := [(2, .int (iI ((k + 1 : Nat) : Int))), (1, .ref q1), (0, .ref a)]) hx hb dX7_toString_65 hl (k := 0) rfl (by omega) (by decide) rfl (fun ls hl => ?_)
                  refine lv_goto (tgt := 10) hx hb dX7_toString_68 (by decide) ?_
                  exact W.widen (by omega) (by omega) (ihlp4 (n - (k + 1)) (by omega) (k + 1) len4 arr49 mm49 gr4 f49 rfl (by omega) (by rw [txL_s (by omega)]; exact hs4) (by omega) _ _ _  hP hD hS hl)
                have hsz := ssz_in (k)
                have hcap := hs3.2.2.2.2
                have hlm := hs3.2.2.2.1
                unfold capR at hcap
                rcases (show len3 + ssz (k) ≤ mm39 ∨ mm39 < len3 + ssz (k) from by omega) with hfit | hfit
                · refine z_go (2 + gr3) (20 + 200 * gr3) (z_runV (As := [.int (iI ((k : Nat) : Int))]) (rest := []) hC hml hl.1 (m_J24_appendi_a hE H14 (hO.ext0 (zS_F hS)) q1 arr39 len3 mm39 f39 (k) (sb_hb hO hD) (hP 0 _ rfl) (hP 1 _ rfl) (by omega) (by omega)) (lw_V q681 q682 q683 q98 q684) rfl nd_J24_append_2 rfl (z_rv hC (ci := 11) rfl (hP 0 _ rfl) rfl) rfl (Nat.le_of_ble_eq_true rfl) ⟨Nat.le_of_ble_eq_true rfl, Nat.le_of_ble_eq_true rfl⟩ ⟨zfit (k := 0) (z := 12) rfl rfl (by omega), zfit (k := 0) (z := 900) rfl rfl (by omega)⟩ dX7_toString_61) ⟨zad (k := 0) rfl (by omega), zad (k := 0) rfl (by omega)⟩ hS (fun q z => z.elim (fun y => by rw [y]; exact hD.2 0 _ rfl) (fun y => by rw [y]; exact hD.2 1 _ rfl)) (fun r H16 locs hp hF hS1 => ?_)
                  obtain ⟨y9, rfl, hy9, hm1, hm2⟩ := hp
                  obtain ⟨hP, hD⟩ := zjm2 hP hD hF 0 1 rfl rfl hm1 hm2
                  have hP : va_P G.1 zCl ([(q1, zOb 11 [.ref arr39, .int (iI 0), .int (iI 0), .int (iI ((len3 + ssz (k) : Nat) : Int))]), (arr39, zB G mm39 (gcV f39 (len3 + ssz (k)) (k)))]) H16 := hP
                  have hD : va_D (zA M0 H0) ([(q1, zOb 11 [.ref arr39, .int (iI 0), .int (iI 0), .int (iI ((len3 + ssz (k) : Nat) : Int))]), (arr39, zB G mm39 (gcV f39 (len3 + ssz (k)) (k)))]) := hD
                  have hS := hS1
                  have hy9 := hy9.symm
                  subst hy9
                  exact W.widen (by omega) (by omega) (jd (len3 + ssz (k)) arr39 mm39 gr3 (gcV f39 (len3 + ssz (k)) (k)) (hs3.num (by omega) (by omega)) (by omega) _ _ _  hP hD hS hl)
                · refine z_go ((2 + gr3) + 1) ((20 + 200 * gr3) + 200) (z_runV (As := [.int (iI ((k : Nat) : Int))]) (rest := []) hC hml hl.1 (m_J24_appendi_b hE H14 (hO.ext0 (zS_F hS)) q1 arr39 len3 mm39 f39 (k) ⟨(sb_hb hO hD).1.1, (sb_hb hO hD).2⟩ (hP 0 _ rfl) (hP 1 _ rfl) hs3.2.2.1 (by omega) (by omega)) (lw_V q681 q682 q683 q98 q684) rfl nd_J24_append_2 rfl (z_rv hC (ci := 11) rfl (hP 0 _ rfl) rfl) rfl (Nat.le_of_ble_eq_true rfl) ⟨Nat.le_of_ble_eq_true rfl, Nat.le_of_ble_eq_true rfl⟩ ⟨zfit (k := 1) (z := 12) rfl rfl (by omega), zfit (k := 200) (z := 900) rfl rfl (by omega)⟩ dX7_toString_61) ⟨zad (k := 1) rfl (by omega), zad (k := 200) rfl (by omega)⟩ hS (fun q z => by subst z; exact hD.2 0 _ rfl) (fun r H17 locs hp hF hS1 => ?_)
                  obtain ⟨y9, rfl, hy9, ab9, hm, hN⟩ := hp
                  obtain ⟨hP, hD⟩ := zjmn hP hD hS.1 hF 0 rfl hm hN
                  have hP : va_P G.1 zCl ([(q1, zOb 11 [.ref ab9, .int (iI 0), .int (iI 0), .int (iI ((len3 + ssz (k) : Nat) : Int))]), (arr39, zB G mm39 f39), (ab9, zB G (2 * mm39 + 2) (gcV (fun j => if j < mm39 then f39 j else 0) (len3 + ssz (k)) (k)))]) H17 := hP
                  have hD : va_D (zA M0 H0) ([(q1, zOb 11 [.ref ab9, .int (iI 0), .int (iI 0), .int (iI ((len3 + ssz (k) : Nat) : Int))]), (arr39, zB G mm39 f39), (ab9, zB G (2 * mm39 + 2) (gcV (fun j => if j < mm39 then f39 j else 0) (len3 + ssz (k)) (k)))]) := hD
                  have hS := hS1
                  have hy9 := hy9.symm
                  subst hy9
                  exact W.widen (by omega) (by omega) (jd (len3 + ssz (k)) ab9 (2 * mm39 + 2) (gr3 + 1) (gcV (fun j => if j < mm39 then f39 j else 0) (len3 + ssz (k)) (k)) ((hs3.grown (by omega)).num (by omega) (by omega)) (by omega) _ _ _  (hP.sub [0, 2] rfl) (hD.sub [0, 2] (by decide) rfl) hS hl)
              have hcap := hs2.2.2.2.2
              have hlm := hs2.2.2.2.1
              unfold capR at hcap
              rcases (show len2 + 1 ≤ mm29 ∨ mm29 < len2 + 1 from by omega) with hfit | hfit
              · refine z_go (2 + gr2) (20 + 200 * gr2) (z_runV (As := [.int (iI 101)]) (rest := []) hC hml hl.1 (m_J24_append_a hE H13 (hO.ext0 (zS_F hS)) q1 arr29 len2 mm29 f29 (101) (sb_hb hO hD) (hP 0 _ rfl) (hP 1 _ rfl) (by omega) (by omega)) (lw_V q588 q589 q590 q98 q591) rfl nd_J24_append rfl (z_rv hC (ci := 11) rfl (hP 0 _ rfl) rfl) rfl (Nat.le_of_ble_eq_true rfl) ⟨Nat.le_of_ble_eq_true rfl, Nat.le_of_ble_eq_true rfl⟩ ⟨zfit (k := 0) (z := 12) rfl rfl (by omega), zfit (k := 0) (z := 900) rfl rfl (by omega)⟩ dX7_toString_57) ⟨zad (k := 0) rfl (by omega), zad (k := 0) rfl (by omega)⟩ hS (fun q z => z.elim (fun y => by rw [y]; exact hD.2 0 _ rfl) (fun y => by rw [y]; exact hD.2 1 _ rfl)) (fun r H18 locs hp hF hS1 => ?_)
                obtain ⟨y9, rfl, hy9, hm1, hm2⟩ := hp
                obtain ⟨hP, hD⟩ := zjm2 hP hD hF 0 1 rfl rfl hm1 hm2
                have hP : va_P G.1 zCl ([(q1, zOb 11 [.ref arr29, .int (iI 0), .int (iI 0), .int (iI ((len2 + 1 : Nat) : Int))]), (arr29, zB G mm29 (va_up f29 len2 ((101 : Nat) : Int)))]) H18 := hP
                have hD : va_D (zA M0 H0) ([(q1, zOb 11 [.ref arr29, .int (iI 0), .int (iI 0), .int (iI ((len2 + 1 : Nat) : Int))]), (arr29, zB G mm29 (va_up f29 len2 ((101 : Nat) : Int)))]) := hD
                have hS := hS1
                have hy9 := hy9.symm
                subst hy9
                exact W.widen (by omega) (by omega) (jc (len2 + 1) arr29 mm29 gr2 (va_up f29 len2 ((101 : Nat) : Int)) (hs2.chr (by omega) (by omega)) (by omega) _ _ _  hP hD hS hl)
              · refine z_go ((2 + gr2) + 1) ((20 + 200 * gr2) + 200) (z_runV (As := [.int (iI 101)]) (rest := []) hC hml hl.1 (m_J24_append_b hE H13 (hO.ext0 (zS_F hS)) q1 arr29 len2 mm29 f29 (101) ⟨(sb_hb hO hD).1.1, (sb_hb hO hD).2⟩ (hP 0 _ rfl) (hP 1 _ rfl) hs2.2.2.1 (by omega) (by omega)) (lw_V q588 q589 q590 q98 q591) rfl nd_J24_append rfl (z_rv hC (ci := 11) rfl (hP 0 _ rfl) rfl) rfl (Nat.le_of_ble_eq_true rfl) ⟨Nat.le_of_ble_eq_true rfl, Nat.le_of_ble_eq_true rfl⟩ ⟨zfit (k := 1) (z := 12) rfl rfl (by omega), zfit (k := 200) (z := 900) rfl rfl (by omega)⟩ dX7_toString_57) ⟨zad (k := 1) rfl (by omega), zad (k := 200) rfl (by omega)⟩ hS (fun q z => by subst z; exact hD.2 0 _ rfl) (fun r H19 locs hp hF hS1 => ?_)
                obtain ⟨y9, rfl, hy9, ab9, hm, hN⟩ := hp
                obtain ⟨hP, hD⟩ := zjmn hP hD hS.1 hF 0 rfl hm hN
                have hP : va_P G.1 zCl ([(q1, zOb 11 [.ref ab9, .int (iI 0), .int (iI 0), .int (iI ((len2 + 1 : Nat) : Int))]), (arr29, zB G mm29 f29), (ab9, zB G (2 * mm29 + 2) (va_up (fun j => if j < mm29 then f29 j else 0) len2 ((101 : Nat) : Int)))]) H19 := hP
                have hD : va_D (zA M0 H0) ([(q1, zOb 11 [.ref ab9, .int (iI 0), .int (iI 0), .int (iI ((len2 + 1 : Nat) : Int))]), (arr29, zB G mm29 f29), (ab9, zB G (2 * mm29 + 2) (va_up (fun j => if j < mm29 then f29 j else 0) len2 ((101 : Nat) : Int)))]) := hD
                have hS := hS1
                have hy9 := hy9.symm
                subst hy9
                exact W.widen (by omega) (by omega) (jc (len2 + 1) ab9 (2 * mm29 + 2) (gr2 + 1) (va_up (fun j => if j < mm29 then f29 j else 0) len2 ((101 : Nat) : Int)) ((hs2.grown (by omega)).chr (by omega) (by omega)) (by omega) _ _ _  (hP.sub [0, 2] rfl) (hD.sub [0, 2] (by decide) rfl) hS hl)
            have hsz := ssz_in ((v k).toNat)
            have hcap := hs1.2.2.2.2
            have hlm := hs1.2.2.2.1
            unfold capR at hcap
            rcases (show len1 + ssz ((v k).toNat) ≤ mm19 ∨ mm19 < len1 + ssz ((v k).toNat) from by omega) with hfit | hfit
            · refine z_go (2 + gr1) (20 + 200 * gr1) (z_runV (As := [.int (iI (((v k).toNat : Nat) : Int))]) (rest := []) hC hml hl.1 (m_J24_appendi_a hE H12 (hO.ext0 (zS_F hS)) q1 arr19 len1 mm19 f19 ((v k).toNat) (sb_hb hO hD) (hP 0 _ rfl) (hP 1 _ rfl) (by omega) (by omega)) (lw_V q681 q682 q683 q98 q684) rfl nd_J24_append_2 rfl (z_rv hC (ci := 11) rfl (hP 0 _ rfl) rfl) rfl (Nat.le_of_ble_eq_true rfl) ⟨Nat.le_of_ble_eq_true rfl, Nat.le_of_ble_eq_true rfl⟩ ⟨zfit (k := 0) (z := 12) rfl rfl (by omega), zfit (k := 0) (z := 900) rfl rfl (by omega)⟩ dX7_toString_52) ⟨zad (k := 0) rfl (by omega), zad (k := 0) rfl (by omega)⟩ hS (fun q z => z.elim (fun y => by rw [y]; exact hD.2 0 _ rfl) (fun y => by rw [y]; exact hD.2 1 _ rfl)) (fun r H20 locs hp hF hS1 => ?_)
              obtain ⟨y9, rfl, hy9, hm1, hm2⟩ := hp
              obtain ⟨hP, hD⟩ := zjm2 hP hD hF 0 1 rfl rfl hm1 hm2
              have hP : va_P G.1 zCl ([(q1, zOb 11 [.ref arr19, .int (iI 0), .int (iI 0), .int (iI ((len1 + ssz ((v k).toNat) : Nat) : Int))]), (arr19, zB G mm19 (gcV f19 (len1 + ssz ((v k).toNat)) ((v k).toNat)))]) H20 := hP
              have hD : va_D (zA M0 H0) ([(q1, zOb 11 [.ref arr19, .int (iI 0), .int (iI 0), .int (iI ((len1 + ssz ((v k).toNat) : Nat) : Int))]), (arr19, zB G mm19 (gcV f19 (len1 + ssz ((v k).toNat)) ((v k).toNat)))]) := hD
              have hS := hS1
              have hy9 := hy9.symm
              subst hy9
              exact W.widen (by omega) (by omega) (jb (len1 + ssz ((v k).toNat)) arr19 mm19 gr1 (gcV f19 (len1 + ssz ((v k).toNat)) ((v k).toNat)) (hs1.num (by omega) (by omega)) (by omega) _ _ _  hP hD hS hl)
            · refine z_go ((2 + gr1) + 1) ((20 + 200 * gr1) + 200) (z_runV (As := [.int (iI (((v k).toNat : Nat) : Int))]) (rest := []) hC hml hl.1 (m_J24_appendi_b hE H12 (hO.ext0 (zS_F hS)) q1 arr19 len1 mm19 f19 ((v k).toNat) ⟨(sb_hb hO hD).1.1, (sb_hb hO hD).2⟩ (hP 0 _ rfl) (hP 1 _ rfl) hs1.2.2.1 (by omega) (by omega)) (lw_V q681 q682 q683 q98 q684) rfl nd_J24_append_2 rfl (z_rv hC (ci := 11) rfl (hP 0 _ rfl) rfl) rfl (Nat.le_of_ble_eq_true rfl) ⟨Nat.le_of_ble_eq_true rfl, Nat.le_of_ble_eq_true rfl⟩ ⟨zfit (k := 1) (z := 12) rfl rfl (by omega), zfit (k := 200) (z := 900) rfl rfl (by omega)⟩ dX7_toString_52) ⟨zad (k := 1) rfl (by omega), zad (k := 200) rfl (by omega)⟩ hS (fun q z => by subst z; exact hD.2 0 _ rfl) (fun r H21 locs hp hF hS1 => ?_)
              obtain ⟨y9, rfl, hy9, ab9, hm, hN⟩ := hp
              obtain ⟨hP, hD⟩ := zjmn hP hD hS.1 hF 0 rfl hm hN
              have hP : va_P G.1 zCl ([(q1, zOb 11 [.ref ab9, .int (iI 0), .int (iI 0), .int (iI ((len1 + ssz ((v k).toNat) : Nat) : Int))]), (arr19, zB G mm19 f19), (ab9, zB G (2 * mm19 + 2) (gcV (fun j => if j < mm19 then f19 j else 0) (len1 + ssz ((v k).toNat)) ((v k).toNat)))]) H21 := hP
              have hD : va_D (zA M0 H0) ([(q1, zOb 11 [.ref ab9, .int (iI 0), .int (iI 0), .int (iI ((len1 + ssz ((v k).toNat) : Nat) : Int))]), (arr19, zB G mm19 f19), (ab9, zB G (2 * mm19 + 2) (gcV (fun j => if j < mm19 then f19 j else 0) (len1 + ssz ((v k).toNat)) ((v k).toNat)))]) := hD
              have hS := hS1
              have hy9 := hy9.symm
              subst hy9
              exact W.widen (by omega) (by omega) (jb (len1 + ssz ((v k).toNat)) ab9 (2 * mm19 + 2) (gr1 + 1) (gcV (fun j => if j < mm19 then f19 j else 0) (len1 + ssz ((v k).toNat)) ((v k).toNat)) ((hs1.grown (by omega)).num (by omega) (by omega)) (by omega) _ _ _  (hP.sub [0, 2] rfl) (hD.sub [0, 2] (by decide) rfl) hS hl)
          refine z_zle (tgt := 45) hx hb dX7_toString_35 (by decide) (by omega) (fun c22 => ?_) (fun c22 => ?_)
          · exact W.widen (by omega) (by omega) (ja len0 arr09 mm09 gr0 f09 (hs0.pl0 (by omega)) (by omega) _ _ _  hP hD hS hl)
          · have hne : txL v k ≠ [] := hs0.ne (by omega)
            refine lv_aload_n hx hb dX7_toString_38 rfl (lv_at hl 1 rfl) ?_
            refine lv_bipush (v := iI 43) hx hb dX7_toString_39 (by decide) ?_
            have jz : ∀ (len5 : Nat) (arr59 : Nat) (mm59 : Nat) (gr5 : Nat) (f59 : Nat → Int), (sbI (txL v k ++ [((43 : Nat) : Int)]) len5 mm59 gr5 f59) → (len5 ≤ 5 * k + 1) → ∀ (H23 : Heap) (locs : List Loc) (ls : Array Slot), va_P G.1 zCl ([(q1, zOb 11 [.ref arr59, .int (iI 0), .int (iI 0), .int (iI ((len5 : Nat) : Int))]), (arr59, zB G mm59 f59)]) H23 → va_D (zA M0 H0) ([(q1, zOb 11 [.ref arr59, .int (iI 0), .int (iI 0), .int (iI ((len5 : Nat) : Int))]), (arr59, zB G mm59 f59)]) → va_S (zA M0 H0) H0 H23 locs → lv_has ls 3 [(2, .int (iI ((k : Nat) : Int))), (1, .ref q1), (0, .ref a)] → W pp l ee rm_m_X7_toStringN ss mm args below meth cd H23 locs (2 + gr5) (20 + 200 * gr5) Q (F0 mm 44 ls [.ref q1]) := by
              intro len5 arr59 mm59 gr5 f59 hs5 hlen5 H23 locs ls  hP hD hS hl
              refine lv_pop hx hb dX7_toString_44 rfl ?_
              exact W.widen (by omega) (by omega) (ja len5 arr59 mm59 gr5 f59 (hs5.pl1 hne) (by omega) _ _ _  hP hD hS hl)
            have hcap := hs0.2.2.2.2
            have hlm := hs0.2.2.2.1
            unfold capR at hcap
            rcases (show len0 + 1 ≤ mm09 ∨ mm09 < len0 + 1 from by omega) with hfit | hfit
            · refine z_go (2 + gr0) (20 + 200 * gr0) (z_runV (As := [.int (iI 43)]) (rest := []) hC hml hl.1 (m_J24_append_a hE H11 (hO.ext0 (zS_F hS)) q1 arr09 len0 mm09 f09 (43) (sb_hb hO hD) (hP 0 _ rfl) (hP 1 _ rfl) (by omega) (by omega)) (lw_V q588 q589 q590 q98 q591) rfl nd_J24_append rfl (z_rv hC (ci := 11) rfl (hP 0 _ rfl) rfl) rfl (Nat.le_of_ble_eq_true rfl) ⟨Nat.le_of_ble_eq_true rfl, Nat.le_of_ble_eq_true rfl⟩ ⟨zfit (k := 0) (z := 12) rfl rfl (by omega), zfit (k := 0) (z := 900) rfl rfl (by omega)⟩ dX7_toString_41) ⟨zad (k := 0) rfl (by omega), zad (k := 0) rfl (by omega)⟩ hS (fun q z => z.elim (fun y => by rw [y]; exact hD.2 0 _ rfl) (fun y => by rw [y]; exact hD.2 1 _ rfl)) (fun r H24 locs hp hF hS1 => ?_)
              obtain ⟨y9, rfl, hy9, hm1, hm2⟩ := hp
              obtain ⟨hP, hD⟩ := zjm2 hP hD hF 0 1 rfl rfl hm1 hm2
              have hP : va_P G.1 zCl ([(q1, zOb 11 [.ref arr09, .int (iI 0), .int (iI 0), .int (iI ((len0 + 1 : Nat) : Int))]), (arr09, zB G mm09 (va_up f09 len0 ((43 : Nat) : Int)))]) H24 := hP
              have hD : va_D (zA M0 H0) ([(q1, zOb 11 [.ref arr09, .int (iI 0), .int (iI 0), .int (iI ((len0 + 1 : Nat) : Int))]), (arr09, zB G mm09 (va_up f09 len0 ((43 : Nat) : Int)))]) := hD
              have hS := hS1
              have hy9 := hy9.symm
              subst hy9
              exact W.widen (by omega) (by omega) (jz (len0 + 1) arr09 mm09 gr0 (va_up f09 len0 ((43 : Nat) : Int)) (hs0.chr (by omega) (by omega)) (by omega) _ _ _  hP hD hS hl)
            · refine z_go ((2 + gr0) + 1) ((20 + 200 * gr0) + 200) (z_runV (As := [.int (iI 43)]) (rest := []) hC hml hl.1 (m_J24_append_b hE H11 (hO.ext0 (zS_F hS)) q1 arr09 len0 mm09 f09 (43) ⟨(sb_hb hO hD).1.1, (sb_hb hO hD).2⟩ (hP 0 _ rfl) (hP 1 _ rfl) hs0.2.2.1 (by omega) (by omega)) (lw_V q588 q589 q590 q98 q591) rfl nd_J24_append rfl (z_rv hC (ci := 11) rfl (hP 0 _ rfl) rfl) rfl (Nat.le_of_ble_eq_true rfl) ⟨Nat.le_of_ble_eq_true rfl, Nat.le_of_ble_eq_true rfl⟩ ⟨zfit (k := 1) (z := 12) rfl rfl (by omega), zfit (k := 200) (z := 900) rfl rfl (by omega)⟩ dX7_toString_41) ⟨zad (k := 1) rfl (by omega), zad (k := 200) rfl (by omega)⟩ hS (fun q z => by subst z; exact hD.2 0 _ rfl) (fun r H25 locs hp hF hS1 => ?_)
              obtain ⟨y9, rfl, hy9, ab9, hm, hN⟩ := hp
              obtain ⟨hP, hD⟩ := zjmn hP hD hS.1 hF 0 rfl hm hN
              have hP : va_P G.1 zCl ([(q1, zOb 11 [.ref ab9, .int (iI 0), .int (iI 0), .int (iI ((len0 + 1 : Nat) : Int))]), (arr09, zB G mm09 f09), (ab9, zB G (2 * mm09 + 2) (va_up (fun j => if j < mm09 then f09 j else 0) len0 ((43 : Nat) : Int)))]) H25 := hP
              have hD : va_D (zA M0 H0) ([(q1, zOb 11 [.ref ab9, .int (iI 0), .int (iI 0), .int (iI ((len0 + 1 : Nat) : Int))]), (arr09, zB G mm09 f09), (ab9, zB G (2 * mm09 + 2) (va_up (fun j => if j < mm09 then f09 j else 0) len0 ((43 : Nat) : Int)))]) := hD
              have hS := hS1
              have hy9 := hy9.symm
              subst hy9
              exact W.widen (by omega) (by omega) (jz (len0 + 1) ab9 (2 * mm09 + 2) (gr0 + 1) (va_up (fun j => if j < mm09 then f09 j else 0) len0 ((43 : Nat) : Int)) ((hs0.grown (by omega)).chr (by omega) (by omega)) (by omega) _ _ _  (hP.sub [0, 2] rfl) (hD.sub [0, 2] (by decide) rfl) hS hl)
        · refine lv_goto (tgt := 65) hx hb dX7_toString_28 (by decide) ?_
          refine z_iinc (z := ((k + 1 : Nat) : Int)) (lv' := [(2, .int (iI ((k + 1 : Nat) : Int))), (1, .ref q1), (0, .ref a)]) hx hb dX7_toString_65 hl (k := 0) rfl (by omega) (by decide) rfl (fun ls hl => ?_)
          refine lv_goto (tgt := 10) hx hb dX7_toString_68 (by decide) ?_
          exact W.widen (by omega) (by omega) (ihlp4 (n - (k + 1)) (by omega) (k + 1) len0 arr09 mm09 gr0 f09 rfl (by omega) (by simp only [txL]; rw [if_pos (by omega)]; exact hs0) (by omega) _ _ _  hP hD hS hl)
  exact W.widen (by omega) (by omega) (lp4 _ 0 0 arr0 16 0 (fun _ => 0) rfl (Nat.zero_le _) (⟨rfl, fun j hj => absurd hj (Nat.not_lt_zero j), fun j _ => by show 0 ≤ (0 : Int) ∧ (0 : Int) < 128; decide, by omega, Or.inl ⟨rfl, rfl⟩⟩) (by omega) _ _ _  hP hD hS hl)

abbrev rm_m_X1_textN : Room := { frames := 8, cells := 13, slots := 906, locals := 193 }
set_option maxHeartbeats 4000000 in
theorem m_X1_textN {l : Launch} {s0 : State} {G : zG} (hE : zE l s0 G) (H0 : Heap) (hO : zO s0 H0) (ρ : Ro → Nat) (σ : St) (i : Int) (hh : HC G s0 ρ σ H0) (hi : zi i) : zMX l s0 yX1_text cX1_text 2 (some (FieldType.object "java/lang/String")) rm_m_X1_textN [.ref (ρ (0, 0, 0)), .int (iI i)] H0 M0 (rr (fun q h1 => ∃ a : Nat, (i = a ∧ a < St_ne σ) ∧ zStrN G H0 q (txF (St_n σ (St_ea σ a)) (St_ev σ a)) h1)) (fun E _ => E = IOB ∧ ¬ inE σ i) := by
  refine z_metX hE (by decide +kernel) (Nat.le_of_ble_eq_true rfl) ?_
  intro pp ee ss mm args below meth cd Q ls hC hml hrt hlk hnm hH hQ hno hX hS hl
  have hx := hC.x
  have hb := hC.b
  have hl : lv_has ls 2 [(0, .ref (ρ (0, 0, 0))), (1, .int (iI i))] := hl
  have hP : va_P G.1 zCl [] H0 := va_nil
  have hD : va_D (zA M0 H0) [] := va_nilD
  have hH1 := hh
  obtain ⟨hp, hna, hal, hne9, hel9, hmr9⟩ := id hh.ok
  have hp7 : 0 < St_p σ ∧ St_p σ ≤ 7 := by rcases hp with h | h | h <;> rw [h] <;> decide
  obtain ⟨sm9, -⟩ := id hh.2.2.1.1
  refine lv_aload_n hx hb dX1_text_0 rfl (lv_at hl 0 rfl) ?_
  refine lv_iload_n hx hb dX1_text_1 rfl (lv_at hl 1 rfl) ?_
  obtain ⟨sm, hxx⟩ := id hH1.2.2.1.1
  refine z_goX 1 6 (z_runVx (As := [.int (iI i)]) (rest := []) hC hml hl.1 (m_X1_elementAt hE H0 (hO.ext0 (zS_F hS)) ρ σ i hH1 hi) (lw_V q1139 q1141 qs25 q62 q1142) rfl nd_X1_elementAt rfl (z_rv hC (ci := 0) rfl hxx rfl) rfl (Nat.le_of_ble_eq_true rfl) ⟨Nat.le_of_ble_eq_true rfl, Nat.le_of_ble_eq_true rfl⟩ ⟨zfit (k := 1) (z := 13) rfl rfl (by omega), zfit (k := 6) (z := 906) rfl rfl (by omega)⟩ dX1_text_2) ⟨zad (k := 1) rfl (by omega), zad (k := 6) rfl (by omega)⟩ hS (fun _ z => z.elim) (fun E ce q9 Hx1 locs hp hF hS1 hce hcv hcl => ?_) (fun r H2 locs hp hF hS1 => ?_)
  · exact z_out hno hlk hX hS1 ⟨zle (z := 13) rfl (by omega), zle (z := 906) rfl (by omega)⟩ hce hcv hcl (⟨hp.1, hp.2⟩)
  obtain ⟨_, rfl, a, ea9, ha9, rfl⟩ := hp
  have hP := zpk hP hF
  have hP : va_P G.1 zCl ([]) H2 := hP
  have hD : va_D (zA M0 H0) ([]) := hD
  have hH1 : HC G s0 ρ σ H2 := hH1.ext0 hE hF
  have hS := hS1
  have hva := hH1.row (j := a) (by omega)
  have hEa := hH1.el (j := a) (by omega)
  have heaa := hH1.ea (j := a) (by omega)
  obtain ⟨hn16a, -⟩ := (hH1.ag heaa).n
  have hsz9 : H0.size ≤ H2.size := hS.1
  refine z_go 13 906 (z_runV (As := []) (rest := []) hC hml hl.1 (m_X7_toStringN hE H2 (hO.ext0 (zS_F hS)) (ρ (0, 0, 0)) (ρ (6, St_ea σ a, 0)) (St_p σ) (St_d σ (St_ea σ a)) (St_n σ (St_ea σ a)) (St_kd σ (St_ea σ a)) (St_dv σ (St_ea σ a)) (St_sg σ (St_ea σ a)) (ρ (13, a, 0)) (ρ (14, a, 0)) (St_ev σ a)  (hH1.ag (hH1.ea (j := a) (by omega))) (hH1.el (j := a) (by omega)) hva ) (lw_V q545 q546 q547 q92 q548) rfl nd_X7_toString rfl (z_rv hC (ci := 6) rfl hEa.1 rfl) rfl (Nat.le_of_ble_eq_true rfl) ⟨Nat.le_of_ble_eq_true rfl, Nat.le_of_ble_eq_true rfl⟩ ⟨zfit (k := 12) (z := 13) rfl rfl (by omega), zfit (k := 900) (z := 906) rfl rfl (by omega)⟩ dX1_text_5) ⟨zad (k := 12) rfl (by omega), zad (k := 900) rfl (by omega)⟩ hS (fun _ z => z.elim) (fun r H3 locs hp hF hS1 => ?_)
  obtain ⟨qs, rfl, hst⟩ := hp
  have hP := zpk hP hF
  have hP : va_P G.1 zCl ([]) H3 := hP
  have hD : va_D (zA M0 H0) ([]) := hD
  have hH1 : HC G s0 ρ σ H3 := hH1.ext0 hE hF
  have hS := hS1
  exact z_aret hC hrt hlk hQ hS ⟨zle (z := 13) rfl (by omega), zle (z := 906) rfl (by omega)⟩ ⟨_, rfl, a, ⟨by omega, by omega⟩, hst.imp (fun ⟨hn, b, h⟩ => ⟨hn, b, h.1, va_D.weaken h.2 (fun _ _ _ z => Nat.le_trans hsz9 z)⟩) id⟩ dX1_text_8

abbrev rm_m_X3_textNowN : Room := { frames := 6, cells := 12, slots := 900, locals := 171 }
set_option maxHeartbeats 4000000 in
theorem m_X3_textNowN {l : Launch} {s0 : State} {G : zG} (hE : zE l s0 G) (H0 : Heap) (hO : zO s0 H0) (μ : Ro → Nat) (σ : St) (th : Int) (j : Nat) (hh : HM G s0 μ σ th H0) (hj : j < St_ne σ) : zM l s0 yX3_textNow cX3_textNow 4 (some (FieldType.object "java/lang/String")) rm_m_X3_textNowN [.ref (μ (0, 0, 0)), .int (iI ((j : Nat) : Int))] H0 M0 (rr (fun y h1 => zStrN G H0 y (txF (St_n σ (St_ea σ j)) (St_ev σ j)) h1)) := by
  refine z_met hE (by decide +kernel) (Nat.le_of_ble_eq_true rfl) ?_
  intro pp ee ss mm args below meth cd Q ls hC hml hrt hlk hnm hH hQ hS hl
  have hx := hC.x
  have hb := hC.b
  have hl : lv_has ls 4 [(0, .ref (μ (0, 0, 0))), (1, .int (iI ((j : Nat) : Int)))] := hl
  have hP : va_P G.1 zCl [] H0 := va_nil
  have hD : va_D (zA M0 H0) [] := va_nilD
  have hH1 := hh
  obtain ⟨hp, hna, hal, hne9, hel9, hmr9⟩ := id hh.ok
  have hp7 : 0 < St_p σ ∧ St_p σ ≤ 7 := by rcases hp with h | h | h <;> rw [h] <;> decide
  have heaj := hh.ea hj
  have hnn := hh.n heaj
  have hv0 := hh.row hj
  obtain ⟨v, hvv⟩ : ∃ v, v = St_ev σ j := ⟨_, rfl⟩
  obtain ⟨n, hne0⟩ : ∃ n, n = St_n σ (St_ea σ j) := ⟨_, rfl⟩
  have hn16 : 1 ≤ n ∧ n ≤ 16 := by rw [hne0]; exact hnn
  have hv : rw_ok (St_p σ) n v := by rw [hne0, hvv]; exact hv0
  rw [← hvv, ← hne0] at hQ
  refine z_new hC hP hD hS (c1 := 1) (s1 := 4) (fs := [.null, .int (iI 0), .int (iI 0), .int (iI 0)]) (ci := 11) rfl in_J24 tyJ24_ok q1835 q550 q98 df_J24 ⟨zle (z := 12) rfl (by omega), zle (z := 900) rfl (by omega)⟩ ⟨by omega, by omega⟩ (ws' := fun q1 => [(q1, zOb 11 [.null, .int (iI 0), .int (iI 0), .int (iI 0)])]) (fun _ => rfl) dX3_textNow_0 (fun q1 H2 hq0q1 hq1q1 hP hD hS hF => ?_)
  refine lv_dup hx hb dX3_textNow_3 rfl ?_
  refine z_go 2 20 (z_runI (As := []) (rest := [.ref q1]) hC hml hl.1 (m_J24_init hE H2 (hO.ext0 (zS_F hS)) q1 (Nat.le_trans hO.1 hq0q1) (hP 0 _ rfl)) q553 q98 q1836 q552 rfl nd_J24_init rfl rfl (Nat.le_of_ble_eq_true rfl) ⟨Nat.le_of_ble_eq_true rfl, Nat.le_of_ble_eq_true rfl⟩ ⟨zfit (k := 1) (z := 12) rfl rfl (by omega), zfit (k := 16) (z := 900) rfl rfl (by omega)⟩ dX3_textNow_4) ⟨zad (k := 1) rfl (by omega), zad (k := 16) rfl (by omega)⟩ hS (fun q z => by subst z; exact hD.2 0 _ rfl) (fun r H3 locs hp hF hS1 => ?_)
  obtain ⟨rfl, arr0, hm, hN⟩ := hp
  obtain ⟨hP, hD⟩ := zjmn hP hD hS.1 hF 0 rfl hm hN
  have hP : va_P G.1 zCl ([(q1, zOb 11 [.ref arr0, .int (iI 0), .int (iI 0), .int (iI 0)]), (arr0, zB G 16 (fun _ => 0))]) H3 := hP
  have hD : va_D (zA M0 H0) ([(q1, zOb 11 [.ref arr0, .int (iI 0), .int (iI 0), .int (iI 0)]), (arr0, zB G 16 (fun _ => 0))]) := hD
  have hS := hS1
  refine lv_astore_n (lv' := [(2, .ref q1), (0, .ref (μ (0, 0, 0))), (1, .int (iI ((j : Nat) : Int)))]) hx hb dX3_textNow_7 rfl hl (by decide) rfl (fun ls hl => ?_)
  refine lv_iconst (v := iI 0) hx hb dX3_textNow_8 rfl ?_
  refine lv_istore_n (lv' := [(3, .int (iI 0)), (2, .ref q1), (0, .ref (μ (0, 0, 0))), (1, .int (iI ((j : Nat) : Int)))]) hx hb dX3_textNow_9 rfl hl (by decide) rfl (fun ls hl => ?_)
  have lp4 : ∀ (dlp4 : Nat) (k : Nat) (len0 : Nat) (arr09 : Nat) (mm09 : Nat) (gr0 : Nat) (f09 : Nat → Int), n - k = dlp4 → (k ≤ n) → (sbI (txL v k) len0 mm09 gr0 f09) → (len0 ≤ 5 * k) → ∀ (H5 : Heap) (locs : List Loc) (ls : Array Slot), va_P G.1 zCl ([(q1, zOb 11 [.ref arr09, .int (iI 0), .int (iI 0), .int (iI ((len0 : Nat) : Int))]), (arr09, zB G mm09 f09)]) H5 → va_D (zA M0 H0) ([(q1, zOb 11 [.ref arr09, .int (iI 0), .int (iI 0), .int (iI ((len0 : Nat) : Int))]), (arr09, zB G mm09 f09)]) → va_S (zA M0 H0) H0 H5 locs → lv_has ls 4 [(3, .int (iI ((k : Nat) : Int))), (2, .ref q1), (0, .ref (μ (0, 0, 0))), (1, .int (iI ((j : Nat) : Int)))] → W pp l ee rm_m_X3_textNowN ss mm args below meth cd H5 locs (2 + gr0) (20 + 200 * gr0) Q (F0 mm 10 ls []) := by
    intro dlp4
    induction dlp4 using Nat.strongRecOn with
    | ind dlp4 ihlp4 =>
      intro k len0 arr09 mm09 gr0 f09 hdlp4 hk hs0 hlen0 H5 locs ls  hP hD hS hl
      have hcap := hs0.2.2.2.2
      unfold capR at hcap
      have hlm := hs0.2.2.2.1
      refine lv_iload_n hx hb dX3_textNow_10 rfl (lv_at hl 0 rfl) ?_
      refine lv_aload_n hx hb dX3_textNow_11 rfl (lv_at hl 2 rfl) ?_
      refine lv_iload_n hx hb dX3_textNow_12 rfl (lv_at hl 3 rfl) ?_
      have hH1 : HM G s0 μ σ th H5 := hh.ext0 hE (zS_F hS)
      refine z_go (2 + gr0) (20 + 200 * gr0) (z_runV (As := [.int (iI ((j : Nat) : Int))]) (rest := [.int (iI ((k : Nat) : Int))]) hC hml hl.1 (m_X3_row hE H5 (hO.ext0 (zS_F hS)) μ σ th j hH1 hj) (lw_V q1654 q1656 qs36 q67 q1657) rfl nd_X3_row rfl (z_rv hC (ci := 2) rfl hH1.2.2.1.1 rfl) rfl (Nat.le_of_ble_eq_true rfl) ⟨Nat.le_of_ble_eq_true rfl, Nat.le_of_ble_eq_true rfl⟩ ⟨zfit (k := 0) (z := 12) rfl rfl (by omega), zfit (k := 0) (z := 900) rfl rfl (by omega)⟩ dX3_textNow_13) ⟨zad (k := 0) rfl (by omega), zad (k := 0) rfl (by omega)⟩ hS (fun _ z => z.elim) (fun r H6 locs hp hF hS1 => ?_)
      obtain ⟨_, rfl, rfl⟩ := hp
      have hP := zpk hP hF
      have hP : va_P G.1 zCl ([(q1, zOb 11 [.ref arr09, .int (iI 0), .int (iI 0), .int (iI ((len0 : Nat) : Int))]), (arr09, zB G mm09 f09)]) H6 := hP
      have hD : va_D (zA M0 H0) ([(q1, zOb 11 [.ref arr09, .int (iI 0), .int (iI 0), .int (iI ((len0 : Nat) : Int))]), (arr09, zB G mm09 f09)]) := hD
      have hS := hS1
      have hH1 : HM G s0 μ σ th H6 := hh.ext0 hE (zS_F hS)
      have hRj := (hH1.el (j := j) hj).2
      rw [← hvv, ← hne0] at hRj
      refine z_alen hC 0 hRj rfl (y := ((n : Nat) : Int)) rfl dX3_textNow_16 ?_
      refine z_cge (tgt := 74) hx hb dX3_textNow_17 (by decide) (by omega) (fun c7 => ?_) (fun c7 => ?_)
      · have ek : k = n := by omega
        rw [ek] at hs0
        have hcap := hs0.2.2.2.2
        unfold capR at hcap
        have hlm := hs0.2.2.2.1
        refine lv_aload_n hx hb dX3_textNow_74 rfl (lv_at hl 1 rfl) ?_
        refine z_go (2 + gr0) (20 + 200 * gr0) (z_runV (As := []) (rest := []) hC hml hl.1 (m_J24_length hE H6 (hO.ext0 (zS_F hS)) q1 arr09 len0 (hP 0 _ rfl)) (lw_V q1837 q582 q583 q98 q584) rfl nd_J24_length rfl (z_rv hC (ci := 11) rfl (hP 0 _ rfl) rfl) rfl (Nat.le_of_ble_eq_true rfl) ⟨Nat.le_of_ble_eq_true rfl, Nat.le_of_ble_eq_true rfl⟩ ⟨zfit (k := 0) (z := 12) rfl rfl (by omega), zfit (k := 0) (z := 900) rfl rfl (by omega)⟩ dX3_textNow_75) ⟨zad (k := 0) rfl (by omega), zad (k := 0) rfl (by omega)⟩ hS (fun _ z => z.elim) (fun r H8 locs hp hF hS1 => ?_)
        obtain ⟨_, rfl, rfl⟩ := hp
        have hP := zpk hP hF
        have hP : va_P G.1 zCl ([(q1, zOb 11 [.ref arr09, .int (iI 0), .int (iI 0), .int (iI ((len0 : Nat) : Int))]), (arr09, zB G mm09 f09)]) H8 := hP
        have hD : va_D (zA M0 H0) ([(q1, zOb 11 [.ref arr09, .int (iI 0), .int (iI 0), .int (iI ((len0 : Nat) : Int))]), (arr09, zB G mm09 f09)]) := hD
        have hS := hS1
        refine z_zne (tgt := 86) hx hb dX3_textNow_78 (by decide) (by omega) (fun c9 => ?_) (fun c9 => ?_)
        · refine lv_aload_n hx hb dX3_textNow_86 rfl (lv_at hl 1 rfl) ?_
          refine z_go ((2 + gr0) + 2) ((20 + 200 * gr0) + 104) (z_runV (As := []) (rest := []) hC hml hl.1 (m_J24_toString hE H8 (hO.ext0 (zS_F hS)) q1 arr09 len0 mm09 f09 (hP 0 _ rfl) (hP 1 _ rfl) ⟨by omega, by omega, by omega⟩ (fun j hj => hs0.2.2.1 j (by omega))) (lw_V q1841 q717 q718 q98 q719) rfl nd_J24_toString rfl (z_rv hC (ci := 11) rfl (hP 0 _ rfl) rfl) rfl (Nat.le_of_ble_eq_true rfl) ⟨Nat.le_of_ble_eq_true rfl, Nat.le_of_ble_eq_true rfl⟩ ⟨zfit (k := 2) (z := 12) rfl rfl (by omega), zfit (k := 104) (z := 900) rfl rfl (by omega)⟩ dX3_textNow_87) ⟨zad (k := 2) rfl (by omega), zad (k := 104) rfl (by omega)⟩ hS (fun _ z => z.elim) (fun r H10 locs hp hF hS1 => ?_)
          obtain ⟨qs9, rfl, b9, f1, hf1, hN⟩ := hp
          obtain ⟨hP, hD⟩ := zjn hP hD hS.1 hF hN
          have hP : va_P G.1 zCl ([(q1, zOb 11 [.ref arr09, .int (iI 0), .int (iI 0), .int (iI ((len0 : Nat) : Int))]), (arr09, zB G mm09 f09), (qs9, zOb 12 [.ref b9, .int (iI 0), .int (iI 0), .int (iI 0)]), (b9, zB G len0 f1)]) H10 := hP
          have hD : va_D (zA M0 H0) ([(q1, zOb 11 [.ref arr09, .int (iI 0), .int (iI 0), .int (iI ((len0 : Nat) : Int))]), (arr09, zB G mm09 f09), (qs9, zOb 12 [.ref b9, .int (iI 0), .int (iI 0), .int (iI 0)]), (b9, zB G len0 f1)]) := hD
          have hS := hS1
          have hne : txL v n ≠ [] := fun e => by have := hs0.1; rw [e] at this; simp at this; omega
          have etx : txF n v = txL v n := by unfold txF; rw [if_neg hne]
          have hP : va_P G.1 zCl [(q1, zOb 11 [.ref arr09, .int (iI 0), .int (iI 0), .int (iI ((len0 : Nat) : Int))]), (arr09, zB G mm09 f09), (qs9, zOb 12 [.ref b9, .int (iI 0), .int (iI 0), .int (iI 0)]), (b9, zB G ((txF n v).length) (fun j => (txF n v).getD j 0))] H10 := by rw [etx, ← hs0.1]; exact zcB hP 3 rfl (fun j hj => by rw [hf1 j hj]; exact hs0.2.1 j hj)
          have hD : va_D (zA M0 H0) [(q1, zOb 11 [.ref arr09, .int (iI 0), .int (iI 0), .int (iI ((len0 : Nat) : Int))]), (arr09, zB G mm09 f09), (qs9, zOb 12 [.ref b9, .int (iI 0), .int (iI 0), .int (iI 0)]), (b9, zB G ((txF n v).length) (fun j => (txF n v).getD j 0))] := by rw [etx, ← hs0.1]; exact hD.set (p := 3) rfl
          exact z_aret hC hrt hlk hQ hS ⟨zle (z := 12) rfl (by omega), zle (z := 900) rfl (by omega)⟩ ⟨_, rfl, Or.inl ⟨by rw [etx]; exact txL_48 v n, _, hP.sub [2, 3] rfl, zdn (hD.sub [2, 3] (by decide) rfl)⟩⟩ dX3_textNow_90
        · have he : txL v n = [] := List.length_eq_zero_iff.mp (by have := hs0.1; omega)
          refine z_lds hC hE.2.2.2.1.2.2.2.2.2.2.1.2.1 dX3_textNow_81 ?_
          refine lv_goto (tgt := 90) hx hb dX3_textNow_83 (by decide) ?_
          exact z_aret hC hrt hlk hQ hS ⟨zle (z := 12) rfl (by omega), zle (z := 900) rfl (by omega)⟩ ⟨_, rfl, Or.inr ⟨rfl, by unfold txF; rw [if_pos he]⟩⟩ dX3_textNow_90
      · have hvk := hv k (by omega)
        have hcap := hs0.2.2.2.2
        unfold capR at hcap
        have hlm := hs0.2.2.2.1
        refine lv_aload_n hx hb dX3_textNow_20 rfl (lv_at hl 2 rfl) ?_
        refine lv_iload_n hx hb dX3_textNow_21 rfl (lv_at hl 3 rfl) ?_
        have hH1 : HM G s0 μ σ th H6 := hh.ext0 hE (zS_F hS)
        refine z_go (2 + gr0) (20 + 200 * gr0) (z_runV (As := [.int (iI ((j : Nat) : Int))]) (rest := []) hC hml hl.1 (m_X3_row hE H6 (hO.ext0 (zS_F hS)) μ σ th j hH1 hj) (lw_V q1654 q1656 qs36 q67 q1657) rfl nd_X3_row rfl (z_rv hC (ci := 2) rfl hH1.2.2.1.1 rfl) rfl (Nat.le_of_ble_eq_true rfl) ⟨Nat.le_of_ble_eq_true rfl, Nat.le_of_ble_eq_true rfl⟩ ⟨zfit (k := 0) (z := 12) rfl rfl (by omega), zfit (k := 0) (z := 900) rfl rfl (by omega)⟩ dX3_textNow_22) ⟨zad (k := 0) rfl (by omega), zad (k := 0) rfl (by omega)⟩ hS (fun _ z => z.elim) (fun r H11 locs hp hF hS1 => ?_)
        obtain ⟨_, rfl, rfl⟩ := hp
        have hP := zpk hP hF
        have hP : va_P G.1 zCl ([(q1, zOb 11 [.ref arr09, .int (iI 0), .int (iI 0), .int (iI ((len0 : Nat) : Int))]), (arr09, zB G mm09 f09)]) H11 := hP
        have hD : va_D (zA M0 H0) ([(q1, zOb 11 [.ref arr09, .int (iI 0), .int (iI 0), .int (iI ((len0 : Nat) : Int))]), (arr09, zB G mm09 f09)]) := hD
        have hS := hS1
        have hH1 : HM G s0 μ σ th H11 := hh.ext0 hE (zS_F hS)
        have hRj := (hH1.el (j := j) hj).2
        rw [← hvv, ← hne0] at hRj
        refine lv_iload_n hx hb dX3_textNow_25 rfl (lv_at hl 0 rfl) ?_
        refine z_iald hC hRj (k := k) rfl (by omega) (y := v k) rfl dX3_textNow_26 ?_
        refine z_zne (tgt := 33) hx hb dX3_textNow_27 (by decide) (by omega) (fun c12 => ?_) (fun c12 => ?_)
        · refine lv_aload_n hx hb dX3_textNow_33 rfl (lv_at hl 1 rfl) ?_
          refine z_go (2 + gr0) (20 + 200 * gr0) (z_runV (As := []) (rest := []) hC hml hl.1 (m_J24_length hE H11 (hO.ext0 (zS_F hS)) q1 arr09 len0 (hP 0 _ rfl)) (lw_V q1837 q582 q583 q98 q584) rfl nd_J24_length rfl (z_rv hC (ci := 11) rfl (hP 0 _ rfl) rfl) rfl (Nat.le_of_ble_eq_true rfl) ⟨Nat.le_of_ble_eq_true rfl, Nat.le_of_ble_eq_true rfl⟩ ⟨zfit (k := 0) (z := 12) rfl rfl (by omega), zfit (k := 0) (z := 900) rfl rfl (by omega)⟩ dX3_textNow_34) ⟨zad (k := 0) rfl (by omega), zad (k := 0) rfl (by omega)⟩ hS (fun _ z => z.elim) (fun r H13 locs hp hF hS1 => ?_)
          obtain ⟨_, rfl, rfl⟩ := hp
          have hP := zpk hP hF
          have hP : va_P G.1 zCl ([(q1, zOb 11 [.ref arr09, .int (iI 0), .int (iI 0), .int (iI ((len0 : Nat) : Int))]), (arr09, zB G mm09 f09)]) H13 := hP
          have hD : va_D (zA M0 H0) ([(q1, zOb 11 [.ref arr09, .int (iI 0), .int (iI 0), .int (iI ((len0 : Nat) : Int))]), (arr09, zB G mm09 f09)]) := hD
          have hS := hS1
          have ja : ∀ (len1 : Nat) (arr19 : Nat) (mm19 : Nat) (gr1 : Nat) (f19 : Nat → Int), (sbI (plL (txL v k)) len1 mm19 gr1 f19) → (len1 ≤ 5 * k + 1) → ∀ (H14 : Heap) (locs : List Loc) (ls : Array Slot), va_P G.1 zCl ([(q1, zOb 11 [.ref arr19, .int (iI 0), .int (iI 0), .int (iI ((len1 : Nat) : Int))]), (arr19, zB G mm19 f19)]) H14 → va_D (zA M0 H0) ([(q1, zOb 11 [.ref arr19, .int (iI 0), .int (iI 0), .int (iI ((len1 : Nat) : Int))]), (arr19, zB G mm19 f19)]) → va_S (zA M0 H0) H0 H14 locs → lv_has ls 4 [(3, .int (iI ((k : Nat) : Int))), (2, .ref q1), (0, .ref (μ (0, 0, 0))), (1, .int (iI ((j : Nat) : Int)))] → W pp l ee rm_m_X3_textNowN ss mm args below meth cd H14 locs (2 + gr1) (20 + 200 * gr1) Q (F0 mm 47 ls []) := by
            intro len1 arr19 mm19 gr1 f19 hs1 hlen1 H14 locs ls  hP hD hS hl
            have hcap := hs1.2.2.2.2
            unfold capR at hcap
            have hlm := hs1.2.2.2.1
            refine lv_aload_n hx hb dX3_textNow_47 rfl (lv_at hl 1 rfl) ?_
            refine lv_aload_n hx hb dX3_textNow_48 rfl (lv_at hl 2 rfl) ?_
            refine lv_iload_n hx hb dX3_textNow_49 rfl (lv_at hl 3 rfl) ?_
            have hH1 : HM G s0 μ σ th H14 := hh.ext0 hE (zS_F hS)
            refine z_go (2 + gr1) (20 + 200 * gr1) (z_runV (As := [.int (iI ((j : Nat) : Int))]) (rest := [.ref q1]) hC hml hl.1 (m_X3_row hE H14 (hO.ext0 (zS_F hS)) μ σ th j hH1 hj) (lw_V q1654 q1656 qs36 q67 q1657) rfl nd_X3_row rfl (z_rv hC (ci := 2) rfl hH1.2.2.1.1 rfl) rfl (Nat.le_of_ble_eq_true rfl) ⟨Nat.le_of_ble_eq_true rfl, Nat.le_of_ble_eq_true rfl⟩ ⟨zfit (k := 0) (z := 12) rfl rfl (by omega), zfit (k := 0) (z := 900) rfl rfl (by omega)⟩ dX3_textNow_50) ⟨zad (k := 0) rfl (by omega), zad (k := 0) rfl (by omega)⟩ hS (fun _ z => z.elim) (fun r H15 locs hp hF hS1 => ?_)
            obtain ⟨_, rfl, rfl⟩ := hp
            have hP := zpk hP hF
            have hP : va_P G.1 zCl ([(q1, zOb 11 [.ref arr19, .int (iI 0), .int (iI 0), .int (iI ((len1 : Nat) : Int))]), (arr19, zB G mm19 f19)]) H15 := hP
            have hD : va_D (zA M0 H0) ([(q1, zOb 11 [.ref arr19, .int (iI 0), .int (iI 0), .int (iI ((len1 : Nat) : Int))]), (arr19, zB G mm19 f19)]) := hD
            have hS := hS1
            have hH1 : HM G s0 μ σ th H15 := hh.ext0 hE (zS_F hS)
            have hRj := (hH1.el (j := j) hj).2
            rw [← hvv, ← hne0] at hRj
            refine lv_iload_n hx hb dX3_textNow_53 rfl (lv_at hl 0 rfl) ?_
            refine z_iald hC hRj (k := k) rfl (by omega) (y := v k) rfl dX3_textNow_54 ?_
            refine z_top (b := (((v k).toNat : Nat) : Int)) (by omega) ?_
            have hs19 : ssz (v k).toNat = 1 := by unfold ssz; rw [if_pos (by omega)]
            have jb : ∀ (len2 : Nat) (arr29 : Nat) (mm29 : Nat) (gr2 : Nat) (f29 : Nat → Int), (sbI (plL (txL v k) ++ dgL (v k).toNat) len2 mm29 gr2 f29) → (len2 ≤ 5 * k + 2) → ∀ (H16 : Heap) (locs : List Loc) (ls : Array Slot), va_P G.1 zCl ([(q1, zOb 11 [.ref arr29, .int (iI 0), .int (iI 0), .int (iI ((len2 : Nat) : Int))]), (arr29, zB G mm29 f29)]) H16 → va_D (zA M0 H0) ([(q1, zOb 11 [.ref arr29, .int (iI 0), .int (iI 0), .int (iI ((len2 : Nat) : Int))]), (arr29, zB G mm29 f29)]) → va_S (zA M0 H0) H0 H16 locs → lv_has ls 4 [(3, .int (iI ((k : Nat) : Int))), (2, .ref q1), (0, .ref (μ (0, 0, 0))), (1, .int (iI ((j : Nat) : Int)))] → W pp l ee rm_m_X3_textNowN ss mm args below meth cd H16 locs (2 + gr2) (20 + 200 * gr2) Q (F0 mm 58 ls [.ref q1]) := by
              intro len2 arr29 mm29 gr2 f29 hs2 hlen2 H16 locs ls  hP hD hS hl
              refine lv_bipush (v := iI 101) hx hb dX3_textNow_58 (by decide) ?_
              have jc : ∀ (len3 : Nat) (arr39 : Nat) (mm39 : Nat) (gr3 : Nat) (f39 : Nat → Int), (sbI ((plL (txL v k) ++ dgL (v k).toNat) ++ [((101 : Nat) : Int)]) len3 mm39 gr3 f39) → (len3 ≤ 5 * k + 3) → ∀ (H17 : Heap) (locs : List Loc) (ls : Array Slot), va_P G.1 zCl ([(q1, zOb 11 [.ref arr39, .int (iI 0), .int (iI 0), .int (iI ((len3 : Nat) : Int))]), (arr39, zB G mm39 f39)]) H17 → va_D (zA M0 H0) ([(q1, zOb 11 [.ref arr39, .int (iI 0), .int (iI 0), .int (iI ((len3 : Nat) : Int))]), (arr39, zB G mm39 f39)]) → va_S (zA M0 H0) H0 H17 locs → lv_has ls 4 [(3, .int (iI ((k : Nat) : Int))), (2, .ref q1), (0, .ref (μ (0, 0, 0))), (1, .int (iI ((j : Nat) : Int)))] → W pp l ee rm_m_X3_textNowN ss mm args below meth cd H17 locs (2 + gr3) (20 + 200 * gr3) Q (F0 mm 63 ls [.ref q1]) := by
                intro len3 arr39 mm39 gr3 f39 hs3 hlen3 H17 locs ls  hP hD hS hl
                refine lv_iload_n hx hb dX3_textNow_63 rfl (lv_at hl 0 rfl) ?_
                have jd : ∀ (len4 : Nat) (arr49 : Nat) (mm49 : Nat) (gr4 : Nat) (f49 : Nat → Int), (sbI (((plL (txL v k) ++ dgL (v k).toNat) ++ [((101 : Nat) : Int)]) ++ dgL k) len4 mm49 gr4 f49) → (len4 ≤ 5 * k + 5) → ∀ (H18 : Heap) (locs : List Loc) (ls : Array Slot), va_P G.1 zCl ([(q1, zOb 11 [.ref arr49, .int (iI 0), .int (iI 0), .int (iI ((len4 : Nat) : Int))]), (arr49, zB G mm49 f49)]) H18 → va_D (zA M0 H0) ([(q1, zOb 11 [.ref arr49, .int (iI 0), .int (iI 0), .int (iI ((len4 : Nat) : Int))]), (arr49, zB G mm49 f49)]) → va_S (zA M0 H0) H0 H18 locs → lv_has ls 4 [(3, .int (iI ((k : Nat) : Int))), (2, .ref q1), (0, .ref (μ (0, 0, 0))), (1, .int (iI ((j : Nat) : Int)))] → W pp l ee rm_m_X3_textNowN ss mm args below meth cd H18 locs (2 + gr4) (20 + 200 * gr4) Q (F0 mm 67 ls [.ref q1]) := by
                  intro len4 arr49 mm49 gr4 f49 hs4 hlen4 H18 locs ls  hP hD hS hl
                  refine lv_pop hx hb dX3_textNow_67 rfl ?_
                  refine z_iinc (z := ((k + 1 : Nat) : Int)) (lv' := [(3, .int (iI ((k + 1 : Nat) : Int))), (2, .ref q1), (0, .ref (μ (0, 0, 0))), (1, .int (iI ((j : Nat) : Int)))]) hx hb dX3_textNow_68 hl (k := 0) rfl (by omega) (by decide) rfl (fun ls hl => ?_)
                  refine lv_goto (tgt := 10) hx hb dX3_textNow_71 (by decide) ?_
                  exact W.widen (by omega) (by omega) (ihlp4 (n - (k + 1)) (by omega) (k + 1) len4 arr49 mm49 gr4 f49 rfl (by omega) (by rw [txL_s (by omega)]; exact hs4) (by omega) _ _ _  hP hD hS hl)
                have hsz := ssz_in (k)
                have hcap := hs3.2.2.2.2
                have hlm := hs3.2.2.2.1
                unfold capR at hcap
                rcases (show len3 + ssz (k) ≤ mm39 ∨ mm39 < len3 + ssz (k) from by omega) with hfit | hfit
                · refine z_go (2 + gr3) (20 + 200 * gr3) (z_runV (As := [.int (iI ((k : Nat) : Int))]) (rest := []) hC hml hl.1 (m_J24_appendi_a hE H17 (hO.ext0 (zS_F hS)) q1 arr39 len3 mm39 f39 (k) (sb_hb hO hD) (hP 0 _ rfl) (hP 1 _ rfl) (by omega) (by omega)) (lw_V q1839 q682 q683 q98 q684) rfl nd_J24_append_2 rfl (z_rv hC (ci := 11) rfl (hP 0 _ rfl) rfl) rfl (Nat.le_of_ble_eq_true rfl) ⟨Nat.le_of_ble_eq_true rfl, Nat.le_of_ble_eq_true rfl⟩ ⟨zfit (k := 0) (z := 12) rfl rfl (by omega), zfit (k := 0) (z := 900) rfl rfl (by omega)⟩ dX3_textNow_64) ⟨zad (k := 0) rfl (by omega), zad (k := 0) rfl (by omega)⟩ hS (fun q z => z.elim (fun y => by rw [y]; exact hD.2 0 _ rfl) (fun y => by rw [y]; exact hD.2 1 _ rfl)) (fun r H19 locs hp hF hS1 => ?_)
                  obtain ⟨y9, rfl, hy9, hm1, hm2⟩ := hp
                  obtain ⟨hP, hD⟩ := zjm2 hP hD hF 0 1 rfl rfl hm1 hm2
                  have hP : va_P G.1 zCl ([(q1, zOb 11 [.ref arr39, .int (iI 0), .int (iI 0), .int (iI ((len3 + ssz (k) : Nat) : Int))]), (arr39, zB G mm39 (gcV f39 (len3 + ssz (k)) (k)))]) H19 := hP
                  have hD : va_D (zA M0 H0) ([(q1, zOb 11 [.ref arr39, .int (iI 0), .int (iI 0), .int (iI ((len3 + ssz (k) : Nat) : Int))]), (arr39, zB G mm39 (gcV f39 (len3 + ssz (k)) (k)))]) := hD
                  have hS := hS1
                  have hy9 := hy9.symm
                  subst hy9
                  exact W.widen (by omega) (by omega) (jd (len3 + ssz (k)) arr39 mm39 gr3 (gcV f39 (len3 + ssz (k)) (k)) (hs3.num (by omega) (by omega)) (by omega) _ _ _  hP hD hS hl)
                · refine z_go ((2 + gr3) + 1) ((20 + 200 * gr3) + 200) (z_runV (As := [.int (iI ((k : Nat) : Int))]) (rest := []) hC hml hl.1 (m_J24_appendi_b hE H17 (hO.ext0 (zS_F hS)) q1 arr39 len3 mm39 f39 (k) ⟨(sb_hb hO hD).1.1, (sb_hb hO hD).2⟩ (hP 0 _ rfl) (hP 1 _ rfl) hs3.2.2.1 (by omega) (by omega)) (lw_V q1839 q682 q683 q98 q684) rfl nd_J24_append_2 rfl (z_rv hC (ci := 11) rfl (hP 0 _ rfl) rfl) rfl (Nat.le_of_ble_eq_true rfl) ⟨Nat.le_of_ble_eq_true rfl, Nat.le_of_ble_eq_true rfl⟩ ⟨zfit (k := 1) (z := 12) rfl rfl (by omega), zfit (k := 200) (z := 900) rfl rfl (by omega)⟩ dX3_textNow_64) ⟨zad (k := 1) rfl (by omega), zad (k := 200) rfl (by omega)⟩ hS (fun q z => by subst z; exact hD.2 0 _ rfl) (fun r H20 locs hp hF hS1 => ?_)
                  obtain ⟨y9, rfl, hy9, ab9, hm, hN⟩ := hp
                  obtain ⟨hP, hD⟩ := zjmn hP hD hS.1 hF 0 rfl hm hN
                  have hP : va_P G.1 zCl ([(q1, zOb 11 [.ref ab9, .int (iI 0), .int (iI 0), .int (iI ((len3 + ssz (k) : Nat) : Int))]), (arr39, zB G mm39 f39), (ab9, zB G (2 * mm39 + 2) (gcV (fun j => if j < mm39 then f39 j else 0) (len3 + ssz (k)) (k)))]) H20 := hP
                  have hD : va_D (zA M0 H0) ([(q1, zOb 11 [.ref ab9, .int (iI 0), .int (iI 0), .int (iI ((len3 + ssz (k) : Nat) : Int))]), (arr39, zB G mm39 f39), (ab9, zB G (2 * mm39 + 2) (gcV (fun j => if j < mm39 then f39 j else 0) (len3 + ssz (k)) (k)))]) := hD
                  have hS := hS1
                  have hy9 := hy9.symm
                  subst hy9
                  exact W.widen (by omega) (by omega) (jd (len3 + ssz (k)) ab9 (2 * mm39 + 2) (gr3 + 1) (gcV (fun j => if j < mm39 then f39 j else 0) (len3 + ssz (k)) (k)) ((hs3.grown (by omega)).num (by omega) (by omega)) (by omega) _ _ _  (hP.sub [0, 2] rfl) (hD.sub [0, 2] (by decide) rfl) hS hl)
              have hcap := hs2.2.2.2.2
              have hlm := hs2.2.2.2.1
              unfold capR at hcap
              rcases (show len2 + 1 ≤ mm29 ∨ mm29 < len2 + 1 from by omega) with hfit | hfit
              · refine z_go (2 + gr2) (20 + 200 * gr2) (z_runV (As := [.int (iI 101)]) (rest := []) hC hml hl.1 (m_J24_append_a hE H16 (hO.ext0 (zS_F hS)) q1 arr29 len2 mm29 f29 (101) (sb_hb hO hD) (hP 0 _ rfl) (hP 1 _ rfl) (by omega) (by omega)) (lw_V q1838 q589 q590 q98 q591) rfl nd_J24_append rfl (z_rv hC (ci := 11) rfl (hP 0 _ rfl) rfl) rfl (Nat.le_of_ble_eq_true rfl) ⟨Nat.le_of_ble_eq_true rfl, Nat.le_of_ble_eq_true rfl⟩ ⟨zfit (k := 0) (z := 12) rfl rfl (by omega), zfit (k := 0) (z := 900) rfl rfl (by omega)⟩ dX3_textNow_60) ⟨zad (k := 0) rfl (by omega), zad (k := 0) rfl (by omega)⟩ hS (fun q z => z.elim (fun y => by rw [y]; exact hD.2 0 _ rfl) (fun y => by rw [y]; exact hD.2 1 _ rfl)) (fun r H21 locs hp hF hS1 => ?_)
                obtain ⟨y9, rfl, hy9, hm1, hm2⟩ := hp
                obtain ⟨hP, hD⟩ := zjm2 hP hD hF 0 1 rfl rfl hm1 hm2
                have hP : va_P G.1 zCl ([(q1, zOb 11 [.ref arr29, .int (iI 0), .int (iI 0), .int (iI ((len2 + 1 : Nat) : Int))]), (arr29, zB G mm29 (va_up f29 len2 ((101 : Nat) : Int)))]) H21 := hP
                have hD : va_D (zA M0 H0) ([(q1, zOb 11 [.ref arr29, .int (iI 0), .int (iI 0), .int (iI ((len2 + 1 : Nat) : Int))]), (arr29, zB G mm29 (va_up f29 len2 ((101 : Nat) : Int)))]) := hD
                have hS := hS1
                have hy9 := hy9.symm
                subst hy9
                exact W.widen (by omega) (by omega) (jc (len2 + 1) arr29 mm29 gr2 (va_up f29 len2 ((101 : Nat) : Int)) (hs2.chr (by omega) (by omega)) (by omega) _ _ _  hP hD hS hl)
              · refine z_go ((2 + gr2) + 1) ((20 + 200 * gr2) + 200) (z_runV (As := [.int (iI 101)]) (rest := []) hC hml hl.1 (m_J24_append_b hE H16 (hO.ext0 (zS_F hS)) q1 arr29 len2 mm29 f29 (101) ⟨(sb_hb hO hD).1.1, (sb_hb hO hD).2⟩ (hP 0 _ rfl) (hP 1 _ rfl) hs2.2.2.1 (by omega) (by omega)) (lw_V q1838 q589 q590 q98 q591) rfl nd_J24_append rfl (z_rv hC (ci := 11) rfl (hP 0 _ rfl) rfl) rfl (Nat.le_of_ble_eq_true rfl) ⟨Nat.le_of_ble_eq_true rfl, Nat.le_of_ble_eq_true rfl⟩ ⟨zfit (k := 1) (z := 12) rfl rfl (by omega), zfit (k := 200) (z := 900) rfl rfl (by omega)⟩ dX3_textNow_60) ⟨zad (k := 1) rfl (by omega), zad (k := 200) rfl (by omega)⟩ hS (fun q z => by subst z; exact hD.2 0 _ rfl) (fun r H22 locs hp hF hS1 => ?_)
                obtain ⟨y9, rfl, hy9, ab9, hm, hN⟩ := hp
                obtain ⟨hP, hD⟩ := zjmn hP hD hS.1 hF 0 rfl hm hN
                have hP : va_P G.1 zCl ([(q1, zOb 11 [.ref ab9, .int (iI 0), .int (iI 0), .int (iI ((len2 + 1 : Nat) : Int))]), (arr29, zB G mm29 f29), (ab9, zB G (2 * mm29 + 2) (va_up (fun j => if j < mm29 then f29 j else 0) len2 ((101 : Nat) : Int)))]) H22 := hP
                have hD : va_D (zA M0 H0) ([(q1, zOb 11 [.ref ab9, .int (iI 0), .int (iI 0), .int (iI ((len2 + 1 : Nat) : Int))]), (arr29, zB G mm29 f29), (ab9, zB G (2 * mm29 + 2) (va_up (fun j => if j < mm29 then f29 j else 0) len2 ((101 : Nat) : Int)))]) := hD
                have hS := hS1
                have hy9 := hy9.symm
                subst hy9
                exact W.widen (by omega) (by omega) (jc (len2 + 1) ab9 (2 * mm29 + 2) (gr2 + 1) (va_up (fun j => if j < mm29 then f29 j else 0) len2 ((101 : Nat) : Int)) ((hs2.grown (by omega)).chr (by omega) (by omega)) (by omega) _ _ _  (hP.sub [0, 2] rfl) (hD.sub [0, 2] (by decide) rfl) hS hl)
            have hsz := ssz_in ((v k).toNat)
            have hcap := hs1.2.2.2.2
            have hlm := hs1.2.2.2.1
            unfold capR at hcap
            rcases (show len1 + ssz ((v k).toNat) ≤ mm19 ∨ mm19 < len1 + ssz ((v k).toNat) from by omega) with hfit | hfit
            · refine z_go (2 + gr1) (20 + 200 * gr1) (z_runV (As := [.int (iI (((v k).toNat : Nat) : Int))]) (rest := []) hC hml hl.1 (m_J24_appendi_a hE H15 (hO.ext0 (zS_F hS)) q1 arr19 len1 mm19 f19 ((v k).toNat) (sb_hb hO hD) (hP 0 _ rfl) (hP 1 _ rfl) (by omega) (by omega)) (lw_V q1839 q682 q683 q98 q684) rfl nd_J24_append_2 rfl (z_rv hC (ci := 11) rfl (hP 0 _ rfl) rfl) rfl (Nat.le_of_ble_eq_true rfl) ⟨Nat.le_of_ble_eq_true rfl, Nat.le_of_ble_eq_true rfl⟩ ⟨zfit (k := 0) (z := 12) rfl rfl (by omega), zfit (k := 0) (z := 900) rfl rfl (by omega)⟩ dX3_textNow_55) ⟨zad (k := 0) rfl (by omega), zad (k := 0) rfl (by omega)⟩ hS (fun q z => z.elim (fun y => by rw [y]; exact hD.2 0 _ rfl) (fun y => by rw [y]; exact hD.2 1 _ rfl)) (fun r H23 locs hp hF hS1 => ?_)
              obtain ⟨y9, rfl, hy9, hm1, hm2⟩ := hp
              obtain ⟨hP, hD⟩ := zjm2 hP hD hF 0 1 rfl rfl hm1 hm2
              have hP : va_P G.1 zCl ([(q1, zOb 11 [.ref arr19, .int (iI 0), .int (iI 0), .int (iI ((len1 + ssz ((v k).toNat) : Nat) : Int))]), (arr19, zB G mm19 (gcV f19 (len1 + ssz ((v k).toNat)) ((v k).toNat)))]) H23 := hP
              have hD : va_D (zA M0 H0) ([(q1, zOb 11 [.ref arr19, .int (iI 0), .int (iI 0), .int (iI ((len1 + ssz ((v k).toNat) : Nat) : Int))]), (arr19, zB G mm19 (gcV f19 (len1 + ssz ((v k).toNat)) ((v k).toNat)))]) := hD
              have hS := hS1
              have hy9 := hy9.symm
              subst hy9
              exact W.widen (by omega) (by omega) (jb (len1 + ssz ((v k).toNat)) arr19 mm19 gr1 (gcV f19 (len1 + ssz ((v k).toNat)) ((v k).toNat)) (hs1.num (by omega) (by omega)) (by omega) _ _ _  hP hD hS hl)
            · refine z_go ((2 + gr1) + 1) ((20 + 200 * gr1) + 200) (z_runV (As := [.int (iI (((v k).toNat : Nat) : Int))]) (rest := []) hC hml hl.1 (m_J24_appendi_b hE H15 (hO.ext0 (zS_F hS)) q1 arr19 len1 mm19 f19 ((v k).toNat) ⟨(sb_hb hO hD).1.1, (sb_hb hO hD).2⟩ (hP 0 _ rfl) (hP 1 _ rfl) hs1.2.2.1 (by omega) (by omega)) (lw_V q1839 q682 q683 q98 q684) rfl nd_J24_append_2 rfl (z_rv hC (ci := 11) rfl (hP 0 _ rfl) rfl) rfl (Nat.le_of_ble_eq_true rfl) ⟨Nat.le_of_ble_eq_true rfl, Nat.le_of_ble_eq_true rfl⟩ ⟨zfit (k := 1) (z := 12) rfl rfl (by omega), zfit (k := 200) (z := 900) rfl rfl (by omega)⟩ dX3_textNow_55) ⟨zad (k := 1) rfl (by omega), zad (k := 200) rfl (by omega)⟩ hS (fun q z => by subst z; exact hD.2 0 _ rfl) (fun r H24 locs hp hF hS1 => ?_)
              obtain ⟨y9, rfl, hy9, ab9, hm, hN⟩ := hp
              obtain ⟨hP, hD⟩ := zjmn hP hD hS.1 hF 0 rfl hm hN
              have hP : va_P G.1 zCl ([(q1, zOb 11 [.ref ab9, .int (iI 0), .int (iI 0), .int (iI ((len1 + ssz ((v k).toNat) : Nat) : Int))]), (arr19, zB G mm19 f19), (ab9, zB G (2 * mm19 + 2) (gcV (fun j => if j < mm19 then f19 j else 0) (len1 + ssz ((v k).toNat)) ((v k).toNat)))]) H24 := hP
              have hD : va_D (zA M0 H0) ([(q1, zOb 11 [.ref ab9, .int (iI 0), .int (iI 0), .int (iI ((len1 + ssz ((v k).toNat) : Nat) : Int))]), (arr19, zB G mm19 f19), (ab9, zB G (2 * mm19 + 2) (gcV (fun j => if j < mm19 then f19 j else 0) (len1 + ssz ((v k).toNat)) ((v k).toNat)))]) := hD
              have hS := hS1
              have hy9 := hy9.symm
              subst hy9
              exact W.widen (by omega) (by omega) (jb (len1 + ssz ((v k).toNat)) ab9 (2 * mm19 + 2) (gr1 + 1) (gcV (fun j => if j < mm19 then f19 j else 0) (len1 + ssz ((v k).toNat)) ((v k).toNat)) ((hs1.grown (by omega)).num (by omega) (by omega)) (by omega) _ _ _  (hP.sub [0, 2] rfl) (hD.sub [0, 2] (by decide) rfl) hS hl)
          refine z_zle (tgt := 47) hx hb dX3_textNow_37 (by decide) (by omega) (fun c25 => ?_) (fun c25 => ?_)
          · exact W.widen (by omega) (by omega) (ja len0 arr09 mm09 gr0 f09 (hs0.pl0 (by omega)) (by omega) _ _ _  hP hD hS hl)
          · have hne : txL v k ≠ [] := hs0.ne (by omega)
            refine lv_aload_n hx hb dX3_textNow_40 rfl (lv_at hl 1 rfl) ?_
            refine lv_bipush (v := iI 43) hx hb dX3_textNow_41 (by decide) ?_
            have jz : ∀ (len5 : Nat) (arr59 : Nat) (mm59 : Nat) (gr5 : Nat) (f59 : Nat → Int), (sbI (txL v k ++ [((43 : Nat) : Int)]) len5 mm59 gr5 f59) → (len5 ≤ 5 * k + 1) → ∀ (H26 : Heap) (locs : List Loc) (ls : Array Slot), va_P G.1 zCl ([(q1, zOb 11 [.ref arr59, .int (iI 0), .int (iI 0), .int (iI ((len5 : Nat) : Int))]), (arr59, zB G mm59 f59)]) H26 → va_D (zA M0 H0) ([(q1, zOb 11 [.ref arr59, .int (iI 0), .int (iI 0), .int (iI ((len5 : Nat) : Int))]), (arr59, zB G mm59 f59)]) → va_S (zA M0 H0) H0 H26 locs → lv_has ls 4 [(3, .int (iI ((k : Nat) : Int))), (2, .ref q1), (0, .ref (μ (0, 0, 0))), (1, .int (iI ((j : Nat) : Int)))] → W pp l ee rm_m_X3_textNowN ss mm args below meth cd H26 locs (2 + gr5) (20 + 200 * gr5) Q (F0 mm 46 ls [.ref q1]) := by
              intro len5 arr59 mm59 gr5 f59 hs5 hlen5 H26 locs ls  hP hD hS hl
              refine lv_pop hx hb dX3_textNow_46 rfl ?_
              exact W.widen (by omega) (by omega) (ja len5 arr59 mm59 gr5 f59 (hs5.pl1 hne) (by omega) _ _ _  hP hD hS hl)
            have hcap := hs0.2.2.2.2
            have hlm := hs0.2.2.2.1
            unfold capR at hcap
            rcases (show len0 + 1 ≤ mm09 ∨ mm09 < len0 + 1 from by omega) with hfit | hfit
            · refine z_go (2 + gr0) (20 + 200 * gr0) (z_runV (As := [.int (iI 43)]) (rest := []) hC hml hl.1 (m_J24_append_a hE H13 (hO.ext0 (zS_F hS)) q1 arr09 len0 mm09 f09 (43) (sb_hb hO hD) (hP 0 _ rfl) (hP 1 _ rfl) (by omega) (by omega)) (lw_V q1838 q589 q590 q98 q591) rfl nd_J24_append rfl (z_rv hC (ci := 11) rfl (hP 0 _ rfl) rfl) rfl (Nat.le_of_ble_eq_true rfl) ⟨Nat.le_of_ble_eq_true rfl, Nat.le_of_ble_eq_true rfl⟩ ⟨zfit (k := 0) (z := 12) rfl rfl (by omega), zfit (k := 0) (z := 900) rfl rfl (by omega)⟩ dX3_textNow_43) ⟨zad (k := 0) rfl (by omega), zad (k := 0) rfl (by omega)⟩ hS (fun q z => z.elim (fun y => by rw [y]; exact hD.2 0 _ rfl) (fun y => by rw [y]; exact hD.2 1 _ rfl)) (fun r H27 locs hp hF hS1 => ?_)
              obtain ⟨y9, rfl, hy9, hm1, hm2⟩ := hp
              obtain ⟨hP, hD⟩ := zjm2 hP hD hF 0 1 rfl rfl hm1 hm2
              have hP : va_P G.1 zCl ([(q1, zOb 11 [.ref arr09, .int (iI 0), .int (iI 0), .int (iI ((len0 + 1 : Nat) : Int))]), (arr09, zB G mm09 (va_up f09 len0 ((43 : Nat) : Int)))]) H27 := hP
              have hD : va_D (zA M0 H0) ([(q1, zOb 11 [.ref arr09, .int (iI 0), .int (iI 0), .int (iI ((len0 + 1 : Nat) : Int))]), (arr09, zB G mm09 (va_up f09 len0 ((43 : Nat) : Int)))]) := hD
              have hS := hS1
              have hy9 := hy9.symm
              subst hy9
              exact W.widen (by omega) (by omega) (jz (len0 + 1) arr09 mm09 gr0 (va_up f09 len0 ((43 : Nat) : Int)) (hs0.chr (by omega) (by omega)) (by omega) _ _ _  hP hD hS hl)
            · refine z_go ((2 + gr0) + 1) ((20 + 200 * gr0) + 200) (z_runV (As := [.int (iI 43)]) (rest := []) hC hml hl.1 (m_J24_append_b hE H13 (hO.ext0 (zS_F hS)) q1 arr09 len0 mm09 f09 (43) ⟨(sb_hb hO hD).1.1, (sb_hb hO hD).2⟩ (hP 0 _ rfl) (hP 1 _ rfl) hs0.2.2.1 (by omega) (by omega)) (lw_V q1838 q589 q590 q98 q591) rfl nd_J24_append rfl (z_rv hC (ci := 11) rfl (hP 0 _ rfl) rfl) rfl (Nat.le_of_ble_eq_true rfl) ⟨Nat.le_of_ble_eq_true rfl, Nat.le_of_ble_eq_true rfl⟩ ⟨zfit (k := 1) (z := 12) rfl rfl (by omega), zfit (k := 200) (z := 900) rfl rfl (by omega)⟩ dX3_textNow_43) ⟨zad (k := 1) rfl (by omega), zad (k := 200) rfl (by omega)⟩ hS (fun q z => by subst z; exact hD.2 0 _ rfl) (fun r H28 locs hp hF hS1 => ?_)
              obtain ⟨y9, rfl, hy9, ab9, hm, hN⟩ := hp
              obtain ⟨hP, hD⟩ := zjmn hP hD hS.1 hF 0 rfl hm hN
              have hP : va_P G.1 zCl ([(q1, zOb 11 [.ref ab9, .int (iI 0), .int (iI 0), .int (iI ((len0 + 1 : Nat) : Int))]), (arr09, zB G mm09 f09), (ab9, zB G (2 * mm09 + 2) (va_up (fun j => if j < mm09 then f09 j else 0) len0 ((43 : Nat) : Int)))]) H28 := hP
              have hD : va_D (zA M0 H0) ([(q1, zOb 11 [.ref ab9, .int (iI 0), .int (iI 0), .int (iI ((len0 + 1 : Nat) : Int))]), (arr09, zB G mm09 f09), (ab9, zB G (2 * mm09 + 2) (va_up (fun j => if j < mm09 then f09 j else 0) len0 ((43 : Nat) : Int)))]) := hD
              have hS := hS1
              have hy9 := hy9.symm
              subst hy9
              exact W.widen (by omega) (by omega) (jz (len0 + 1) ab9 (2 * mm09 + 2) (gr0 + 1) (va_up (fun j => if j < mm09 then f09 j else 0) len0 ((43 : Nat) : Int)) ((hs0.grown (by omega)).chr (by omega) (by omega)) (by omega) _ _ _  (hP.sub [0, 2] rfl) (hD.sub [0, 2] (by decide) rfl) hS hl)
        · refine lv_goto (tgt := 68) hx hb dX3_textNow_30 (by decide) ?_
          refine z_iinc (z := ((k + 1 : Nat) : Int)) (lv' := [(3, .int (iI ((k + 1 : Nat) : Int))), (2, .ref q1), (0, .ref (μ (0, 0, 0))), (1, .int (iI ((j : Nat) : Int)))]) hx hb dX3_textNow_68 hl (k := 0) rfl (by omega) (by decide) rfl (fun ls hl => ?_)
          refine lv_goto (tgt := 10) hx hb dX3_textNow_71 (by decide) ?_
          exact W.widen (by omega) (by omega) (ihlp4 (n - (k + 1)) (by omega) (k + 1) len0 arr09 mm09 gr0 f09 rfl (by omega) (by simp only [txL]; rw [if_pos (by omega)]; exact hs0) (by omega) _ _ _  hP hD hS hl)
  exact W.widen (by omega) (by omega) (lp4 _ 0 0 arr0 16 0 (fun _ => 0) rfl (Nat.zero_le _) (⟨rfl, fun j hj => absurd hj (Nat.not_lt_zero j), fun j _ => by show 0 ≤ (0 : Int) ∧ (0 : Int) < 128; decide, by omega, Or.inl ⟨rfl, rfl⟩⟩) (by omega) _ _ _  hP hD hS hl)

abbrev rm_m_X3_textN : Room := { frames := 7, cells := 12, slots := 900, locals := 194 }
set_option maxHeartbeats 4000000 in
theorem m_X3_textN {l : Launch} {s0 : State} {G : zG} (hE : zE l s0 G) (H0 : Heap) (hO : zO s0 H0) (μ : Ro → Nat) (σ : St) (th : Int) (i : Int) (hh : HM G s0 μ σ th H0) (hi : zi i) : zM l s0 yX3_text cX3_text 2 (some (FieldType.object "java/lang/String")) rm_m_X3_textN [.ref (μ (0, 0, 0)), .int (iI i)] H0 (FM G μ σ) (rr (fun y h1 => ∃ (k : Nat), PoM G s0 H0 μ σ σ (k : Int) h1 ∧ ((k = 0 ∧ ∃ a : Nat, (i = a ∧ a < St_ne σ) ∧ zStrN G H0 y (txF (St_n σ (St_ea σ a)) (St_ev σ a)) h1) ∨ (k = 1 ∧ ¬ inE σ i)))) := by
  refine z_met hE (by decide +kernel) (Nat.le_of_ble_eq_true rfl) ?_
  intro pp ee ss mm args below meth cd Q ls hC hml hrt hlk hnm hH hQ hS hl
  have hx := hC.x
  have hb := hC.b
  have hl : lv_has ls 2 [(0, .ref (μ (0, 0, 0))), (1, .int (iI i))] := hl
  have hP : va_P G.1 zCl [] H0 := va_nil
  have hD : va_D (zA (FM G μ σ) H0) [] := va_nilD
  have hMo : ∀ z, (FM G μ σ) z → s0.heap.size ≤ z := fun z hz => FM.ge hh.sep hz
  have hH1 := hh
  obtain ⟨hp, hna, hal, hne9, hel9, hmr9⟩ := id hh.ok
  have hp7 : 0 < St_p σ ∧ St_p σ ≤ 7 := by rcases hp with h | h | h <;> rw [h] <;> decide
  have hP : va_P G.1 zCl [((μ (0, 0, 0)), zOb 2 [.int (iI th), .int (iI (St_p σ)), .int (iI ((St_kn σ : Nat) : Int)), .ref (μ (1, 0, 0)), .ref (μ (3, 0, 0))])] H0 := zP1 hh.2.2.1.1
  have hD : va_D (zA (FM G μ σ) H0) [((μ (0, 0, 0)), zOb 2 [.int (iI th), .int (iI (St_p σ)), .int (iI ((St_kn σ : Nat) : Int)), .ref (μ (1, 0, 0)), .ref (μ (3, 0, 0))])] := zD1 (Or.inl (FM.in hE hh.sep (domM0 0 (by omega)) (by simp [rAm])))
  refine lv_aload_n hx hb dX3_text_0 rfl (lv_at hl 0 rfl) ?_
  refine lv_iconst (v := iI 0) hx hb dX3_text_1 rfl ?_
  refine z_putO hC hP hD hS 0 (k := 0) rfl rfl in_X3 tyX3_ok nmX3 (by decide) q1495 (fun _ h => h) rfl rfl rfl rfl (Nat.le_of_ble_eq_true rfl) (ws' := [((μ (0, 0, 0)), zOb 2 [.int (iI 0), .int (iI (St_p σ)), .int (iI ((St_kn σ : Nat) : Int)), .ref (μ (1, 0, 0)), .ref (μ (3, 0, 0))])]) rfl dX3_text_2 (fun H1 locs hP hD hS hZ1 hZ2 => ?_)
  have hH1 : HM G s0 μ σ 0 H1 := HM.thr hE hH1 (zF.one hZ1 hZ2) (hP 0 _ rfl)
  have hP : va_P G.1 zCl [] H1 := va_nil
  have hD : va_D (zA (FM G μ σ) H0) [] := va_nilD
  refine lv_aload_n hx hb dX3_text_5 rfl (lv_at hl 0 rfl) ?_
  refine lv_iload_n hx hb dX3_text_6 rfl (lv_at hl 1 rfl) ?_
  refine z_go 0 0 (z_runV (As := [.int (iI i)]) (rest := []) hC hml hl.1 (m_X3_isElement hE H1 (hO.ext (zS_F hS) hMo) μ σ 0 i hH1 hi) (lw_V q1650 q1652 qs35 q67 q1653) rfl nd_X3_isElement rfl (z_rv hC (ci := 2) rfl hH1.2.2.1.1 rfl) rfl (Nat.le_of_ble_eq_true rfl) ⟨Nat.le_of_ble_eq_true rfl, Nat.le_of_ble_eq_true rfl⟩ ⟨zfit (k := 0) (z := 12) rfl rfl (by omega), zfit (k := 0) (z := 900) rfl rfl (by omega)⟩ dX3_text_7) ⟨zad (k := 0) rfl (by omega), zad (k := 0) rfl (by omega)⟩ hS (fun _ z => z.elim) (fun r H2 locs hp hF hS1 => ?_)
  obtain ⟨_, rfl, rfl⟩ := hp
  have hP := zpk hP hF
  have hP : va_P G.1 zCl ([]) H2 := hP
  have hD : va_D (zA (FM G μ σ) H0) ([]) := hD
  have hH1 : HM G s0 μ σ 0 H2 := hH1.ext0 hE hF
  have hS := hS1
  obtain ⟨fl, hfl, hfl2⟩ : ∃ fl : Nat, fl ≤ 1 ∧ (if 0 ≤ i ∧ i < ((St_ne σ : Nat) : Int) then (1 : Int) else 0) = fl ∧ (fl = 1 ↔ 0 ≤ i ∧ i < ((St_ne σ : Nat) : Int)) := by by_cases h : 0 ≤ i ∧ i < ((St_ne σ : Nat) : Int); exact ⟨1, by decide, by rw [if_pos h]; rfl, ⟨fun _ => h, fun _ => rfl⟩⟩; exact ⟨0, by decide, by rw [if_neg h]; rfl, ⟨fun z => absurd z (by decide), fun z => absurd z h⟩⟩
  refine z_top (b := ((fl : Nat) : Int)) (hfl2.1) ?_
  refine z_zne (tgt := 21) hx hb dX3_text_10 (by decide) (by omega) (fun c3 => ?_) (fun c3 => ?_)
  · have hok9 := hfl2.2.mp (by omega)
    obtain ⟨a, rfl⟩ : ∃ a : Nat, i = a := ⟨i.toNat, by omega⟩
    refine lv_aload_n hx hb dX3_text_21 rfl (lv_at hl 0 rfl) ?_
    refine lv_iload_n hx hb dX3_text_22 rfl (lv_at hl 1 rfl) ?_
    have hsz9 : H0.size ≤ H2.size := hS.1
    refine z_go 12 900 (z_runV (As := [.int (iI ((a : Nat) : Int))]) (rest := []) hC hml hl.1 (m_X3_textNowN hE H2 (hO.ext (zS_F hS) hMo) μ σ 0 a hH1 (by omega)) (lw_V q1831 q1833 qs51 q67 q1834) rfl nd_X3_textNow rfl (z_rv hC (ci := 2) rfl hH1.2.2.1.1 rfl) rfl (Nat.le_of_ble_eq_true rfl) ⟨Nat.le_of_ble_eq_true rfl, Nat.le_of_ble_eq_true rfl⟩ ⟨zfit (k := 12) (z := 12) rfl rfl (by omega), zfit (k := 900) (z := 900) rfl rfl (by omega)⟩ dX3_text_23) ⟨zad (k := 12) rfl (by omega), zad (k := 900) rfl (by omega)⟩ hS (fun _ z => z.elim) (fun r H4 locs hp hF hS1 => ?_)
    obtain ⟨qs, rfl, hst⟩ := hp
    have hP : va_P G.1 zCl [] H4 := va_nil
    have hD : va_D (zA (FM G μ σ) H0) [] := va_nilD
    have hP : va_P G.1 zCl ([]) H4 := hP
    have hD : va_D (zA (FM G μ σ) H0) ([]) := hD
    have hH1 : HM G s0 μ σ 0 H4 := hH1.ext0 hE hF
    have hS := hS1
    exact z_aret hC hrt hlk hQ hS ⟨zle (z := 12) rfl (by omega), zle (z := 900) rfl (by omega)⟩ ⟨_, rfl, 0, PoM.same hH1, Or.inl ⟨rfl, a, ⟨by omega, by omega⟩, hst.ext0 hsz9⟩⟩ dX3_text_26
  · have hHb := hH1
    have hP : va_P G.1 zCl [((μ (0, 0, 0)), zOb 2 [.int (iI 0), .int (iI (St_p σ)), .int (iI ((St_kn σ : Nat) : Int)), .ref (μ (1, 0, 0)), .ref (μ (3, 0, 0))])] H2 := zP1 hH1.2.2.1.1
    have hD : va_D (zA (FM G μ σ) H0) [((μ (0, 0, 0)), zOb 2 [.int (iI 0), .int (iI (St_p σ)), .int (iI ((St_kn σ : Nat) : Int)), .ref (μ (1, 0, 0)), .ref (μ (3, 0, 0))])] := zD1 (Or.inl (FM.in hE hh.sep (domM0 0 (by omega)) (by simp [rAm])))
    refine lv_aload_n hx hb dX3_text_13 rfl (lv_at hl 0 rfl) ?_
    refine lv_iconst (v := iI 1) hx hb dX3_text_14 rfl ?_
    refine z_putO hC hP hD hS 0 (k := 0) rfl rfl in_X3 tyX3_ok nmX3 (by decide) q1495 (fun _ h => h) rfl rfl rfl rfl (Nat.le_of_ble_eq_true rfl) (ws' := [((μ (0, 0, 0)), zOb 2 [.int (iI 1), .int (iI (St_p σ)), .int (iI ((St_kn σ : Nat) : Int)), .ref (μ (1, 0, 0)), .ref (μ (3, 0, 0))])]) rfl dX3_text_15 (fun H5 locs hP hD hS hZ1 hZ2 => ?_)
    have hH9 : HM G s0 μ σ 1 H5 := HM.thr hE hHb (zF.one hZ1 hZ2) (hP 0 _ rfl)
    refine z_lds hC hE.2.2.2.1.2.2.2.2.2.2.1.2.2.1 dX3_text_18 ?_
    exact z_aret hC hrt hlk hQ hS ⟨zle (z := 12) rfl (by omega), zle (z := 900) rfl (by omega)⟩ ⟨_, rfl, 1, PoM.same hH9, Or.inr ⟨rfl, fun z9 => by have h9 := hfl2.2.mpr z9; omega⟩⟩ dX3_text_20

abbrev rm_m_X0_textN : Room := { frames := 9, cells := 13, slots := 906, locals := 214 }
set_option maxHeartbeats 4000000 in
theorem m_X0_textN {l : Launch} {s0 : State} {G : zG} (hE : zE l s0 G) (H0 : Heap) (hO : zO s0 H0) (ρ : Ro → Nat) (σ : St) (i : Int) (oa : Nat) (n9 : Int64) (d9 : UInt64) (s9 : Value) (hh : HC G s0 ρ σ H0) (hdm : zMn (ρ (5, 0, 0)) {} H0) (ho : zAt G oa (zOb 3 [(.long n9), (.double d9), s9]) H0) (hoa : s0.heap.size ≤ oa) (hof : ¬ FC G ρ σ oa) (hnc : zNc s0) (hi : zi i) : zMW l s0 yX0_text cX0_text 4 (some FieldType.int) [((0 : Nat), (9 : Nat), (12 : Nat), (30 : Nat))] rm_m_X0_textN [.ref (ρ (0, 0, 0)), .int (iI i), .ref oa] H0 (fun z => FC G ρ σ z ∨ z = oa) (ri (fun kk h1 => ∃ (σ' : St) (n1 : Int64) (d1 : UInt64) (s1 : Value), PoC G s0 H0 ρ σ σ' h1 ∧ zAt G oa (zOb 3 [.long n1, .double d1, s1]) h1 ∧ ((kk = 0 ∧ (σ' = σ ∧ ∃ q a : Nat, s1 = .ref q ∧ (i = a ∧ a < St_ne σ) ∧ zStrN G H0 q (txF (St_n σ (St_ea σ a)) (St_ev σ a)) h1)) ∨ (∃ jx : Nat, kk = ((jx + 1 : Nat) : Int) ∧ σ' = σ ∧ jx < ([IOB] : List String).length ∧ X_text σ i (([IOB] : List String).getD jx ""))))) (fun _ _ => False) := by
  refine z_metW hE (by decide +kernel) (Nat.le_of_ble_eq_true rfl) ?_
  intro pp ee ss mm args below meth cd Q ls hC hml hrt hlk hnm hH hQ htb hX hS hl
  have hx := hC.x
  have hb := hC.b
  have hl : lv_has ls 4 [(0, .ref (ρ (0, 0, 0))), (1, .int (iI i)), (2, .ref oa)] := hl
  have hP : va_P G.1 zCl [] H0 := va_nil
  have hD : va_D (zA (fun z => FC G ρ σ z ∨ z = oa) H0) [] := va_nilD
  have hMo : ∀ z, (fun z => FC G ρ σ z ∨ z = oa) z → s0.heap.size ≤ z := fun z hz => hz.elim (fun w => FC.ge hh.sep w) (fun w => by rw [w]; exact hoa)
  have hol := ho.lt
  obtain ⟨sm, hxx⟩ := id hh.2.2.1.1
  have hncs := hnc.warm hC.w
  refine lv_aload_n hx hb dX0_text_0 rfl (lv_at hl 2 rfl) ?_
  refine lv_aload_n hx hb dX0_text_1 rfl (lv_at hl 0 rfl) ?_
  refine lv_iload_n hx hb dX0_text_2 rfl (lv_at hl 1 rfl) ?_
  refine z_goX 13 906 (z_runVx (As := [.int (iI i)]) (rest := [.ref oa]) hC hml hl.1 (m_X1_textN hE H0 (hO.ext (zS_F hS) hMo) ρ σ i hh hi) (lw_V q1420 q1421 q1422 q62 q1423) rfl nd_X1_text rfl (z_rv hC (ci := 0) rfl hxx rfl) rfl (Nat.le_of_ble_eq_true rfl) ⟨Nat.le_of_ble_eq_true rfl, Nat.le_of_ble_eq_true rfl⟩ ⟨zfit (k := 13) (z := 13) rfl rfl (by omega), zfit (k := 906) (z := 906) rfl rfl (by omega)⟩ dX0_text_3) ⟨zad (k := 13) rfl (by omega), zad (k := 906) rfl (by omega)⟩ hS (fun _ z => z.elim) (fun E ce q9 Hx1 locs hp hF hS1 hce hcv hcl => ?_) (fun r H2 locs hp hF hS1 => ?_)
  · have hXE : X_text σ i E := hp
    have hHx : HC G s0 ρ σ Hx1 := hh.ext0 hE hF
    have hox : zAt G oa (zOb 3 [(.long n9), (.double d9), s9]) Hx1 := ho.ext hF id
    have hS := hS1
    obtain rfl := Xi_text hXE
    refine vx_catch hC.o [] ⟨0, 9, 12, 30⟩ [] (by rw [htb]; rfl) (fun z hz => nomatch hz) (by decide) (by decide) (hC.t _ q1033) (z_cst hC q1065) hce hcv hcl ?_
    refine lv_astore_n (lv' := [(3, .ref q9), (0, .ref (ρ (0, 0, 0))), (1, .int (iI i)), (2, .ref oa)]) hx hb dX0_text_12 rfl hl (by decide) rfl (fun ls hl => ?_)
    refine lv_iconst (v := iI 1) hx hb dX0_text_13 rfl ?_
    exact z_iret hC hrt hlk hQ hS ⟨zle (z := 13) rfl (by omega), zle (z := 906) rfl (by omega)⟩ ⟨_, rfl, σ, n9, d9, s9, PoC.same hHx, hox, Or.inr ⟨0, rfl, rfl, by decide, hXE⟩⟩ dX0_text_14
  obtain ⟨y, rfl, hR⟩ := hp
  have hP : va_P G.1 zCl [(oa, zOb 3 [(.long n9), (.double d9), s9])] H2 := zP1 (ho.ext hF id)
  have hD : va_D (zA (fun z => FC G ρ σ z ∨ z = oa) H0) [(oa, zOb 3 [(.long n9), (.double d9), s9])] := zD1 (Or.inl (Or.inr rfl))
  have hpo : PoC G s0 H0 ρ σ σ H2 := PoC.same (hh.ext0 hE hF)
  have hP : va_P G.1 zCl ([(oa, zOb 3 [(.long n9), (.double d9), s9])]) H2 := hP
  have hD : va_D (zA (fun z => FC G ρ σ z ∨ z = oa) H0) ([(oa, zOb 3 [(.long n9), (.double d9), s9])]) := hD
  have hS := hS1
  refine z_putnO hC hP hD hS 0 (k := 2) rfl rfl in_X4 tyX4_ok nmX4 (by decide) q888 (fun _ h => h) rfl rfl rfl rfl (Nat.le_of_ble_eq_true rfl) (ws' := [(oa, zOb 3 [(.long n9), (.double d9), .ref y])]) rfl dX0_text_6 (fun H3 locs hP hD hS hF => ?_)
  have hpo := hpo.out hE hol hof hF
  obtain ⟨a, ha, hst⟩ := hR
  have hst := hst.ext hF (fun z hz => by rw [hz]; exact hol)
  refine lv_goto (tgt := 15) hx hb dX0_text_9 (by decide) ?_
  refine lv_iconst (v := iI 0) hx hb dX0_text_15 rfl ?_
  exact z_iret hC hrt hlk hQ hS ⟨zle (z := 13) rfl (by omega), zle (z := 906) rfl (by omega)⟩ ⟨_, rfl, σ, _, _, _, hpo, hP 0 _ rfl, Or.inl ⟨rfl, ⟨rfl, y, a, rfl, ha, hst⟩⟩⟩ dX0_text_16

set_option maxHeartbeats 4000000 in
theorem lwc_21 {p : Program} {l : Launch} {e : Env} {s : State} {m : MethodId} {below : List Frame} {meth : Method} {c : Code} {G : zG} {H0 : Heap} {b L xa ma oa : Nat} {xs : Nat → Int32} {Q : State → Prop} {i Cc Sc : Nat} (hE : zE l s G) (hC : zC p l s G s m #[.ref b] c "VersorhallLaw" cL_law) (hml : c.maxLocals = 9) (hH0 : s.heap = H0) (hX : va_X b L xs s H0) (hbl : b < H0.size) (hL : L ≤ 256) (hnc : zNc s) (hoa : s.heap.size ≤ oa) (hi4 : i + 4 ≤ L) (hcc : Cc + 9000 ≤ 601152 ∧ Sc + 110000 ≤ 7254250) (IH : lwJ p l e s m below meth c G H0 b xa ma oa Q 2435 i (Cc + 9000) (Sc + 110000)) : lwJ p l e s m below meth c G H0 b xa ma oa Q 1641 i Cc Sc := by
  intro H locs ls ρ μ σ th n9 d9 s9 hh hm exa ema hdm ho hof hom hdj hS hl
  subst exa
  subst ema
  have hx := hC.x
  have hb := hC.b
  have hp9 := hh.ok.1
  have hO : zO s H0 := ⟨by rw [hH0]; exact Nat.le_refl _, fun _ _ => by rw [hH0]⟩
  have hP : va_P G.1 zCl [] H := va_nil
  have hD : va_D (zA M0 H0) [] := va_nilD
  obtain ⟨z1, e1⟩ : ∃ z : Int, (xs (i + 1)).toInt = z := ⟨_, rfl⟩
  have hz1 : zi z1 := by rw [← e1]; exact ⟨Int32.le_toInt _, Int32.toInt_lt _⟩
  refine lv_aload_n hx hb dL_law_1641 rfl (lv_at hl 3 rfl) ?_
  refine lv_aload_n hx hb dL_law_1642 rfl (lv_at hl 4 rfl) ?_
  refine lv_iload hx hb dL_law_1643 (lv_at hl 0 rfl) ?_
  refine lv_iconst (v := iI 1) hx hb dL_law_1645 rfl ?_
  refine z_add hx hb (z := ((i : Nat) : Int) + 1) dL_law_1646 rfl ?_
  refine z_sld hC hX hbl hS (k := i + 1) (by omega) (by omega) (by omega) dL_law_1647 ?_
  refine z_top (b := z1) e1 ?_
  refine lv_aload_n hx hb dL_law_1648 rfl (lv_at hl 1 rfl) ?_
  have hO0 : zO s H := hO.ext0 (zS_F hS)
  have hol := ho.lt
  have hok9 := hh.ok
  have hltM : ∀ z, FM G μ σ z → z < H.size := fun z hz => by obtain ⟨-, a, ha, rfl⟩ := hz; exact hm.lt hE hO0 a ha
  refine z_goX (Cc + 13) (Sc + 906) (z_runSw (As := [.ref (ρ (0, 0, 0)), .int (iI z1), .ref oa]) (rest := []) hC hml hl.1 (z_monW (m_X0_textN hE H (hO.ext0 (zS_F hS)) ρ σ z1 oa n9 d9 s9 hh hdm ho hoa hof hnc hz1)) (lw_SW q1417 q1418 q61 q1419) nd_X0_text rfl rfl (Nat.le_of_ble_eq_true rfl) ⟨Nat.le_of_ble_eq_true rfl, Nat.le_of_ble_eq_true rfl⟩ ⟨zfit (k := 13) (z := 601152) rfl rfl (by omega), zfit (k := 906) (z := 7254250) rfl rfl (by omega)⟩ dL_law_1649) ⟨zad (k := 13) rfl (by omega), zad (k := 906) rfl (by omega)⟩ hS (fun q z => Or.inr (by rw [← hH0]; exact z.elim (fun w => FC.ge hh.sep w) (fun w => by rw [w]; exact hoa))) (fun E ce q9 Hx1 locs hp hF hS1 hce hcv hcl => ?_) (fun r H2 locs hp hF hS1 => ?_)
  · exact hp.1.elim
  obtain ⟨⟨kk, rfl, σ1, n1, d1, s1, hpo, ho, hk1⟩, hmk⟩ := hp
  have hP : va_P G.1 zCl [] H2 := va_nil
  have hD : va_D (zA M0 H0) [] := va_nilD
  obtain ⟨ρ1, hh, e0, hdm, hm, hof, hdj⟩ := LI_cls hE hO0 hm hof hom hol hdj hdm hF hmk hpo
  have hP : va_P G.1 zCl ([]) H2 := hP
  have hD : va_D (zA M0 H0) ([]) := hD
  have hS := hS1
  refine lv_istore (lv' := [(5, .int (iI kk)), (4, .int (iI ((i : Nat) : Int))), (3, .ref oa), (2, .ref (μ (0, 0, 0))), (1, .ref (ρ (0, 0, 0))), (0, .ref b)]) hx hb dL_law_1652 hl (by decide) rfl (fun ls hl => ?_)
  refine lv_aload_n hx hb dL_law_1654 rfl (lv_at hl 3 rfl) ?_
  refine lv_aload_n hx hb dL_law_1655 rfl (lv_at hl 5 rfl) ?_
  refine lv_iload hx hb dL_law_1656 (lv_at hl 1 rfl) ?_
  refine lv_iconst (v := iI 1) hx hb dL_law_1658 rfl ?_
  refine z_add hx hb (z := ((i : Nat) : Int) + 1) dL_law_1659 rfl ?_
  refine z_sld hC hX hbl hS (k := i + 1) (by omega) (by omega) (by omega) dL_law_1660 ?_
  refine z_top (b := z1) e1 ?_
  have hO1 : zO s H2 := hO.ext0 (zS_F hS)
  have hol1 := ho.lt
  refine z_go ((Cc + 13) + 12) ((Sc + 906) + 900) (z_runV (As := [.int (iI z1)]) (rest := []) hC hml hl.1 (z_mon (m_X3_textN hE H2 (hO.ext0 (zS_F hS)) μ σ th z1 hm hz1)) (lw_V q1826 q1827 q1828 q67 q1829) rfl nd_X3_text rfl (z_rv hC (ci := 2) rfl hm.2.2.1.1 rfl) rfl (Nat.le_of_ble_eq_true rfl) ⟨Nat.le_of_ble_eq_true rfl, Nat.le_of_ble_eq_true rfl⟩ ⟨zfit (k := 12) (z := 601152) rfl rfl (by omega), zfit (k := 900) (z := 7254250) rfl rfl (by omega)⟩ dL_law_1661) ⟨zad (k := 12) rfl (by omega), zad (k := 900) rfl (by omega)⟩ hS (fun q z => Or.inr (by rw [← hH0]; exact FM.ge hm.sep z)) (fun r H3 locs hp hF hS1 => ?_)
  obtain ⟨⟨yb, rfl, k2, hpm, h2⟩, hmk⟩ := hp
  have hP : va_P G.1 zCl [] H3 := va_nil
  have hD : va_D (zA M0 H0) [] := va_nilD
  have ho := ho.ext hF hom
  have hF2 := hF
  obtain ⟨μ1, hm, em, hdm, hh, hom, hdj⟩ := LI_mdl hE hO1 hh hom hol1 hdj hdm hF hmk hpm
  have hP : va_P G.1 zCl ([]) H3 := hP
  have hD : va_D (zA M0 H0) ([]) := hD
  have hS := hS1
  have hag := z_agr (ex := [IOB]) (X := X_text σ z1) (σ2 := σ) (B := (∃ a : Nat, (z1 = a ∧ a < St_ne σ) ∧ zStrN G H2 yb (txF (St_n σ (St_ea σ a)) (St_ev σ a)) H3)) nd_1 (fun a E hX => by obtain ⟨-, q, a9, -, ⟨g1, g2⟩, -⟩ := a; exact hX.2 (by rw [g1]; exact inE_n g2)) (fun a E hX => by obtain ⟨a9, ⟨g1, g2⟩, -⟩ := a; exact hX.2 (by rw [g1]; exact inE_n g2)) (fun E E' a b => Xu_text a b) hk1 (h2.imp id (fun w => by obtain ⟨w1, w2⟩ := w; exact ⟨by omega, rfl, Nat.le_of_eq w1, by rw [w1]; exact ⟨rfl, w2⟩⟩))
  obtain ⟨ek, hk3, hkk⟩ := hag
  have hk3 : k2 ≤ 3 := Nat.le_trans hk3 (by decide)
  subst ek
  refine lv_astore (lv' := [(6, .ref yb), (5, .int (iI ((k2 : Nat) : Int))), (4, .int (iI ((i : Nat) : Int))), (3, .ref oa), (2, .ref (μ (0, 0, 0))), (1, .ref (ρ (0, 0, 0))), (0, .ref b)]) hx hb dL_law_1664 hl (by decide) rfl (fun ls hl => ?_)
  refine lv_aload_n hx hb dL_law_1666 rfl (lv_at hl 4 rfl) ?_
  rw [← em]
  refine z_go ((Cc + 13) + 12) ((Sc + 906) + 900) (z_runV (As := []) (rest := []) hC hml hl.1 (m_X3_thrown hE H3 (hO.ext0 (zS_F hS)) μ1 σ ((k2 : Nat) : Int) hm) (lw_V q1512 q1513 q1514 q67 q1515) rfl nd_X3_thrown rfl (z_rv hC (ci := 2) rfl hm.2.2.1.1 rfl) rfl (Nat.le_of_ble_eq_true rfl) ⟨Nat.le_of_ble_eq_true rfl, Nat.le_of_ble_eq_true rfl⟩ ⟨zfit (k := 0) (z := 601152) rfl rfl (by omega), zfit (k := 0) (z := 7254250) rfl rfl (by omega)⟩ dL_law_1667) ⟨zad (k := 0) rfl (by omega), zad (k := 0) rfl (by omega)⟩ hS (fun _ z => z.elim) (fun r H4 locs hp hF hS1 => ?_)
  obtain ⟨_, rfl, rfl⟩ := hp
  have hP : va_P G.1 zCl [] H4 := va_nil
  have hD : va_D (zA M0 H0) [] := va_nilD
  have hF3 := hF
  have hh := hh.ext0 hE hF
  have hm := hm.ext0 hE hF
  have hdm := hdm.ext0 hF
  have ho := ho.ext0 hF
  have hP : va_P G.1 zCl ([]) H4 := hP
  have hD : va_D (zA M0 H0) ([]) := hD
  have hS := hS1
  have hhF := hh
  have hmF := hm
  have hdmF := hdm
  have hoF := ho
  have hofF := hof
  have homF := hom
  have hdjF := hdj
  refine lv_iload hx hb dL_law_1670 (lv_at hl 1 rfl) ?_
  refine z_ceq (tgt := 1677) hx hb dL_law_1672 (by decide) (by omega) (fun c5 => ?_) (fun c5 => ?_)
  · refine lv_iload hx hb dL_law_1677 (lv_at hl 1 rfl) ?_
    refine z_zne (tgt := 1696) hx hb dL_law_1679 (by decide) (by omega) (fun c6 => ?_) (fun c6 => ?_)
    · obtain ⟨-, es1, -⟩ := hkk.resolve_left (fun w => by have := w.1; omega)
      subst es1
      refine lv_goto (tgt := 2435) hx hb dL_law_1696 (by decide) ?_
      exact W.widen (by omega) (by omega) (IH _ _ _ ρ1 μ1 _ _ n1 d1 s1 hhF hmF e0 em hdmF hoF hofF homF hdjF hS (lv_sub hl [2, 3, 4, 5, 6] rfl))
    · obtain ⟨k0, ⟨es, q9, a9, eq9, ⟨ea, ca⟩, hs1⟩, a8, ⟨ea8, ca8⟩, hs2⟩ := hkk.resolve_right (fun w => by have := w.1; omega)
      have qa : a8 = a9 := by omega
      subst qa
      subst eq9
      have hs1 := (hs1.ext hF2 hltM).ext hF3 (fun _ z => z.elim)
      have hs2 := hs2.ext hF3 (fun _ z => z.elim)
      have hrw := (hok9.2.2.2.2.1 a8 ca).2
      have hn9 : St_n σ (St_ea σ a8) ≤ 16 := by have h8 := (hok9.2.2.1 _ (hok9.2.2.2.2.1 a8 ca).1).2.1; exact Nat.pow_le_pow_right (by decide) h8
      have hp8 : St_p σ ≤ 7 := by rcases hp9 with h | h | h <;> rw [h] <;> decide
      have hlen9 := txF_len9 (St_n σ (St_ea σ a8)) (St_ev σ a8) hn9
      have hin9 := txF_in (n := St_n σ (St_ea σ a8)) (v := St_ev σ a8) hn9 (fun j hj => Int.lt_of_lt_of_le (hrw j hj).2 hp8)
      subst es
      refine lv_aload_n hx hb dL_law_1682 rfl (lv_at hl 3 rfl) ?_
      refine z_getn hC (k := 2) rfl in_X4 hoF (by decide) q888 (fun _ h => h) rfl dL_law_1683 ?_
      refine lv_aload hx hb dL_law_1686 (lv_at hl 0 rfl) ?_
      rcases hs1 with ⟨hn1, b1, p1, dd1⟩ | ⟨eq1, l1⟩
      · rcases hs2 with ⟨hn2, b2, p2, dd2⟩ | ⟨eq2, l2⟩
        · refine z_go ((Cc + 13) + 12) ((Sc + 906) + 900) (z_runV (As := [.ref yb]) (rest := []) hC hml hl.1 (m_J14_equals hE H4 (hO.ext0 (zS_F hS)) q9 b1 yb b2 _ (p1 0 _ rfl) (p1 1 _ rfl) hlen9 (p2 0 _ rfl) (p2 1 _ rfl) hin9) (lw_V q1945 q490 q1960 q85 q491) rfl nd_J14_equals rfl (z_rv hC (ci := 12) rfl (p1 0 _ rfl) rfl) rfl (Nat.le_of_ble_eq_true rfl) ⟨Nat.le_of_ble_eq_true rfl, Nat.le_of_ble_eq_true rfl⟩ ⟨zfit (k := 0) (z := 601152) rfl rfl (by omega), zfit (k := 0) (z := 7254250) rfl rfl (by omega)⟩ dL_law_1688) ⟨zad (k := 0) rfl (by omega), zad (k := 0) rfl (by omega)⟩ hS (fun _ z => z.elim) (fun r H7 locs hp hF hS1 => ?_)
          obtain ⟨_, rfl, rfl⟩ := hp
          have hP : va_P G.1 zCl [] H7 := va_nil
          have hD : va_D (zA M0 H0) [] := va_nilD
          have hhF := hhF.ext0 hE hF
          have hmF := hmF.ext0 hE hF
          have hdmF := hdmF.ext0 hF
          have hoF := hoF.ext0 hF
          have hP : va_P G.1 zCl ([]) H7 := hP
          have hD : va_D (zA M0 H0) ([]) := hD
          have hS := hS1
          refine z_zne (tgt := 1696) hx hb dL_law_1691 (by decide) (by omega) (fun c8 => ?_) (fun c8 => ?_)
          · refine lv_goto (tgt := 2435) hx hb dL_law_1696 (by decide) ?_
            exact W.widen (by omega) (by omega) (IH _ _ _ ρ1 μ1 _ _ n1 d1 _ hhF hmF e0 em hdmF hoF hofF homF hdjF hS (lv_sub hl [2, 3, 4, 5, 6] rfl))
          · omega
        · exact absurd l2 hn1
      · rcases hs2 with ⟨hn2, b2, p2, dd2⟩ | ⟨eq2, l2⟩
        · exact absurd l1 hn2
        · subst eq1
          subst eq2
          have hO3 : zO s H4 := hO.ext0 (zS_F hS)
          refine z_go ((Cc + 13) + 12) ((Sc + 906) + 900) (z_runV (As := [.ref (G.2 17)]) (rest := []) hC hml hl.1 (m_J14_equals_1 hE H4 (hO.ext0 (zS_F hS)) (G.2 17) ) (lw_V q1945 q490 q1960 q85 q491) rfl nd_J14_equals rfl (z_rs0 hE hC.w hO3) rfl (Nat.le_of_ble_eq_true rfl) ⟨Nat.le_of_ble_eq_true rfl, Nat.le_of_ble_eq_true rfl⟩ ⟨zfit (k := 0) (z := 601152) rfl rfl (by omega), zfit (k := 0) (z := 7254250) rfl rfl (by omega)⟩ dL_law_1688) ⟨zad (k := 0) rfl (by omega), zad (k := 0) rfl (by omega)⟩ hS (fun _ z => z.elim) (fun r H9 locs hp hF hS1 => ?_)
          obtain ⟨_, rfl, rfl⟩ := hp
          have hP : va_P G.1 zCl [] H9 := va_nil
          have hD : va_D (zA M0 H0) [] := va_nilD
          have hhF := hhF.ext0 hE hF
          have hmF := hmF.ext0 hE hF
          have hdmF := hdmF.ext0 hF
          have hoF := hoF.ext0 hF
          have hP : va_P G.1 zCl ([]) H9 := hP
          have hD : va_D (zA M0 H0) ([]) := hD
          have hS := hS1
          refine z_zne (tgt := 1696) hx hb dL_law_1691 (by decide) (by omega) (fun c10 => ?_) (fun c10 => ?_)
          · refine lv_goto (tgt := 2435) hx hb dL_law_1696 (by decide) ?_
            exact W.widen (by omega) (by omega) (IH _ _ _ ρ1 μ1 _ _ n1 d1 _ hhF hmF e0 em hdmF hoF hofF homF hdjF hS (lv_sub hl [2, 3, 4, 5, 6] rfl))
          · omega
  · omega

