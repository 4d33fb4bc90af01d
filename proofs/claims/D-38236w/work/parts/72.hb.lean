/-! THE MODEL: its algebras -/
set_option maxRecDepth 100000
theorem md_abc {p a b c : Int} (hb : 0 ≤ b) : (a + Int.tmod b p * c) % p = (a + b * c) % p := by
  rw [Int.tmod_eq_emod_of_nonneg hb, Int.add_emod, Int.mul_emod, Int.emod_emod_of_dvd _ (Int.dvd_refl p), ← Int.mul_emod, ← Int.add_emod]
theorem md_neg {p a b : Int} : ((p - a) * b) % p = (-a * b) % p := by
  rw [Int.sub_mul, Int.neg_mul, show p * b - a * b = -(a * b) + b * p by rw [Int.mul_comm p b]; omega, Int.add_mul_emod_self_right]
theorem trn_in2 (kd k : Nat) : -1 ≤ trn kd k ∧ trn kd k ≤ 1 := by rcases trn_in kd k with h | h <;> rw [h] <;> decide
abbrev rm_m_X6_units : Room := { frames := 0, cells := 0, slots := 0, locals := 0 }
set_option maxHeartbeats 4000000 in
theorem m_X6_units {l : Launch} {s0 : State} {G : zG} (hE : zE l s0 G) (H0 : Heap) (hO : zO s0 H0) (g dl so ml x kd d : Nat) (hg0 : zAt G g (zOb 5 [.int (iI (kd : Int)), .ref dl, .ref so, .int (iI (d : Int)), .ref ml, .ref x]) H0) (hd : d ≤ 4) : zM l s0 yX6_units cX6_units 1 (some FieldType.int) rm_m_X6_units [.ref g] H0 M0 (ri (fun y _ => y = (2 ^ d : Nat))) := by
  refine z_met hE (by decide +kernel) (Nat.le_of_ble_eq_true rfl) ?_
  intro pp ee ss mm args below meth cd Q ls hC hml hrt hlk hnm hH hQ hS hl
  have hx := hC.x
  have hb := hC.b
  have hl : lv_has ls 1 [(0, .ref g)] := hl
  have hP : va_P G.1 zCl [] H0 := va_nil
  have hD : va_D (zA M0 H0) [] := va_nilD
  have h2d : 2 ^ d ≤ 2 ^ 4 := Nat.pow_le_pow_right (by decide) hd
  refine lv_iconst (v := iI 1) hx hb dX6_units_0 rfl ?_
  refine lv_aload_n hx hb dX6_units_1 rfl (lv_at hl 0 rfl) ?_
  refine z_get hC (k := 3) rfl in_X6 (zo hS hg0 id) (by decide) q1554 (fun _ h => h) rfl dX6_units_2 ?_
  refine z_shl hx hb (i := 1) (j := d) (n := 1 * 2 ^ d) dX6_units_5 rfl rfl (by omega) rfl ?_
  refine z_top (b := ((2 ^ d : Nat) : Int)) (by rw [Nat.one_mul]) ?_
  exact z_iret hC hrt hlk hQ hS ⟨zle (z := 0) rfl (by omega), zle (z := 0) rfl (by omega)⟩ ⟨_, rfl, rfl⟩ dX6_units_6

abbrev rm_m_X6_conjugate : Room := { frames := 1, cells := 0, slots := 0, locals := 22 }
set_option maxHeartbeats 4000000 in
theorem m_X6_conjugate {l : Launch} {s0 : State} {G : zG} (hE : zE l s0 G) (H0 : Heap) (hO : zO s0 H0) (g dl so ml x kd d : Nat) (u : Nat) (hg0 : zAt G g (zOb 5 [.int (iI (kd : Int)), .ref dl, .ref so, .int (iI (d : Int)), .ref ml, .ref x]) H0) (hk : kd < 2 ∧ u < 16) : zM l s0 yX6_conjugate cX6_conjugate 3 (some FieldType.int) rm_m_X6_conjugate [.ref g, .int (iI ((u : Nat) : Int))] H0 M0 (ri (fun y _ => y = trn kd u)) := by
  refine z_met hE (by decide +kernel) (Nat.le_of_ble_eq_true rfl) ?_
  intro pp ee ss mm args below meth cd Q ls hC hml hrt hlk hnm hH hQ hS hl
  have hx := hC.x
  have hb := hC.b
  have hl : lv_has ls 3 [(0, .ref g), (1, .int (iI ((u : Nat) : Int)))] := hl
  have hP : va_P G.1 zCl [] H0 := va_nil
  have hD : va_D (zA M0 H0) [] := va_nilD
  refine lv_aload_n hx hb dX6_conjugate_0 rfl (lv_at hl 0 rfl) ?_
  refine z_get hC (k := 0) rfl in_X6 (zo hS hg0 id) (by decide) q1548 (fun _ h => h) rfl dX6_conjugate_1 ?_
  refine z_zne (tgt := 17) hx hb dX6_conjugate_4 (by decide) (by omega) (fun c1 => ?_) (fun c1 => ?_)
  · refine lv_iload_n hx hb dX6_conjugate_17 rfl (lv_at hl 1 rfl) ?_
    refine z_go 0 0 (z_runSN (As := [.int (iI ((u : Nat) : Int))]) (rest := []) hC hml hl.1 (m_X3_grade hE H0 (hO.ext0 (zS_F hS)) u hk.2) q1618 q67 q1616 q1617 nd_X3_grade rfl rfl (Nat.le_of_ble_eq_true rfl) ⟨Nat.le_of_ble_eq_true rfl, Nat.le_of_ble_eq_true rfl⟩ ⟨zfit (k := 0) (z := 0) rfl rfl (by omega), zfit (k := 0) (z := 0) rfl rfl (by omega)⟩ dX6_conjugate_18) ⟨zad (k := 0) rfl (by omega), zad (k := 0) rfl (by omega)⟩ hS (fun _ z => z.elim) (fun r H2 locs hp hF hS1 => ?_)
    obtain ⟨_, rfl, rfl⟩ := hp
    have hP := zpk hP hF
    have hP : va_P G.1 zCl ([]) H2 := hP
    have hD : va_D (zA M0 H0) ([]) := hD
    have hS := hS1
    have hbk : bitc u ≤ 4 := by unfold bitc; omega
    refine lv_iconst (v := iI 4) hx hb dX6_conjugate_21 rfl ?_
    refine z_rem hx hb (z := Int.tmod ((bitc u : Nat) : Int) 4) dX6_conjugate_22 (by omega) rfl ?_
    refine z_top (b := ((bitc u % 4 : Nat) : Int)) (rfl) ?_
    refine lv_istore_n (lv' := [(2, .int (iI ((bitc u % 4 : Nat) : Int))), (0, .ref g), (1, .int (iI ((u : Nat) : Int)))]) hx hb dX6_conjugate_23 rfl hl (by decide) rfl (fun ls hl => ?_)
    refine lv_iload_n hx hb dX6_conjugate_24 rfl (lv_at hl 0 rfl) ?_
    refine lv_iconst (v := iI 1) hx hb dX6_conjugate_25 rfl ?_
    refine z_ceq (tgt := 34) hx hb dX6_conjugate_26 (by decide) (by omega) (fun c3 => ?_) (fun c3 => ?_)
    · refine lv_iconst (v := iI (-1)) hx hb dX6_conjugate_34 rfl ?_
      refine lv_goto (tgt := 39) hx hb dX6_conjugate_35 (by decide) ?_
      exact z_iret hC hrt hlk hQ hS ⟨zle (z := 0) rfl (by omega), zle (z := 0) rfl (by omega)⟩ ⟨_, rfl, by unfold trn; rw [if_neg (by omega), if_pos (by omega)]⟩ dX6_conjugate_39
    · refine lv_iload_n hx hb dX6_conjugate_29 rfl (lv_at hl 0 rfl) ?_
      refine lv_iconst (v := iI 2) hx hb dX6_conjugate_30 rfl ?_
      refine z_cne (tgt := 38) hx hb dX6_conjugate_31 (by decide) (by omega) (fun c4 => ?_) (fun c4 => ?_)
      · refine lv_iconst (v := iI 1) hx hb dX6_conjugate_38 rfl ?_
        exact z_iret hC hrt hlk hQ hS ⟨zle (z := 0) rfl (by omega), zle (z := 0) rfl (by omega)⟩ ⟨_, rfl, by unfold trn; rw [if_neg (by omega), if_neg (by omega)]⟩ dX6_conjugate_39
      · refine lv_iconst (v := iI (-1)) hx hb dX6_conjugate_34 rfl ?_
        refine lv_goto (tgt := 39) hx hb dX6_conjugate_35 (by decide) ?_
        exact z_iret hC hrt hlk hQ hS ⟨zle (z := 0) rfl (by omega), zle (z := 0) rfl (by omega)⟩ ⟨_, rfl, by unfold trn; rw [if_neg (by omega), if_pos (by omega)]⟩ dX6_conjugate_39
  · refine lv_iload_n hx hb dX6_conjugate_7 rfl (lv_at hl 1 rfl) ?_
    refine z_zne (tgt := 15) hx hb dX6_conjugate_8 (by decide) (by omega) (fun c5 => ?_) (fun c5 => ?_)
    · refine lv_iconst (v := iI (-1)) hx hb dX6_conjugate_15 rfl ?_
      exact z_iret hC hrt hlk hQ hS ⟨zle (z := 0) rfl (by omega), zle (z := 0) rfl (by omega)⟩ ⟨_, rfl, by unfold trn; rw [if_pos (by omega), if_neg (by omega)]⟩ dX6_conjugate_16
    · refine lv_iconst (v := iI 1) hx hb dX6_conjugate_11 rfl ?_
      refine lv_goto (tgt := 16) hx hb dX6_conjugate_12 (by decide) ?_
      exact z_iret hC hrt hlk hQ hS ⟨zle (z := 0) rfl (by omega), zle (z := 0) rfl (by omega)⟩ ⟨_, rfl, by unfold trn; rw [if_pos (by omega), if_pos (by omega)]⟩ dX6_conjugate_16

abbrev rm_m_X6_conjugated : Room := { frames := 2, cells := 1, slots := 16, locals := 44 }
set_option maxHeartbeats 4000000 in
theorem m_X6_conjugated {l : Launch} {s0 : State} {G : zG} (hE : zE l s0 G) (H0 : Heap) (hO : zO s0 H0) (μ : Ro → Nat) (σ : St) (th : Int) (k : Nat) (a : Nat) (v : Nat → Int) (hh : HM G s0 μ σ th H0) (hk : k < St_na σ) (h : zAt G a (zI G (St_n σ k) v) H0) (hv : rw_ok (St_p σ) (St_n σ k) v) : zM l s0 yX6_conjugated cX6_conjugated 4 (some (FieldType.array FieldType.int)) rm_m_X6_conjugated [.ref (μ (6, k, 0)), .ref a] H0 M0 (rr (fun q h1 => NW G H0 h1 [(q, zI G (St_n σ k) (cjV (St_p σ) (St_kd σ k) v))])) := by
  refine z_met hE (by decide +kernel) (Nat.le_of_ble_eq_true rfl) ?_
  intro pp ee ss mm args below meth cd Q ls hC hml hrt hlk hnm hH hQ hS hl
  have hx := hC.x
  have hb := hC.b
  have hl : lv_has ls 4 [(0, .ref (μ (6, k, 0))), (1, .ref a)] := hl
  have hP : va_P G.1 zCl [] H0 := va_nil
  have hD : va_D (zA M0 H0) [] := va_nilD
  have hH1 := hh
  obtain ⟨hp, hna, hal, hne9, hel9, hmr9⟩ := id hh.ok
  have hp7 : 0 < St_p σ ∧ St_p σ ≤ 7 := by rcases hp with h | h | h <;> rw [h] <;> decide
  have hH1 : HM G s0 μ σ th H0 := hh.ext0 hE (zS_F hS)
  have hAk := hH1.al (k := k) hk
  have hn16k := hH1.n (k := k) hk
  have hn16 := hh.n hk
  have hdk := hal k hk
  have hsg9 := fun i j => St_sg_in (k := k) hh.ok i j
  refine lv_aload_n hx hb dX6_conjugated_0 rfl (lv_at hl 0 rfl) ?_
  have hH1 : HM G s0 μ σ th H0 := hh.ext0 hE (zS_F hS)
  have hUk := hH1.al (k := k) hk
  refine z_go 0 0 (z_runV (As := []) (rest := []) hC hml hl.1 (m_X6_units hE H0 (hO.ext0 (zS_F hS)) (μ (6, k, 0)) (μ (7, k, 0)) (μ (11, k, 0)) (μ (9, k, 0)) (μ (0, 0, 0)) (St_kd σ k) (St_d σ k) hUk.1 (hal k hk).2.1) (lw_V q1603 q1604 q1605 q82 q1606) rfl nd_X6_units rfl (z_rv hC (ci := 5) rfl hUk.1 rfl) rfl (Nat.le_of_ble_eq_true rfl) ⟨Nat.le_of_ble_eq_true rfl, Nat.le_of_ble_eq_true rfl⟩ ⟨zfit (k := 0) (z := 1) rfl rfl (by omega), zfit (k := 0) (z := 16) rfl rfl (by omega)⟩ dX6_conjugated_1) ⟨zad (k := 0) rfl (by omega), zad (k := 0) rfl (by omega)⟩ hS (fun _ z => z.elim) (fun r H1 locs hp hF hS1 => ?_)
  obtain ⟨_, rfl, rfl⟩ := hp
  have hP := zpk hP hF
  have hP : va_P G.1 zCl ([]) H1 := hP
  have hD : va_D (zA M0 H0) ([]) := hD
  have hS := hS1
  refine z_newi hC hP hD hS (N := St_n σ k) (c1 := 1) (s1 := 16) rfl (by omega) ⟨zle (z := 1) rfl (by omega), zle (z := 16) rfl (by omega)⟩ ⟨by omega, by omega⟩ (ws' := fun q2 => [(q2, zI G (St_n σ k) (fun _ => 0))]) (fun _ => rfl) dX6_conjugated_4 (fun q2 H3 hq0q2 hq1q2 hP hD hS hF => ?_)
  refine lv_astore_n (lv' := [(2, .ref q2), (0, .ref (μ (6, k, 0))), (1, .ref a)]) hx hb dX6_conjugated_6 rfl hl (by decide) rfl (fun ls hl => ?_)
  refine lv_iconst (v := iI 0) hx hb dX6_conjugated_7 rfl ?_
  refine lv_istore_n (lv' := [(3, .int (iI 0)), (2, .ref q2), (0, .ref (μ (6, k, 0))), (1, .ref a)]) hx hb dX6_conjugated_8 rfl hl (by decide) rfl (fun ls hl => ?_)
  have hH1 : HM G s0 μ σ th H3 := hh.ext0 hE (zS_F hS)
  have hAk := hH1.al (k := k) hk
  have hn16k := hH1.n (k := k) hk
  have lp4 : ∀ (dlp4 : Nat) (k9 : Nat) (f : Nat → Int), St_n σ k - k9 = dlp4 → (k9 ≤ St_n σ k) → (∀ j, j < k9 → f j = (cjV (St_p σ) (St_kd σ k) v) j) → ∀ (H5 : Heap) (locs : List Loc) (ls : Array Slot), va_P G.1 zCl ([(q2, zI G (St_n σ k) f)]) H5 → va_D (zA M0 H0) ([(q2, zI G (St_n σ k) f)]) → va_S (zA M0 H0) H0 H5 locs → lv_has ls 4 [(3, .int (iI ((k9 : Nat) : Int))), (2, .ref q2), (0, .ref (μ (6, k, 0))), (1, .ref a)] → W pp l ee rm_m_X6_conjugated ss mm args below meth cd H5 locs 1 16 Q (F0 mm 9 ls []) := by
    intro dlp4
    induction dlp4 using Nat.strongRecOn with
    | ind dlp4 ihlp4 =>
      intro k9 f hdlp4 hk9 hf H5 locs ls  hP hD hS hl
      have hH1 : HM G s0 μ σ th H5 := hh.ext0 hE (zS_F hS)
      have hAk := hH1.al (k := k) hk
      have hn16k := hH1.n (k := k) hk
      refine lv_iload_n hx hb dX6_conjugated_9 rfl (lv_at hl 0 rfl) ?_
      refine lv_aload_n hx hb dX6_conjugated_10 rfl (lv_at hl 1 rfl) ?_
      refine z_alen hC 0 (hP 0 _ rfl) rfl (y := ((St_n σ k : Nat) : Int)) rfl dX6_conjugated_11 ?_
      refine z_cge (tgt := 40) hx hb dX6_conjugated_12 (by decide) (by omega) (fun c6 => ?_) (fun c6 => ?_)
      · refine lv_aload_n hx hb dX6_conjugated_40 rfl (lv_at hl 1 rfl) ?_
        have hP : va_P G.1 zCl ([(q2, zI G (St_n σ k) (cjV (St_p σ) (St_kd σ k) v))]) H5 := zcI hP 0 rfl (fun j hj => hf j (by omega))
        have hD : va_D (zA M0 H0) ([(q2, zI G (St_n σ k) (cjV (St_p σ) (St_kd σ k) v))]) := hD.set (p := 0) rfl
        exact z_aretA hC hrt hlk hQ hS ⟨zle (z := 1) rfl (by omega), zle (z := 16) rfl (by omega)⟩ ⟨_, rfl, hP, zdn hD⟩ dX6_conjugated_41
      · have hvk := hv k9 (by omega)
        have htk := trn_in2 (St_kd σ k) k9
        have hb2 : -70 ≤ trn (St_kd σ k) k9 * v k9 ∧ trn (St_kd σ k) k9 * v k9 ≤ 70 := zmulb (by omega) hvk hp7
        have hb3 : v k9 * trn (St_kd σ k) k9 = trn (St_kd σ k) k9 * v k9 := Int.mul_comm _ _
        refine lv_aload_n hx hb dX6_conjugated_15 rfl (lv_at hl 1 rfl) ?_
        refine lv_iload_n hx hb dX6_conjugated_16 rfl (lv_at hl 0 rfl) ?_
        refine lv_aload_n hx hb dX6_conjugated_17 rfl (lv_at hl 2 rfl) ?_
        refine z_get hC (k := 5) rfl in_X6 hAk.1 (by decide) q1558 (fun _ h => h) rfl dX6_conjugated_18 ?_
        refine lv_aload_n hx hb dX6_conjugated_21 rfl (lv_at hl 3 rfl) ?_
        refine lv_iload_n hx hb dX6_conjugated_22 rfl (lv_at hl 0 rfl) ?_
        refine z_iald hC (zo hS h id) (k := k9) rfl (by omega) (y := v k9) rfl dX6_conjugated_23 ?_
        refine lv_aload_n hx hb dX6_conjugated_24 rfl (lv_at hl 2 rfl) ?_
        refine lv_iload_n hx hb dX6_conjugated_25 rfl (lv_at hl 0 rfl) ?_
        have hH1 : HM G s0 μ σ th H5 := hh.ext0 hE (zS_F hS)
        have hc9 := hH1.al (k := k) hk
        refine z_go 1 16 (z_runV (As := [.int (iI ((k9 : Nat) : Int))]) (rest := [.int (iI (v k9)), .ref (μ (0, 0, 0)), .int (iI ((k9 : Nat) : Int)), .ref q2]) hC hml hl.1 (m_X6_conjugate hE H5 (hO.ext0 (zS_F hS)) (μ (6, k, 0)) (μ (7, k, 0)) (μ (11, k, 0)) (μ (9, k, 0)) (μ (0, 0, 0)) (St_kd σ k) (St_d σ k) k9 hc9.1 ⟨hdk.1, by omega⟩) (lw_V q1612 q1613 q1614 q82 q1615) rfl nd_X6_conjugate rfl (z_rv hC (ci := 5) rfl hc9.1 rfl) rfl (Nat.le_of_ble_eq_true rfl) ⟨Nat.le_of_ble_eq_true rfl, Nat.le_of_ble_eq_true rfl⟩ ⟨zfit (k := 0) (z := 1) rfl rfl (by omega), zfit (k := 0) (z := 16) rfl rfl (by omega)⟩ dX6_conjugated_26) ⟨zad (k := 0) rfl (by omega), zad (k := 0) rfl (by omega)⟩ hS (fun _ z => z.elim) (fun r H7 locs hp hF hS1 => ?_)
        obtain ⟨_, rfl, rfl⟩ := hp
        have hP := zpk hP hF
        have hP : va_P G.1 zCl ([(q2, zI G (St_n σ k) f)]) H7 := hP
        have hD : va_D (zA M0 H0) ([(q2, zI G (St_n σ k) f)]) := hD
        have hS := hS1
        refine z_mul hx hb (z := (v k9) * (trn (St_kd σ k) k9)) dX6_conjugated_29 rfl ?_
        refine z_top (b := trn (St_kd σ k) k9 * v k9) (Int.mul_comm _ _) ?_
        have hH1 : HM G s0 μ σ th H7 := hh.ext0 hE (zS_F hS)
        refine z_go 1 16 (z_runVN (As := [.int (iI (trn (St_kd σ k) k9 * v k9))]) (rest := [.int (iI ((k9 : Nat) : Int)), .ref q2]) hC hml hl.1 (m_X3_mod hE H7 (hO.ext0 (zS_F hS)) (μ (0, 0, 0)) (μ (1, 0, 0)) (μ (3, 0, 0)) th (St_p σ) (St_kn σ) (trn (St_kd σ k) k9 * v k9) hH1.2.2.1.1 hp (by omega)) q1622 q67 q1619 q1621 qs33 nd_X3_mod rfl (z_rv hC (ci := 2) rfl hH1.2.2.1.1 rfl) rfl (Nat.le_of_ble_eq_true rfl) ⟨Nat.le_of_ble_eq_true rfl, Nat.le_of_ble_eq_true rfl⟩ ⟨zfit (k := 0) (z := 1) rfl rfl (by omega), zfit (k := 0) (z := 16) rfl rfl (by omega)⟩ dX6_conjugated_30) ⟨zad (k := 0) rfl (by omega), zad (k := 0) rfl (by omega)⟩ hS (fun _ z => z.elim) (fun r H8 locs hp hF hS1 => ?_)
        obtain ⟨_, rfl, rfl⟩ := hp
        have hP := zpk hP hF
        have hP : va_P G.1 zCl ([(q2, zI G (St_n σ k) f)]) H8 := hP
        have hD : va_D (zA M0 H0) ([(q2, zI G (St_n σ k) f)]) := hD
        have hS := hS1
        refine z_iast hC hP hD hS 0 (k := k9) rfl rfl (by omega) (ws' := [(q2, zI G (St_n σ k) (va_up f k9 ((trn (St_kd σ k) k9 * v k9) % St_p σ)))]) rfl dX6_conjugated_33 (fun H9 locs hP hD hS => ?_)
        refine z_iinc (z := ((k9 + 1 : Nat) : Int)) (lv' := [(3, .int (iI ((k9 + 1 : Nat) : Int))), (2, .ref q2), (0, .ref (μ (6, k, 0))), (1, .ref a)]) hx hb dX6_conjugated_34 hl (k := 0) rfl (by omega) (by decide) rfl (fun ls hl => ?_)
        refine lv_goto (tgt := 9) hx hb dX6_conjugated_37 (by decide) ?_
        exact W.widen (by omega) (by omega) (ihlp4 (St_n σ k - (k9 + 1)) (by omega) (k9 + 1) (va_up f k9 ((trn (St_kd σ k) k9 * v k9) % St_p σ)) rfl (by omega) (fun j hj => if e : j = k9 then by subst e; rw [va_up_self]; rfl else by rw [va_up_ne _ _ e]; exact hf j (by omega)) _ _ _  hP hD hS hl)
  exact W.widen (by omega) (by omega) (lp4 _ 0 (fun _ => 0) rfl (Nat.zero_le _) (fun j hj => absurd hj (Nat.not_lt_zero j)) _ _ _  hP hD hS hl)

abbrev rm_m_X6_scaled : Room := { frames := 1, cells := 1, slots := 16, locals := 21 }
set_option maxHeartbeats 4000000 in
theorem m_X6_scaled {l : Launch} {s0 : State} {G : zG} (hE : zE l s0 G) (H0 : Heap) (hO : zO s0 H0) (μ : Ro → Nat) (σ : St) (th : Int) (k : Nat) (a : Nat) (v : Nat → Int) (t : Int) (hh : HM G s0 μ σ th H0) (hk : k < St_na σ) (h : zAt G a (zI G (St_n σ k) v) H0) (hv : rw_ok (St_p σ) (St_n σ k) v) (ht : -10 ≤ t ∧ t ≤ 10) : zM l s0 yX6_scaled cX6_scaled 5 (some (FieldType.array FieldType.int)) rm_m_X6_scaled [.ref (μ (6, k, 0)), .ref a, .int (iI t)] H0 M0 (rr (fun q h1 => NW G H0 h1 [(q, zI G (St_n σ k) (scV (St_p σ) t v))])) := by
  refine z_met hE (by decide +kernel) (Nat.le_of_ble_eq_true rfl) ?_
  intro pp ee ss mm args below meth cd Q ls hC hml hrt hlk hnm hH hQ hS hl
  have hx := hC.x
  have hb := hC.b
  have hl : lv_has ls 5 [(0, .ref (μ (6, k, 0))), (1, .ref a), (2, .int (iI t))] := hl
  have hP : va_P G.1 zCl [] H0 := va_nil
  have hD : va_D (zA M0 H0) [] := va_nilD
  have hH1 := hh
  obtain ⟨hp, hna, hal, hne9, hel9, hmr9⟩ := id hh.ok
  have hp7 : 0 < St_p σ ∧ St_p σ ≤ 7 := by rcases hp with h | h | h <;> rw [h] <;> decide
  have hH1 : HM G s0 μ σ th H0 := hh.ext0 hE (zS_F hS)
  have hAk := hH1.al (k := k) hk
  have hn16k := hH1.n (k := k) hk
  have hn16 := hh.n hk
  have hdk := hal k hk
  have hsg9 := fun i j => St_sg_in (k := k) hh.ok i j
  refine lv_aload_n hx hb dX6_scaled_0 rfl (lv_at hl 0 rfl) ?_
  have hH1 : HM G s0 μ σ th H0 := hh.ext0 hE (zS_F hS)
  have hUk := hH1.al (k := k) hk
  refine z_go 0 0 (z_runV (As := []) (rest := []) hC hml hl.1 (m_X6_units hE H0 (hO.ext0 (zS_F hS)) (μ (6, k, 0)) (μ (7, k, 0)) (μ (11, k, 0)) (μ (9, k, 0)) (μ (0, 0, 0)) (St_kd σ k) (St_d σ k) hUk.1 (hal k hk).2.1) (lw_V q1603 q1604 q1605 q82 q1606) rfl nd_X6_units rfl (z_rv hC (ci := 5) rfl hUk.1 rfl) rfl (Nat.le_of_ble_eq_true rfl) ⟨Nat.le_of_ble_eq_true rfl, Nat.le_of_ble_eq_true rfl⟩ ⟨zfit (k := 0) (z := 1) rfl rfl (by omega), zfit (k := 0) (z := 16) rfl rfl (by omega)⟩ dX6_scaled_1) ⟨zad (k := 0) rfl (by omega), zad (k := 0) rfl (by omega)⟩ hS (fun _ z => z.elim) (fun r H1 locs hp hF hS1 => ?_)
  obtain ⟨_, rfl, rfl⟩ := hp
  have hP := zpk hP hF
  have hP : va_P G.1 zCl ([]) H1 := hP
  have hD : va_D (zA M0 H0) ([]) := hD
  have hS := hS1
  refine z_newi hC hP hD hS (N := St_n σ k) (c1 := 1) (s1 := 16) rfl (by omega) ⟨zle (z := 1) rfl (by omega), zle (z := 16) rfl (by omega)⟩ ⟨by omega, by omega⟩ (ws' := fun q2 => [(q2, zI G (St_n σ k) (fun _ => 0))]) (fun _ => rfl) dX6_scaled_4 (fun q2 H3 hq0q2 hq1q2 hP hD hS hF => ?_)
  refine lv_astore_n (lv' := [(3, .ref q2), (0, .ref (μ (6, k, 0))), (1, .ref a), (2, .int (iI t))]) hx hb dX6_scaled_6 rfl hl (by decide) rfl (fun ls hl => ?_)
  refine lv_iconst (v := iI 0) hx hb dX6_scaled_7 rfl ?_
  refine lv_istore (lv' := [(4, .int (iI 0)), (3, .ref q2), (0, .ref (μ (6, k, 0))), (1, .ref a), (2, .int (iI t))]) hx hb dX6_scaled_8 hl (by decide) rfl (fun ls hl => ?_)
  have hH1 : HM G s0 μ σ th H3 := hh.ext0 hE (zS_F hS)
  have hAk := hH1.al (k := k) hk
  have hn16k := hH1.n (k := k) hk
  have lp4 : ∀ (dlp4 : Nat) (k9 : Nat) (f : Nat → Int), St_n σ k - k9 = dlp4 → (k9 ≤ St_n σ k) → (∀ j, j < k9 → f j = (scV (St_p σ) t v) j) → ∀ (H5 : Heap) (locs : List Loc) (ls : Array Slot), va_P G.1 zCl ([(q2, zI G (St_n σ k) f)]) H5 → va_D (zA M0 H0) ([(q2, zI G (St_n σ k) f)]) → va_S (zA M0 H0) H0 H5 locs → lv_has ls 5 [(4, .int (iI ((k9 : Nat) : Int))), (3, .ref q2), (0, .ref (μ (6, k, 0))), (1, .ref a), (2, .int (iI t))] → W pp l ee rm_m_X6_scaled ss mm args below meth cd H5 locs 1 16 Q (F0 mm 10 ls []) := by
    intro dlp4
    induction dlp4 using Nat.strongRecOn with
    | ind dlp4 ihlp4 =>
      intro k9 f hdlp4 hk9 hf H5 locs ls  hP hD hS hl
      have hH1 : HM G s0 μ σ th H5 := hh.ext0 hE (zS_F hS)
      have hAk := hH1.al (k := k) hk
      have hn16k := hH1.n (k := k) hk
      refine lv_iload hx hb dX6_scaled_10 (lv_at hl 0 rfl) ?_
      refine lv_aload_n hx hb dX6_scaled_12 rfl (lv_at hl 1 rfl) ?_
      refine z_alen hC 0 (hP 0 _ rfl) rfl (y := ((St_n σ k : Nat) : Int)) rfl dX6_scaled_13 ?_
      refine z_cge (tgt := 40) hx hb dX6_scaled_14 (by decide) (by omega) (fun c6 => ?_) (fun c6 => ?_)
      · refine lv_aload_n hx hb dX6_scaled_40 rfl (lv_at hl 1 rfl) ?_
        have hP : va_P G.1 zCl ([(q2, zI G (St_n σ k) (scV (St_p σ) t v))]) H5 := zcI hP 0 rfl (fun j hj => hf j (by omega))
        have hD : va_D (zA M0 H0) ([(q2, zI G (St_n σ k) (scV (St_p σ) t v))]) := hD.set (p := 0) rfl
        exact z_aretA hC hrt hlk hQ hS ⟨zle (z := 1) rfl (by omega), zle (z := 16) rfl (by omega)⟩ ⟨_, rfl, hP, zdn hD⟩ dX6_scaled_41
      · have hvk := hv k9 (by omega)
        have hb2 : -70 ≤ t * v k9 ∧ t * v k9 ≤ 70 := zmulb ht hvk hp7
        have hb3 : v k9 * t = t * v k9 := Int.mul_comm _ _
        refine lv_aload_n hx hb dX6_scaled_17 rfl (lv_at hl 1 rfl) ?_
        refine lv_iload hx hb dX6_scaled_18 (lv_at hl 0 rfl) ?_
        refine lv_aload_n hx hb dX6_scaled_20 rfl (lv_at hl 2 rfl) ?_
        refine z_get hC (k := 5) rfl in_X6 hAk.1 (by decide) q1558 (fun _ h => h) rfl dX6_scaled_21 ?_
        refine lv_aload_n hx hb dX6_scaled_24 rfl (lv_at hl 3 rfl) ?_
        refine lv_iload hx hb dX6_scaled_25 (lv_at hl 0 rfl) ?_
        refine z_iald hC (zo hS h id) (k := k9) rfl (by omega) (y := v k9) rfl dX6_scaled_27 ?_
        refine lv_iload_n hx hb dX6_scaled_28 rfl (lv_at hl 4 rfl) ?_
        refine z_mul hx hb (z := (v k9) * t) dX6_scaled_29 rfl ?_
        refine z_top (b := t * v k9) (Int.mul_comm _ _) ?_
        have hH1 : HM G s0 μ σ th H5 := hh.ext0 hE (zS_F hS)
        refine z_go 1 16 (z_runVN (As := [.int (iI (t * v k9))]) (rest := [.int (iI ((k9 : Nat) : Int)), .ref q2]) hC hml hl.1 (m_X3_mod hE H5 (hO.ext0 (zS_F hS)) (μ (0, 0, 0)) (μ (1, 0, 0)) (μ (3, 0, 0)) th (St_p σ) (St_kn σ) (t * v k9) hH1.2.2.1.1 hp (by omega)) q1622 q67 q1619 q1621 qs33 nd_X3_mod rfl (z_rv hC (ci := 2) rfl hH1.2.2.1.1 rfl) rfl (Nat.le_of_ble_eq_true rfl) ⟨Nat.le_of_ble_eq_true rfl, Nat.le_of_ble_eq_true rfl⟩ ⟨zfit (k := 0) (z := 1) rfl rfl (by omega), zfit (k := 0) (z := 16) rfl rfl (by omega)⟩ dX6_scaled_30) ⟨zad (k := 0) rfl (by omega), zad (k := 0) rfl (by omega)⟩ hS (fun _ z => z.elim) (fun r H7 locs hp hF hS1 => ?_)
        obtain ⟨_, rfl, rfl⟩ := hp
        have hP := zpk hP hF
        have hP : va_P G.1 zCl ([(q2, zI G (St_n σ k) f)]) H7 := hP
        have hD : va_D (zA M0 H0) ([(q2, zI G (St_n σ k) f)]) := hD
        have hS := hS1
        refine z_iast hC hP hD hS 0 (k := k9) rfl rfl (by omega) (ws' := [(q2, zI G (St_n σ k) (va_up f k9 ((t * v k9) % St_p σ)))]) rfl dX6_scaled_33 (fun H8 locs hP hD hS => ?_)
        refine z_iinc (z := ((k9 + 1 : Nat) : Int)) (lv' := [(4, .int (iI ((k9 + 1 : Nat) : Int))), (3, .ref q2), (0, .ref (μ (6, k, 0))), (1, .ref a), (2, .int (iI t))]) hx hb dX6_scaled_34 hl (k := 0) rfl (by omega) (by decide) rfl (fun ls hl => ?_)
        refine lv_goto (tgt := 10) hx hb dX6_scaled_37 (by decide) ?_
        exact W.widen (by omega) (by omega) (ihlp4 (St_n σ k - (k9 + 1)) (by omega) (k9 + 1) (va_up f k9 ((t * v k9) % St_p σ)) rfl (by omega) (fun j hj => if e : j = k9 then by subst e; rw [va_up_self]; rfl else by rw [va_up_ne _ _ e]; exact hf j (by omega)) _ _ _  hP hD hS hl)
  exact W.widen (by omega) (by omega) (lp4 _ 0 (fun _ => 0) rfl (Nat.zero_le _) (fun j hj => absurd hj (Nat.not_lt_zero j)) _ _ _  hP hD hS hl)

abbrev rm_m_X6_one : Room := { frames := 1, cells := 1, slots := 16, locals := 20 }
set_option maxHeartbeats 4000000 in
theorem m_X6_one {l : Launch} {s0 : State} {G : zG} (hE : zE l s0 G) (H0 : Heap) (hO : zO s0 H0) (μ : Ro → Nat) (σ : St) (th : Int) (k : Nat) (hh : HM G s0 μ σ th H0) (hk : k < St_na σ) : zM l s0 yX6_one cX6_one 2 (some (FieldType.array FieldType.int)) rm_m_X6_one [.ref (μ (6, k, 0))] H0 M0 (rr (fun q h1 => NW G H0 h1 [(q, zI G (St_n σ k) (oneV))])) := by
  refine z_met hE (by decide +kernel) (Nat.le_of_ble_eq_true rfl) ?_
  intro pp ee ss mm args below meth cd Q ls hC hml hrt hlk hnm hH hQ hS hl
  have hx := hC.x
  have hb := hC.b
  have hl : lv_has ls 2 [(0, .ref (μ (6, k, 0)))] := hl
  have hP : va_P G.1 zCl [] H0 := va_nil
  have hD : va_D (zA M0 H0) [] := va_nilD
  have hH1 := hh
  obtain ⟨hp, hna, hal, hne9, hel9, hmr9⟩ := id hh.ok
  have hp7 : 0 < St_p σ ∧ St_p σ ≤ 7 := by rcases hp with h | h | h <;> rw [h] <;> decide
  have hH1 : HM G s0 μ σ th H0 := hh.ext0 hE (zS_F hS)
  have hAk := hH1.al (k := k) hk
  have hn16k := hH1.n (k := k) hk
  have hn16 := hh.n hk
  have hdk := hal k hk
  have hsg9 := fun i j => St_sg_in (k := k) hh.ok i j
  refine lv_aload_n hx hb dX6_one_0 rfl (lv_at hl 0 rfl) ?_
  have hH1 : HM G s0 μ σ th H0 := hh.ext0 hE (zS_F hS)
  have hUk := hH1.al (k := k) hk
  refine z_go 0 0 (z_runV (As := []) (rest := []) hC hml hl.1 (m_X6_units hE H0 (hO.ext0 (zS_F hS)) (μ (6, k, 0)) (μ (7, k, 0)) (μ (11, k, 0)) (μ (9, k, 0)) (μ (0, 0, 0)) (St_kd σ k) (St_d σ k) hUk.1 (hal k hk).2.1) (lw_V q1603 q1604 q1605 q82 q1606) rfl nd_X6_units rfl (z_rv hC (ci := 5) rfl hUk.1 rfl) rfl (Nat.le_of_ble_eq_true rfl) ⟨Nat.le_of_ble_eq_true rfl, Nat.le_of_ble_eq_true rfl⟩ ⟨zfit (k := 0) (z := 1) rfl rfl (by omega), zfit (k := 0) (z := 16) rfl rfl (by omega)⟩ dX6_one_1) ⟨zad (k := 0) rfl (by omega), zad (k := 0) rfl (by omega)⟩ hS (fun _ z => z.elim) (fun r H1 locs hp hF hS1 => ?_)
  obtain ⟨_, rfl, rfl⟩ := hp
  have hP := zpk hP hF
  have hP : va_P G.1 zCl ([]) H1 := hP
  have hD : va_D (zA M0 H0) ([]) := hD
  have hS := hS1
  refine z_newi hC hP hD hS (N := St_n σ k) (c1 := 1) (s1 := 16) rfl (by omega) ⟨zle (z := 1) rfl (by omega), zle (z := 16) rfl (by omega)⟩ ⟨by omega, by omega⟩ (ws' := fun q2 => [(q2, zI G (St_n σ k) (fun _ => 0))]) (fun _ => rfl) dX6_one_4 (fun q2 H3 hq0q2 hq1q2 hP hD hS hF => ?_)
  refine lv_astore_n (lv' := [(1, .ref q2), (0, .ref (μ (6, k, 0)))]) hx hb dX6_one_6 rfl hl (by decide) rfl (fun ls hl => ?_)
  have hH1 : HM G s0 μ σ th H3 := hh.ext0 hE (zS_F hS)
  have hAk := hH1.al (k := k) hk
  have hn16k := hH1.n (k := k) hk
  refine lv_aload_n hx hb dX6_one_7 rfl (lv_at hl 0 rfl) ?_
  refine lv_iconst (v := iI 0) hx hb dX6_one_8 rfl ?_
  refine lv_iconst (v := iI 1) hx hb dX6_one_9 rfl ?_
  refine z_iast hC hP hD hS 0 (k := 0) rfl rfl (by omega) (ws' := [(q2, zI G (St_n σ k) (va_up (fun _ => 0) 0 1))]) rfl dX6_one_10 (fun H4 locs hP hD hS => ?_)
  refine lv_aload_n hx hb dX6_one_11 rfl (lv_at hl 0 rfl) ?_
  have hP : va_P G.1 zCl ([(q2, zI G (St_n σ k) oneV)]) H4 := zcI hP 0 rfl (fun j _ => by unfold va_up oneV; rfl)
  have hD : va_D (zA M0 H0) ([(q2, zI G (St_n σ k) oneV)]) := hD.set (p := 0) rfl
  exact z_aretA hC hrt hlk hQ hS ⟨zle (z := 1) rfl (by omega), zle (z := 16) rfl (by omega)⟩ ⟨_, rfl, hP, zdn hD⟩ dX6_one_12

abbrev rm_m_X6_times : Room := { frames := 1, cells := 1, slots := 16, locals := 21 }
set_option maxHeartbeats 4000000 in
theorem m_X6_times {l : Launch} {s0 : State} {G : zG} (hE : zE l s0 G) (H0 : Heap) (hO : zO s0 H0) (μ : Ro → Nat) (σ : St) (th : Int) (k : Nat) (a : Nat) (v : Nat → Int) (b : Nat) (w : Nat → Int) (hh : HM G s0 μ σ th H0) (hk : k < St_na σ) (h : zAt G a (zI G (St_n σ k) v) H0) (hv : rw_ok (St_p σ) (St_n σ k) v) (h2 : zAt G b (zI G (St_n σ k) w) H0) (hw : rw_ok (St_p σ) (St_n σ k) w) : zM l s0 yX6_times cX6_times 6 (some (FieldType.array FieldType.int)) rm_m_X6_times [.ref (μ (6, k, 0)), .ref a, .ref b] H0 M0 (rr (fun q h1 => NW G H0 h1 [(q, zI G (St_n σ k) (tmV (St_p σ) (St_n σ k) (St_sg σ k) v w))])) := by
  refine z_met hE (by decide +kernel) (Nat.le_of_ble_eq_true rfl) ?_
  intro pp ee ss mm args below meth cd Q ls hC hml hrt hlk hnm hH hQ hS hl
  have hx := hC.x
  have hb := hC.b
  have hl : lv_has ls 6 [(0, .ref (μ (6, k, 0))), (1, .ref a), (2, .ref b)] := hl
  have hP : va_P G.1 zCl [] H0 := va_nil
  have hD : va_D (zA M0 H0) [] := va_nilD
  have hH1 := hh
  obtain ⟨hp, hna, hal, hne9, hel9, hmr9⟩ := id hh.ok
  have hp7 : 0 < St_p σ ∧ St_p σ ≤ 7 := by rcases hp with h | h | h <;> rw [h] <;> decide
  have hH1 : HM G s0 μ σ th H0 := hh.ext0 hE (zS_F hS)
  have hAk := hH1.al (k := k) hk
  have hn16k := hH1.n (k := k) hk
  have hn16 := hh.n hk
  have hdk := hal k hk
  have hsg9 := fun i j => St_sg_in (k := k) hh.ok i j
  refine lv_aload_n hx hb dX6_times_0 rfl (lv_at hl 0 rfl) ?_
  have hH1 : HM G s0 μ σ th H0 := hh.ext0 hE (zS_F hS)
  have hUk := hH1.al (k := k) hk
  refine z_go 0 0 (z_runV (As := []) (rest := []) hC hml hl.1 (m_X6_units hE H0 (hO.ext0 (zS_F hS)) (μ (6, k, 0)) (μ (7, k, 0)) (μ (11, k, 0)) (μ (9, k, 0)) (μ (0, 0, 0)) (St_kd σ k) (St_d σ k) hUk.1 (hal k hk).2.1) (lw_V q1603 q1604 q1605 q82 q1606) rfl nd_X6_units rfl (z_rv hC (ci := 5) rfl hUk.1 rfl) rfl (Nat.le_of_ble_eq_true rfl) ⟨Nat.le_of_ble_eq_true rfl, Nat.le_of_ble_eq_true rfl⟩ ⟨zfit (k := 0) (z := 1) rfl rfl (by omega), zfit (k := 0) (z := 16) rfl rfl (by omega)⟩ dX6_times_1) ⟨zad (k := 0) rfl (by omega), zad (k := 0) rfl (by omega)⟩ hS (fun _ z => z.elim) (fun r H1 locs hp hF hS1 => ?_)
  obtain ⟨_, rfl, rfl⟩ := hp
  have hP := zpk hP hF
  have hP : va_P G.1 zCl ([]) H1 := hP
  have hD : va_D (zA M0 H0) ([]) := hD
  have hS := hS1
  refine z_newi hC hP hD hS (N := St_n σ k) (c1 := 1) (s1 := 16) rfl (by omega) ⟨zle (z := 1) rfl (by omega), zle (z := 16) rfl (by omega)⟩ ⟨by omega, by omega⟩ (ws' := fun q2 => [(q2, zI G (St_n σ k) (fun _ => 0))]) (fun _ => rfl) dX6_times_4 (fun q2 H3 hq0q2 hq1q2 hP hD hS hF => ?_)
  refine lv_astore_n (lv' := [(3, .ref q2), (0, .ref (μ (6, k, 0))), (1, .ref a), (2, .ref b)]) hx hb dX6_times_6 rfl hl (by decide) rfl (fun ls hl => ?_)
  refine lv_iconst (v := iI 0) hx hb dX6_times_7 rfl ?_
  refine lv_istore (lv' := [(4, .int (iI 0)), (3, .ref q2), (0, .ref (μ (6, k, 0))), (1, .ref a), (2, .ref b)]) hx hb dX6_times_8 hl (by decide) rfl (fun ls hl => ?_)
  have hH1 : HM G s0 μ σ th H3 := hh.ext0 hE (zS_F hS)
  have hAk := hH1.al (k := k) hk
  have hn16k := hH1.n (k := k) hk
  have lp4 : ∀ (dlp4 : Nat) (i : Nat) (f : Nat → Int), St_n σ k - i = dlp4 → (i ≤ St_n σ k) → (∀ c, c < St_n σ k → f c = tmP (St_p σ) (St_sg σ k) v w i 0 c) → ∀ (H5 : Heap) (locs : List Loc) (ls : Array Slot), va_P G.1 zCl ([(q2, zI G (St_n σ k) f)]) H5 → va_D (zA M0 H0) ([(q2, zI G (St_n σ k) f)]) → va_S (zA M0 H0) H0 H5 locs → lv_has ls 6 [(4, .int (iI ((i : Nat) : Int))), (3, .ref q2), (0, .ref (μ (6, k, 0))), (1, .ref a), (2, .ref b)] → W pp l ee rm_m_X6_times ss mm args below meth cd H5 locs 1 16 Q (F0 mm 10 ls []) := by
    intro dlp4
    induction dlp4 using Nat.strongRecOn with
    | ind dlp4 ihlp4 =>
      intro i f hdlp4 hi hf H5 locs ls  hP hD hS hl
      have hH1 : HM G s0 μ σ th H5 := hh.ext0 hE (zS_F hS)
      have hAk := hH1.al (k := k) hk
      have hn16k := hH1.n (k := k) hk
      refine lv_iload hx hb dX6_times_10 (lv_at hl 0 rfl) ?_
      refine lv_aload_n hx hb dX6_times_12 rfl (lv_at hl 1 rfl) ?_
      refine z_alen hC 0 (hP 0 _ rfl) rfl (y := ((St_n σ k : Nat) : Int)) rfl dX6_times_13 ?_
      refine z_cge (tgt := 96) hx hb dX6_times_14 (by decide) (by omega) (fun c6 => ?_) (fun c6 => ?_)
      · have ei : i = St_n σ k := by omega
        refine lv_aload_n hx hb dX6_times_96 rfl (lv_at hl 1 rfl) ?_
        have hP : va_P G.1 zCl ([(q2, zI G (St_n σ k) (tmV (St_p σ) (St_n σ k) (St_sg σ k) v w))]) H5 := zcI hP 0 rfl (fun c hc => by rw [hf c hc, ei]; exact tmP_end _ _ v w _ c)
        have hD : va_D (zA M0 H0) ([(q2, zI G (St_n σ k) (tmV (St_p σ) (St_n σ k) (St_sg σ k) v w))]) := hD.set (p := 0) rfl
        exact z_aretA hC hrt hlk hQ hS ⟨zle (z := 1) rfl (by omega), zle (z := 16) rfl (by omega)⟩ ⟨_, rfl, hP, zdn hD⟩ dX6_times_97
      · have hvi := hv i (by omega)
        refine lv_iconst (v := iI 0) hx hb dX6_times_17 rfl ?_
        refine lv_istore (lv' := [(5, .int (iI 0)), (4, .int (iI ((i : Nat) : Int))), (3, .ref q2), (0, .ref (μ (6, k, 0))), (1, .ref a), (2, .ref b)]) hx hb dX6_times_18 hl (by decide) rfl (fun ls hl => ?_)
        have lp7 : ∀ (dlp7 : Nat) (j : Nat) (f2 : Nat → Int), St_n σ k - j = dlp7 → (j ≤ St_n σ k) → (∀ c, c < St_n σ k → f2 c = tmP (St_p σ) (St_sg σ k) v w i j c) → ∀ (H8 : Heap) (locs : List Loc) (ls : Array Slot), va_P G.1 zCl ([(q2, zI G (St_n σ k) f2)]) H8 → va_D (zA M0 H0) ([(q2, zI G (St_n σ k) f2)]) → va_S (zA M0 H0) H0 H8 locs → lv_has ls 6 [(5, .int (iI ((j : Nat) : Int))), (4, .int (iI ((i : Nat) : Int))), (3, .ref q2), (0, .ref (μ (6, k, 0))), (1, .ref a), (2, .ref b)] → W pp l ee rm_m_X6_times ss mm args below meth cd H8 locs 1 16 Q (F0 mm 20 ls []) := by
          intro dlp7
          induction dlp7 using Nat.strongRecOn with
          | ind dlp7 ihlp7 =>
            intro j f2 hdlp7 hj hf2 H8 locs ls  hP hD hS hl
            have hH1 : HM G s0 μ σ th H8 := hh.ext0 hE (zS_F hS)
            have hAk := hH1.al (k := k) hk
            have hn16k := hH1.n (k := k) hk
            refine lv_iload hx hb dX6_times_20 (lv_at hl 0 rfl) ?_
            refine lv_aload_n hx hb dX6_times_22 rfl (lv_at hl 2 rfl) ?_
            refine z_alen hC 0 (hP 0 _ rfl) rfl (y := ((St_n σ k : Nat) : Int)) rfl dX6_times_23 ?_
            refine z_cge (tgt := 90) hx hb dX6_times_24 (by decide) (by omega) (fun c9 => ?_) (fun c9 => ?_)
            · refine z_iinc (z := ((i + 1 : Nat) : Int)) (lv' := [(4, .int (iI ((i + 1 : Nat) : Int))), (5, .int (iI ((j : Nat) : Int))), (3, .ref q2), (0, .ref (μ (6, k, 0))), (1, .ref a), (2, .ref b)]) hx hb dX6_times_90 hl (k := 1) rfl (by omega) (by decide) rfl (fun ls hl => ?_)
              refine lv_goto (tgt := 10) hx hb dX6_times_93 (by decide) ?_
              exact W.widen (by omega) (by omega) (ihlp4 (St_n σ k - (i + 1)) (by omega) (i + 1) f2 rfl (by omega) (fun c hc => (hf2 c hc).trans (tmP_row (n := St_n σ k) (d := St_d σ k) rfl (by omega) (Or.inl (by omega)) hc)) _ _ _  hP hD hS (lv_sub hl [0, 2, 3, 4, 5] rfl))
            · refine lv_aload_n hx hb dX6_times_27 rfl (lv_at hl 4 rfl) ?_
              refine lv_iload hx hb dX6_times_28 (lv_at hl 1 rfl) ?_
              refine z_iald hC (zo hS h id) (k := i) rfl (by omega) (y := v i) rfl dX6_times_30 ?_
              refine z_zle (tgt := 90) hx hb dX6_times_31 (by decide) (by omega) (fun c10 => ?_) (fun c10 => ?_)
              · refine z_iinc (z := ((i + 1 : Nat) : Int)) (lv' := [(4, .int (iI ((i + 1 : Nat) : Int))), (5, .int (iI ((j : Nat) : Int))), (3, .ref q2), (0, .ref (μ (6, k, 0))), (1, .ref a), (2, .ref b)]) hx hb dX6_times_90 hl (k := 1) rfl (by omega) (by decide) rfl (fun ls hl => ?_)
                refine lv_goto (tgt := 10) hx hb dX6_times_93 (by decide) ?_
                exact W.widen (by omega) (by omega) (ihlp4 (St_n σ k - (i + 1)) (by omega) (i + 1) f2 rfl (by omega) (fun c hc => (hf2 c hc).trans (tmP_row (n := St_n σ k) (d := St_d σ k) rfl (by omega) (Or.inr (by omega)) hc)) _ _ _  hP hD hS (lv_sub hl [0, 2, 3, 4, 5] rfl))
              · have hij := xor_lt (n := St_n σ k) (d := St_d σ k) rfl (show i < St_n σ k by omega) (show j < St_n σ k by omega)
                have hfk : 0 ≤ f2 (i ^^^ j) ∧ f2 (i ^^^ j) < St_p σ := by rw [hf2 _ hij]; exact md_in hp _
                have hb3 := zmul3 (hv i (by omega)) (hw j (by omega)) (hsg9 i j) hp7
                have hb4 : 0 ≤ Int.tmod (v i * w j) (St_p σ) ∧ Int.tmod (v i * w j) (St_p σ) < St_p σ := by rw [Int.tmod_eq_emod_of_nonneg hb3.1.1]; exact md_in hp _
                have hb5 := zmul3 hb4 (hsg9 i j) (hsg9 i j) hp7
                have hsj := hsg9 i j
                have hH1 : HM G s0 μ σ th H8 := hh.ext0 hE (zS_F hS)
                have hxx := hH1.2.2.1.1
                refine lv_aload_n hx hb dX6_times_34 rfl (lv_at hl 2 rfl) ?_
                refine lv_iload hx hb dX6_times_35 (lv_at hl 1 rfl) ?_
                refine lv_iload hx hb dX6_times_37 (lv_at hl 0 rfl) ?_
                refine z_xor hx hb (n := i ^^^ j) dX6_times_39 rfl rfl rfl ?_
                refine lv_aload_n hx hb dX6_times_40 rfl (lv_at hl 3 rfl) ?_
                refine z_get hC (k := 5) rfl in_X6 hAk.1 (by decide) q1558 (fun _ h => h) rfl dX6_times_41 ?_
                refine lv_aload_n hx hb dX6_times_44 rfl (lv_at hl 2 rfl) ?_
                refine lv_iload hx hb dX6_times_45 (lv_at hl 1 rfl) ?_
                refine lv_iload hx hb dX6_times_47 (lv_at hl 0 rfl) ?_
                refine z_xor hx hb (n := i ^^^ j) dX6_times_49 rfl rfl rfl ?_
                refine z_iald hC (hP 0 _ rfl) (k := i ^^^ j) rfl (by omega) (y := f2 (i ^^^ j)) rfl dX6_times_50 ?_
                refine lv_aload_n hx hb dX6_times_51 rfl (lv_at hl 4 rfl) ?_
                refine lv_iload hx hb dX6_times_52 (lv_at hl 1 rfl) ?_
                refine z_iald hC (zo hS h id) (k := i) rfl (by omega) (y := v i) rfl dX6_times_54 ?_
                refine lv_aload_n hx hb dX6_times_55 rfl (lv_at hl 5 rfl) ?_
                refine lv_iload hx hb dX6_times_56 (lv_at hl 0 rfl) ?_
                refine z_iald hC (zo hS h2 id) (k := j) rfl (by omega) (y := w j) rfl dX6_times_58 ?_
                refine z_mul hx hb (z := (v i) * (w j)) dX6_times_59 rfl ?_
                refine lv_aload_n hx hb dX6_times_60 rfl (lv_at hl 3 rfl) ?_
                refine z_get hC (k := 5) rfl in_X6 hAk.1 (by decide) q1558 (fun _ h => h) rfl dX6_times_61 ?_
                refine z_getn hC (k := 1) rfl in_X3 hxx (by decide) q1497 (fun _ h => h) rfl dX6_times_64 ?_
                refine z_rem hx hb (z := Int.tmod ((v i) * (w j)) (St_p σ)) dX6_times_67 (by omega) rfl ?_
                refine lv_aload_n hx hb dX6_times_68 rfl (lv_at hl 3 rfl) ?_
                refine z_get hC (k := 2) rfl in_X6 hAk.1 (by decide) q1552 (fun _ h => h) rfl dX6_times_69 ?_
                refine lv_iload hx hb dX6_times_72 (lv_at hl 1 rfl) ?_
                refine z_aald hC hAk.2.2.2.1 (k := i) rfl (by omega) (q := (μ (12, k, i))) rfl dX6_times_74 ?_
                refine lv_iload hx hb dX6_times_75 (lv_at hl 0 rfl) ?_
                refine z_iald hC (hAk.2.2.2.2.1 i (by first | assumption | omega)) (k := j) rfl (by omega) (y := (St_sg σ k i) j) rfl dX6_times_77 ?_
                refine z_mul hx hb (z := (Int.tmod ((v i) * (w j)) (St_p σ)) * ((St_sg σ k i) j)) dX6_times_78 rfl ?_
                refine z_add hx hb (z := (f2 (i ^^^ j)) + ((Int.tmod ((v i) * (w j)) (St_p σ)) * ((St_sg σ k i) j))) dX6_times_79 rfl ?_
                have hH1 : HM G s0 μ σ th H8 := hh.ext0 hE (zS_F hS)
                refine z_go 1 16 (z_runVN (As := [.int (iI ((f2 (i ^^^ j)) + ((Int.tmod ((v i) * (w j)) (St_p σ)) * ((St_sg σ k i) j))))]) (rest := [.int (iI ((i ^^^ j : Nat) : Int)), .ref q2]) hC hml hl.1 (m_X3_mod hE H8 (hO.ext0 (zS_F hS)) (μ (0, 0, 0)) (μ (1, 0, 0)) (μ (3, 0, 0)) th (St_p σ) (St_kn σ) (f2 (i ^^^ j) + Int.tmod (v i * w j) (St_p σ) * St_sg σ k i j) hH1.2.2.1.1 hp (by omega)) q1622 q67 q1619 q1621 qs33 nd_X3_mod rfl (z_rv hC (ci := 2) rfl hH1.2.2.1.1 rfl) rfl (Nat.le_of_ble_eq_true rfl) ⟨Nat.le_of_ble_eq_true rfl, Nat.le_of_ble_eq_true rfl⟩ ⟨zfit (k := 0) (z := 1) rfl rfl (by omega), zfit (k := 0) (z := 16) rfl rfl (by omega)⟩ dX6_times_80) ⟨zad (k := 0) rfl (by omega), zad (k := 0) rfl (by omega)⟩ hS (fun _ z => z.elim) (fun r H11 locs hp hF hS1 => ?_)
                obtain ⟨_, rfl, rfl⟩ := hp
                have hP := zpk hP hF
                have hP : va_P G.1 zCl ([(q2, zI G (St_n σ k) f2)]) H11 := hP
                have hD : va_D (zA M0 H0) ([(q2, zI G (St_n σ k) f2)]) := hD
                have hS := hS1
                refine z_top (b := (f2 (i ^^^ j) + v i * w j * St_sg σ k i j) % St_p σ) (md_abc hb3.1.1) ?_
                refine z_iast hC hP hD hS 0 (k := i ^^^ j) rfl rfl (by omega) (ws' := [(q2, zI G (St_n σ k) (va_up f2 (i ^^^ j) ((f2 (i ^^^ j) + v i * w j * St_sg σ k i j) % St_p σ)))]) rfl dX6_times_83 (fun H12 locs hP hD hS => ?_)
                refine z_iinc (z := ((j + 1 : Nat) : Int)) (lv' := [(5, .int (iI ((j + 1 : Nat) : Int))), (4, .int (iI ((i : Nat) : Int))), (3, .ref q2), (0, .ref (μ (6, k, 0))), (1, .ref a), (2, .ref b)]) hx hb dX6_times_84 hl (k := 0) rfl (by omega) (by decide) rfl (fun ls hl => ?_)
                refine lv_goto (tgt := 20) hx hb dX6_times_87 (by decide) ?_
                exact W.widen (by omega) (by omega) (ihlp7 (St_n σ k - (j + 1)) (by omega) (j + 1) (va_up f2 (i ^^^ j) ((f2 (i ^^^ j) + v i * w j * St_sg σ k i j) % St_p σ)) rfl (by omega) (tmP_step hf2) _ _ _  hP hD hS hl)
        exact W.widen (by omega) (by omega) (lp7 _ 0 f rfl (Nat.zero_le _) hf _ _ _  hP hD hS hl)
  exact W.widen (by omega) (by omega) (lp4 _ 0 (fun _ => 0) rfl (Nat.zero_le _) (fun c hc => (tmP_0 _ _ v w c).symm) _ _ _  hP hD hS hl)

abbrev rm_m_X6_power : Room := { frames := 2, cells := 70, slots := 1100, locals := 46 }
set_option maxHeartbeats 4000000 in
theorem m_X6_power {l : Launch} {s0 : State} {G : zG} (hE : zE l s0 G) (H0 : Heap) (hO : zO s0 H0) (μ : Ro → Nat) (σ : St) (th : Int) (k : Nat) (a : Nat) (v : Nat → Int) (t : Nat) (hh : HM G s0 μ σ th H0) (hk : k < St_na σ) (h : zAt G a (zI G (St_n σ k) v) H0) (hv : rw_ok (St_p σ) (St_n σ k) v) (ht : t ≤ 60) : zM l s0 yX6_power cX6_power 5 (some (FieldType.array FieldType.int)) rm_m_X6_power [.ref (μ (6, k, 0)), .ref a, .int (iI ((t : Nat) : Int))] H0 M0 (rr (fun q h1 => NW G H0 h1 [(q, zI G (St_n σ k) (pwV (St_p σ) (St_n σ k) (St_sg σ k) v (t)))])) := by
  refine z_met hE (by decide +kernel) (Nat.le_of_ble_eq_true rfl) ?_
  intro pp ee ss mm args below meth cd Q ls hC hml hrt hlk hnm hH hQ hS hl
  have hx := hC.x
  have hb := hC.b
  have hl : lv_has ls 5 [(0, .ref (μ (6, k, 0))), (1, .ref a), (2, .int (iI ((t : Nat) : Int)))] := hl
  have hP : va_P G.1 zCl [] H0 := va_nil
  have hD : va_D (zA M0 H0) [] := va_nilD
  have hH1 := hh
  obtain ⟨hp, hna, hal, hne9, hel9, hmr9⟩ := id hh.ok
  have hp7 : 0 < St_p σ ∧ St_p σ ≤ 7 := by rcases hp with h | h | h <;> rw [h] <;> decide
  have hH1 : HM G s0 μ σ th H0 := hh.ext0 hE (zS_F hS)
  have hAk := hH1.al (k := k) hk
  have hn16k := hH1.n (k := k) hk
  have hn16 := hh.n hk
  have hdk := hal k hk
  have hsg9 := fun i j => St_sg_in (k := k) hh.ok i j
  refine lv_aload_n hx hb dX6_power_0 rfl (lv_at hl 0 rfl) ?_
  have hH1 : HM G s0 μ σ th H0 := hh.ext0 hE (zS_F hS)
  have hsz9 : H0.size ≤ H0.size := hS.1
  have hUk := hH1.al (k := k) hk
  refine z_go 1 16 (z_runV (As := []) (rest := []) hC hml hl.1 (m_X6_one hE H0 (hO.ext0 (zS_F hS)) μ σ th k  hH1 hk ) (lw_V q1714 q1715 q1716 q82 q1717) rfl nd_X6_one rfl (z_rv hC (ci := 5) rfl hUk.1 rfl) rfl (Nat.le_of_ble_eq_true rfl) ⟨Nat.le_of_ble_eq_true rfl, Nat.le_of_ble_eq_true rfl⟩ ⟨zfit (k := 1) (z := 70) rfl rfl (by omega), zfit (k := 16) (z := 1100) rfl rfl (by omega)⟩ dX6_power_1) ⟨zad (k := 1) rfl (by omega), zad (k := 16) rfl (by omega)⟩ hS (fun _ z => z.elim) (fun r H2 locs hp hF hS1 => ?_)
  obtain ⟨qr1, rfl, hN⟩ := hp
  obtain ⟨hP, hD⟩ := zjn hP hD hS.1 hF hN
  have hP : va_P G.1 zCl ([(qr1, zI G (St_n σ k) oneV)]) H2 := hP
  have hD : va_D (zA M0 H0) ([(qr1, zI G (St_n σ k) oneV)]) := hD
  have hS := hS1
  refine lv_astore_n (lv' := [(3, .ref qr1), (0, .ref (μ (6, k, 0))), (1, .ref a), (2, .int (iI ((t : Nat) : Int)))]) hx hb dX6_power_4 rfl hl (by decide) rfl (fun ls hl => ?_)
  refine lv_iconst (v := iI 0) hx hb dX6_power_5 rfl ?_
  refine lv_istore (lv' := [(4, .int (iI 0)), (3, .ref qr1), (0, .ref (μ (6, k, 0))), (1, .ref a), (2, .int (iI ((t : Nat) : Int)))]) hx hb dX6_power_6 hl (by decide) rfl (fun ls hl => ?_)
  have lp3 : ∀ (dlp3 : Nat) (c : Nat) (q9 : Nat), t - c = dlp3 → (c ≤ t) → ∀ (H4 : Heap) (locs : List Loc) (ls : Array Slot), va_P G.1 zCl ([(q9, zI G (St_n σ k) (pwV (St_p σ) (St_n σ k) (St_sg σ k) v (c)))]) H4 → va_D (zA M0 H0) ([(q9, zI G (St_n σ k) (pwV (St_p σ) (St_n σ k) (St_sg σ k) v (c)))]) → va_S (zA M0 H0) H0 H4 locs → lv_has ls 5 [(4, .int (iI ((c : Nat) : Int))), (3, .ref q9), (0, .ref (μ (6, k, 0))), (1, .ref a), (2, .int (iI ((t : Nat) : Int)))] → W pp l ee rm_m_X6_power ss mm args below meth cd H4 locs (1 + c) (16 + 16 * c) Q (F0 mm 8 ls []) := by
    intro dlp3
    induction dlp3 using Nat.strongRecOn with
    | ind dlp3 ihlp3 =>
      intro c q9 hdlp3 hc H4 locs ls  hP hD hS hl
      refine lv_iload hx hb dX6_power_8 (lv_at hl 0 rfl) ?_
      refine lv_iload_n hx hb dX6_power_10 rfl (lv_at hl 4 rfl) ?_
      refine z_cge (tgt := 27) hx hb dX6_power_11 (by decide) (by omega) (fun c5 => ?_) (fun c5 => ?_)
      · have ec : c = t := by omega
        refine lv_aload_n hx hb dX6_power_27 rfl (lv_at hl 1 rfl) ?_
        have hP : va_P G.1 zCl [(q9, zI G (St_n σ k) (pwV (St_p σ) (St_n σ k) (St_sg σ k) v (t)))] H4 := ec ▸ hP
        have hD : va_D (zA M0 H0) [(q9, zI G (St_n σ k) (pwV (St_p σ) (St_n σ k) (St_sg σ k) v (t)))] := ec ▸ hD
        exact z_aretA hC hrt hlk hQ hS ⟨zle (z := 70) rfl (by omega), zle (z := 1100) rfl (by omega)⟩ ⟨_, rfl, hP, zdn hD⟩ dX6_power_28
      · refine lv_aload_n hx hb dX6_power_14 rfl (lv_at hl 2 rfl) ?_
        refine lv_aload_n hx hb dX6_power_15 rfl (lv_at hl 1 rfl) ?_
        refine lv_aload_n hx hb dX6_power_16 rfl (lv_at hl 3 rfl) ?_
        have hH1 : HM G s0 μ σ th H4 := hh.ext0 hE (zS_F hS)
        have hsz9 : H0.size ≤ H4.size := hS.1
        have hUk := hH1.al (k := k) hk
        refine z_go ((1 + c) + 1) ((16 + 16 * c) + 16) (z_runV (As := [.ref q9, .ref a]) (rest := []) hC hml hl.1 (m_X6_times hE H4 (hO.ext0 (zS_F hS)) μ σ th k q9 (pwV (St_p σ) (St_n σ k) (St_sg σ k) v (c)) a (v)  hH1 hk (hP 0 _ rfl) (pwV_ok hp _ _ _ _) (zo hS h id) hv ) (lw_V q1718 q1687 q1688 q82 q1689) rfl nd_X6_times rfl (z_rv hC (ci := 5) rfl hUk.1 rfl) rfl (Nat.le_of_ble_eq_true rfl) ⟨Nat.le_of_ble_eq_true rfl, Nat.le_of_ble_eq_true rfl⟩ ⟨zfit (k := 1) (z := 70) rfl rfl (by omega), zfit (k := 16) (z := 1100) rfl rfl (by omega)⟩ dX6_power_17) ⟨zad (k := 1) rfl (by omega), zad (k := 16) rfl (by omega)⟩ hS (fun _ z => z.elim) (fun r H7 locs hp hF hS1 => ?_)
        obtain ⟨qr6, rfl, hN⟩ := hp
        obtain ⟨hP, hD⟩ := zjn hP hD hS.1 hF hN
        have hP : va_P G.1 zCl ([(q9, zI G (St_n σ k) (pwV (St_p σ) (St_n σ k) (St_sg σ k) v (c))), (qr6, zI G (St_n σ k) (pwV (St_p σ) (St_n σ k) (St_sg σ k) v (c + 1)))]) H7 := hP
        have hD : va_D (zA M0 H0) ([(q9, zI G (St_n σ k) (pwV (St_p σ) (St_n σ k) (St_sg σ k) v (c))), (qr6, zI G (St_n σ k) (pwV (St_p σ) (St_n σ k) (St_sg σ k) v (c + 1)))]) := hD
        have hS := hS1
        refine lv_astore_n (lv' := [(3, .ref qr6), (4, .int (iI ((c : Nat) : Int))), (0, .ref (μ (6, k, 0))), (1, .ref a), (2, .int (iI ((t : Nat) : Int)))]) hx hb dX6_power_20 rfl hl (by decide) rfl (fun ls hl => ?_)
        refine z_iinc (z := ((c + 1 : Nat) : Int)) (lv' := [(4, .int (iI ((c + 1 : Nat) : Int))), (3, .ref qr6), (0, .ref (μ (6, k, 0))), (1, .ref a), (2, .int (iI ((t : Nat) : Int)))]) hx hb dX6_power_21 hl (k := 1) rfl (by omega) (by decide) rfl (fun ls hl => ?_)
        refine lv_goto (tgt := 8) hx hb dX6_power_24 (by decide) ?_
        exact W.widen (by omega) (by omega) (ihlp3 (t - (c + 1)) (by omega) (c + 1) qr6 rfl (by omega) _ _ _  (hP.sub [1] rfl) (hD.sub [1] (by decide) rfl) hS hl)
  exact W.widen (by omega) (by omega) (lp3 _ 0 qr1 rfl (Nat.zero_le _) _ _ _  hP hD hS hl)

abbrev rm_m_X6_mirrored : Room := { frames := 2, cells := 4, slots := 64, locals := 46 }
set_option maxHeartbeats 4000000 in
theorem m_X6_mirrored {l : Launch} {s0 : State} {G : zG} (hE : zE l s0 G) (H0 : Heap) (hO : zO s0 H0) (μ : Ro → Nat) (σ : St) (th : Int) (k : Nat) (a : Nat) (v : Nat → Int) (b : Nat) (w : Nat → Int) (hh : HM G s0 μ σ th H0) (hk : k < St_na σ) (h : zAt G a (zI G (St_n σ k) v) H0) (hv : rw_ok (St_p σ) (St_n σ k) v) (h2 : zAt G b (zI G (St_n σ k) w) H0) (hw : rw_ok (St_p σ) (St_n σ k) w) (hsq : 0 < sqV (St_p σ) (St_n σ k) (St_kd σ k) (St_sg σ k) v) : zM l s0 yX6_mirrored cX6_mirrored 3 (some (FieldType.array FieldType.int)) rm_m_X6_mirrored [.ref (μ (6, k, 0)), .ref a, .ref b] H0 M0 (rr (fun q h1 => NW G H0 h1 [(q, zI G (St_n σ k) (mirV (St_p σ) (St_n σ k) (St_kd σ k) (St_sg σ k) v w))])) := by
  refine z_met hE (by decide +kernel) (Nat.le_of_ble_eq_true rfl) ?_
  intro pp ee ss mm args below meth cd Q ls hC hml hrt hlk hnm hH hQ hS hl
  have hx := hC.x
  have hb := hC.b
  have hl : lv_has ls 3 [(0, .ref (μ (6, k, 0))), (1, .ref a), (2, .ref b)] := hl
  have hP : va_P G.1 zCl [] H0 := va_nil
  have hD : va_D (zA M0 H0) [] := va_nilD
  have hH1 := hh
  obtain ⟨hp, hna, hal, hne9, hel9, hmr9⟩ := id hh.ok
  have hp7 : 0 < St_p σ ∧ St_p σ ≤ 7 := by rcases hp with h | h | h <;> rw [h] <;> decide
  have hH1 : HM G s0 μ σ th H0 := hh.ext0 hE (zS_F hS)
  have hAk := hH1.al (k := k) hk
  have hn16k := hH1.n (k := k) hk
  have hn16 := hh.n hk
  have hdk := hal k hk
  have hsg9 := fun i j => St_sg_in (k := k) hh.ok i j
  refine lv_aload_n hx hb dX6_mirrored_0 rfl (lv_at hl 0 rfl) ?_
  refine lv_aload_n hx hb dX6_mirrored_1 rfl (lv_at hl 0 rfl) ?_
  refine lv_aload_n hx hb dX6_mirrored_2 rfl (lv_at hl 0 rfl) ?_
  refine lv_aload_n hx hb dX6_mirrored_3 rfl (lv_at hl 1 rfl) ?_
  refine lv_aload_n hx hb dX6_mirrored_4 rfl (lv_at hl 2 rfl) ?_
  have esq : sqV (St_p σ) (St_n σ k) (St_kd σ k) (St_sg σ k) v = tmV (St_p σ) (St_n σ k) (St_sg σ k) v v 0 := by unfold sqV at hsq ⊢; split at hsq; omega; rw [if_neg (by assumption)]
  have hsb := sqV_in hp (St_n σ k) (St_kd σ k) (St_sg σ k) v
  have hH1 : HM G s0 μ σ th H0 := hh.ext0 hE (zS_F hS)
  have hsz9 : H0.size ≤ H0.size := hS.1
  have hUk := hH1.al (k := k) hk
  refine z_go 1 16 (z_runV (As := [.ref a, .ref b]) (rest := [.ref (μ (6, k, 0)), .ref (μ (6, k, 0))]) hC hml hl.1 (m_X6_times hE H0 (hO.ext0 (zS_F hS)) μ σ th k a (v) b (w)  hH1 hk (zo hS h id) hv (zo hS h2 id) hw ) (lw_V q1718 q1687 q1688 q82 q1689) rfl nd_X6_times rfl (z_rv hC (ci := 5) rfl hUk.1 rfl) rfl (Nat.le_of_ble_eq_true rfl) ⟨Nat.le_of_ble_eq_true rfl, Nat.le_of_ble_eq_true rfl⟩ ⟨zfit (k := 1) (z := 4) rfl rfl (by omega), zfit (k := 16) (z := 64) rfl rfl (by omega)⟩ dX6_mirrored_5) ⟨zad (k := 1) rfl (by omega), zad (k := 16) rfl (by omega)⟩ hS (fun _ z => z.elim) (fun r H2 locs hp hF hS1 => ?_)
  obtain ⟨qr1, rfl, hN⟩ := hp
  obtain ⟨hP, hD⟩ := zjn hP hD hS.1 hF hN
  have hP : va_P G.1 zCl ([(qr1, zI G (St_n σ k) (tmV (St_p σ) (St_n σ k) (St_sg σ k) v w))]) H2 := hP
  have hD : va_D (zA M0 H0) ([(qr1, zI G (St_n σ k) (tmV (St_p σ) (St_n σ k) (St_sg σ k) v w))]) := hD
  have hS := hS1
  refine lv_aload_n hx hb dX6_mirrored_8 rfl (lv_at hl 1 rfl) ?_
  have hH1 : HM G s0 μ σ th H2 := hh.ext0 hE (zS_F hS)
  have hsz9 : H0.size ≤ H2.size := hS.1
  have hUk := hH1.al (k := k) hk
  refine z_go 2 32 (z_runV (As := [.ref qr1, .ref a]) (rest := [.ref (μ (6, k, 0))]) hC hml hl.1 (m_X6_times hE H2 (hO.ext0 (zS_F hS)) μ σ th k qr1 (tmV (St_p σ) (St_n σ k) (St_sg σ k) v w) a (v)  hH1 hk (hP 0 _ rfl) (tmV_ok hp _ _ _ _) (zo hS h id) hv ) (lw_V q1718 q1687 q1688 q82 q1689) rfl nd_X6_times rfl (z_rv hC (ci := 5) rfl hUk.1 rfl) rfl (Nat.le_of_ble_eq_true rfl) ⟨Nat.le_of_ble_eq_true rfl, Nat.le_of_ble_eq_true rfl⟩ ⟨zfit (k := 1) (z := 4) rfl rfl (by omega), zfit (k := 16) (z := 64) rfl rfl (by omega)⟩ dX6_mirrored_9) ⟨zad (k := 1) rfl (by omega), zad (k := 16) rfl (by omega)⟩ hS (fun _ z => z.elim) (fun r H4 locs hp hF hS1 => ?_)
  obtain ⟨qr3, rfl, hN⟩ := hp
  obtain ⟨hP, hD⟩ := zjn hP hD hS.1 hF hN
  have hP : va_P G.1 zCl ([(qr1, zI G (St_n σ k) (tmV (St_p σ) (St_n σ k) (St_sg σ k) v w)), (qr3, zI G (St_n σ k) (tmV (St_p σ) (St_n σ k) (St_sg σ k) (tmV (St_p σ) (St_n σ k) (St_sg σ k) v w) v))]) H4 := hP
  have hD : va_D (zA M0 H0) ([(qr1, zI G (St_n σ k) (tmV (St_p σ) (St_n σ k) (St_sg σ k) v w)), (qr3, zI G (St_n σ k) (tmV (St_p σ) (St_n σ k) (St_sg σ k) (tmV (St_p σ) (St_n σ k) (St_sg σ k) v w) v))]) := hD
  have hS := hS1
  have hH1 : HM G s0 μ σ th H4 := hh.ext0 hE (zS_F hS)
  have hAk := hH1.al (k := k) hk
  have hn16k := hH1.n (k := k) hk
  have hH1 : HM G s0 μ σ th H4 := hh.ext0 hE (zS_F hS)
  have hxx := hH1.2.2.1.1
  refine lv_aload_n hx hb dX6_mirrored_12 rfl (lv_at hl 0 rfl) ?_
  refine z_get hC (k := 5) rfl in_X6 hAk.1 (by decide) q1558 (fun _ h => h) rfl dX6_mirrored_13 ?_
  refine z_getn hC (k := 1) rfl in_X3 hxx (by decide) q1497 (fun _ h => h) rfl dX6_mirrored_16 ?_
  refine lv_aload_n hx hb dX6_mirrored_19 rfl (lv_at hl 0 rfl) ?_
  refine z_get hC (k := 5) rfl in_X6 hAk.1 (by decide) q1558 (fun _ h => h) rfl dX6_mirrored_20 ?_
  refine lv_aload_n hx hb dX6_mirrored_23 rfl (lv_at hl 0 rfl) ?_
  refine lv_aload_n hx hb dX6_mirrored_24 rfl (lv_at hl 1 rfl) ?_
  refine lv_aload_n hx hb dX6_mirrored_25 rfl (lv_at hl 1 rfl) ?_
  have hH1 : HM G s0 μ σ th H4 := hh.ext0 hE (zS_F hS)
  have hsz9 : H0.size ≤ H4.size := hS.1
  have hUk := hH1.al (k := k) hk
  refine z_go 3 48 (z_runV (As := [.ref a, .ref a]) (rest := [.ref (μ (0, 0, 0)), .int (iI (St_p σ)), .ref qr3, .ref (μ (6, k, 0))]) hC hml hl.1 (m_X6_times hE H4 (hO.ext0 (zS_F hS)) μ σ th k a (v) a (v)  hH1 hk (zo hS h id) hv (zo hS h id) hv ) (lw_V q1718 q1687 q1688 q82 q1689) rfl nd_X6_times rfl (z_rv hC (ci := 5) rfl hUk.1 rfl) rfl (Nat.le_of_ble_eq_true rfl) ⟨Nat.le_of_ble_eq_true rfl, Nat.le_of_ble_eq_true rfl⟩ ⟨zfit (k := 1) (z := 4) rfl rfl (by omega), zfit (k := 16) (z := 64) rfl rfl (by omega)⟩ dX6_mirrored_26) ⟨zad (k := 1) rfl (by omega), zad (k := 16) rfl (by omega)⟩ hS (fun _ z => z.elim) (fun r H6 locs hp hF hS1 => ?_)
  obtain ⟨qr5, rfl, hN⟩ := hp
  obtain ⟨hP, hD⟩ := zjn hP hD hS.1 hF hN
  have hP : va_P G.1 zCl ([(qr1, zI G (St_n σ k) (tmV (St_p σ) (St_n σ k) (St_sg σ k) v w)), (qr3, zI G (St_n σ k) (tmV (St_p σ) (St_n σ k) (St_sg σ k) (tmV (St_p σ) (St_n σ k) (St_sg σ k) v w) v)), (qr5, zI G (St_n σ k) (tmV (St_p σ) (St_n σ k) (St_sg σ k) v v))]) H6 := hP
  have hD : va_D (zA M0 H0) ([(qr1, zI G (St_n σ k) (tmV (St_p σ) (St_n σ k) (St_sg σ k) v w)), (qr3, zI G (St_n σ k) (tmV (St_p σ) (St_n σ k) (St_sg σ k) (tmV (St_p σ) (St_n σ k) (St_sg σ k) v w) v)), (qr5, zI G (St_n σ k) (tmV (St_p σ) (St_n σ k) (St_sg σ k) v v))]) := hD
  have hS := hS1
  refine lv_iconst (v := iI 0) hx hb dX6_mirrored_29 rfl ?_
  refine z_iald hC (hP 2 _ rfl) (k := 0) rfl (by omega) (y := (tmV (St_p σ) (St_n σ k) (St_sg σ k) v v) 0) rfl dX6_mirrored_30 ?_
  refine z_top (b := sqV (St_p σ) (St_n σ k) (St_kd σ k) (St_sg σ k) v) (esq.symm) ?_
  have hH1 : HM G s0 μ σ th H6 := hh.ext0 hE (zS_F hS)
  refine z_go 3 48 (z_runVN (As := [.int (iI (sqV (St_p σ) (St_n σ k) (St_kd σ k) (St_sg σ k) v))]) (rest := [.int (iI (St_p σ)), .ref qr3, .ref (μ (6, k, 0))]) hC hml hl.1 (m_X3_inverse hE H6 (hO.ext0 (zS_F hS)) (μ (0, 0, 0)) (μ (1, 0, 0)) (μ (3, 0, 0)) th (St_p σ) (St_kn σ) (sqV (St_p σ) (St_n σ k) (St_kd σ k) (St_sg σ k) v) hH1.2.2.1.1 hp (by rw [Int.emod_eq_of_lt (by omega) (by omega)]; omega) (by omega)) q1729 q67 q1789 q1728 qs41 nd_X3_inverse rfl (z_rv hC (ci := 2) rfl hH1.2.2.1.1 rfl) rfl (Nat.le_of_ble_eq_true rfl) ⟨Nat.le_of_ble_eq_true rfl, Nat.le_of_ble_eq_true rfl⟩ ⟨zfit (k := 0) (z := 4) rfl rfl (by omega), zfit (k := 0) (z := 64) rfl rfl (by omega)⟩ dX6_mirrored_31) ⟨zad (k := 0) rfl (by omega), zad (k := 0) rfl (by omega)⟩ hS (fun _ z => z.elim) (fun r H7 locs hp hF hS1 => ?_)
  obtain ⟨_, rfl, rfl⟩ := hp
  have hP := zpk hP hF
  have hP : va_P G.1 zCl ([(qr1, zI G (St_n σ k) (tmV (St_p σ) (St_n σ k) (St_sg σ k) v w)), (qr3, zI G (St_n σ k) (tmV (St_p σ) (St_n σ k) (St_sg σ k) (tmV (St_p σ) (St_n σ k) (St_sg σ k) v w) v)), (qr5, zI G (St_n σ k) (tmV (St_p σ) (St_n σ k) (St_sg σ k) v v))]) H7 := hP
  have hD : va_D (zA M0 H0) ([(qr1, zI G (St_n σ k) (tmV (St_p σ) (St_n σ k) (St_sg σ k) v w)), (qr3, zI G (St_n σ k) (tmV (St_p σ) (St_n σ k) (St_sg σ k) (tmV (St_p σ) (St_n σ k) (St_sg σ k) v w) v)), (qr5, zI G (St_n σ k) (tmV (St_p σ) (St_n σ k) (St_sg σ k) v v))]) := hD
  have hS := hS1
  obtain ⟨hi1, hi2, hi3, hi4⟩ := iv_ex (z := sqV (St_p σ) (St_n σ k) (St_kd σ k) (St_sg σ k) v) hp (by rw [Int.emod_eq_of_lt (by omega) (by omega)]; omega)
  refine z_sub hx hb (z := (St_p σ) - (ivS (St_p σ) (sqV (St_p σ) (St_n σ k) (St_kd σ k) (St_sg σ k) v))) dX6_mirrored_34 rfl ?_
  have hH1 : HM G s0 μ σ th H7 := hh.ext0 hE (zS_F hS)
  have hsz9 : H0.size ≤ H7.size := hS.1
  have hUk := hH1.al (k := k) hk
  refine z_go 4 64 (z_runV (As := [.ref qr3, .int (iI ((St_p σ) - (ivS (St_p σ) (sqV (St_p σ) (St_n σ k) (St_kd σ k) (St_sg σ k) v))))]) (rest := []) hC hml hl.1 (m_X6_scaled hE H7 (hO.ext0 (zS_F hS)) μ σ th k qr3 (tmV (St_p σ) (St_n σ k) (St_sg σ k) (tmV (St_p σ) (St_n σ k) (St_sg σ k) v w) v) (St_p σ - ivS (St_p σ) (sqV (St_p σ) (St_n σ k) (St_kd σ k) (St_sg σ k) v)) hH1 hk (hP 1 _ rfl) (tmV_ok hp _ _ _ _) (by omega)) (lw_V q1790 q1695 q1696 q82 q1697) rfl nd_X6_scaled rfl (z_rv hC (ci := 5) rfl hUk.1 rfl) rfl (Nat.le_of_ble_eq_true rfl) ⟨Nat.le_of_ble_eq_true rfl, Nat.le_of_ble_eq_true rfl⟩ ⟨zfit (k := 1) (z := 4) rfl rfl (by omega), zfit (k := 16) (z := 64) rfl rfl (by omega)⟩ dX6_mirrored_35) ⟨zad (k := 1) rfl (by omega), zad (k := 16) rfl (by omega)⟩ hS (fun _ z => z.elim) (fun r H9 locs hp hF hS1 => ?_)
  obtain ⟨qr8, rfl, hN⟩ := hp
  obtain ⟨hP, hD⟩ := zjn hP hD hS.1 hF hN
  have hP : va_P G.1 zCl ([(qr1, zI G (St_n σ k) (tmV (St_p σ) (St_n σ k) (St_sg σ k) v w)), (qr3, zI G (St_n σ k) (tmV (St_p σ) (St_n σ k) (St_sg σ k) (tmV (St_p σ) (St_n σ k) (St_sg σ k) v w) v)), (qr5, zI G (St_n σ k) (tmV (St_p σ) (St_n σ k) (St_sg σ k) v v)), (qr8, zI G (St_n σ k) (scV (St_p σ) (St_p σ - ivS (St_p σ) (sqV (St_p σ) (St_n σ k) (St_kd σ k) (St_sg σ k) v)) (tmV (St_p σ) (St_n σ k) (St_sg σ k) (tmV (St_p σ) (St_n σ k) (St_sg σ k) v w) v)))]) H9 := hP
  have hD : va_D (zA M0 H0) ([(qr1, zI G (St_n σ k) (tmV (St_p σ) (St_n σ k) (St_sg σ k) v w)), (qr3, zI G (St_n σ k) (tmV (St_p σ) (St_n σ k) (St_sg σ k) (tmV (St_p σ) (St_n σ k) (St_sg σ k) v w) v)), (qr5, zI G (St_n σ k) (tmV (St_p σ) (St_n σ k) (St_sg σ k) v v)), (qr8, zI G (St_n σ k) (scV (St_p σ) (St_p σ - ivS (St_p σ) (sqV (St_p σ) (St_n σ k) (St_kd σ k) (St_sg σ k) v)) (tmV (St_p σ) (St_n σ k) (St_sg σ k) (tmV (St_p σ) (St_n σ k) (St_sg σ k) v w) v)))]) := hD
  have hS := hS1
  have hP : va_P G.1 zCl ([(qr1, zI G (St_n σ k) (tmV (St_p σ) (St_n σ k) (St_sg σ k) v w)), (qr3, zI G (St_n σ k) (tmV (St_p σ) (St_n σ k) (St_sg σ k) (tmV (St_p σ) (St_n σ k) (St_sg σ k) v w) v)), (qr5, zI G (St_n σ k) (tmV (St_p σ) (St_n σ k) (St_sg σ k) v v)), (qr8, zI G (St_n σ k) (mirV (St_p σ) (St_n σ k) (St_kd σ k) (St_sg σ k) v w))]) H9 := zcI hP 3 rfl (fun j _ => md_neg)
  have hD : va_D (zA M0 H0) ([(qr1, zI G (St_n σ k) (tmV (St_p σ) (St_n σ k) (St_sg σ k) v w)), (qr3, zI G (St_n σ k) (tmV (St_p σ) (St_n σ k) (St_sg σ k) (tmV (St_p σ) (St_n σ k) (St_sg σ k) v w) v)), (qr5, zI G (St_n σ k) (tmV (St_p σ) (St_n σ k) (St_sg σ k) v v)), (qr8, zI G (St_n σ k) (mirV (St_p σ) (St_n σ k) (St_kd σ k) (St_sg σ k) v w))]) := hD.set (p := 3) rfl
  exact z_aretA hC hrt hlk hQ hS ⟨zle (z := 4) rfl (by omega), zle (z := 64) rfl (by omega)⟩ ⟨_, rfl, hP.sub [3] rfl, zdn (hD.sub [3] (by decide) rfl)⟩ dX6_mirrored_38

abbrev rm_m_X6_gap : Room := { frames := 1, cells := 0, slots := 0, locals := 21 }
set_option maxHeartbeats 4000000 in
theorem m_X6_gap {l : Launch} {s0 : State} {G : zG} (hE : zE l s0 G) (H0 : Heap) (hO : zO s0 H0) (μ : Ro → Nat) (σ : St) (th : Int) (k : Nat) (i j c : Nat) (hh : HM G s0 μ σ th H0) (hk : k < St_na σ) (hi : i < St_n σ k ∧ j < St_n σ k ∧ c < St_n σ k) : zM l s0 yX6_gap cX6_gap 4 (some FieldType.int) rm_m_X6_gap [.ref (μ (6, k, 0)), .int (iI ((i : Nat) : Int)), .int (iI ((j : Nat) : Int)), .int (iI ((c : Nat) : Int))] H0 M0 (ri (fun y _ => y = gpV (St_sg σ k) i j c % St_p σ)) := by
  refine z_met hE (by decide +kernel) (Nat.le_of_ble_eq_true rfl) ?_
  intro pp ee ss mm args below meth cd Q ls hC hml hrt hlk hnm hH hQ hS hl
  have hx := hC.x
  have hb := hC.b
  have hl : lv_has ls 4 [(0, .ref (μ (6, k, 0))), (1, .int (iI ((i : Nat) : Int))), (2, .int (iI ((j : Nat) : Int))), (3, .int (iI ((c : Nat) : Int)))] := hl
  have hP : va_P G.1 zCl [] H0 := va_nil
  have hD : va_D (zA M0 H0) [] := va_nilD
  have hH1 := hh
  obtain ⟨hp, hna, hal, hne9, hel9, hmr9⟩ := id hh.ok
  have hp7 : 0 < St_p σ ∧ St_p σ ≤ 7 := by rcases hp with h | h | h <;> rw [h] <;> decide
  have hH1 : HM G s0 μ σ th H0 := hh.ext0 hE (zS_F hS)
  have hAk := hH1.al (k := k) hk
  have hn16k := hH1.n (k := k) hk
  have hn16 := hh.n hk
  have hdk := hal k hk
  have hsg9 := fun i j => St_sg_in (k := k) hh.ok i j
  have hij := xor_lt (n := St_n σ k) (d := St_d σ k) rfl hi.1 hi.2.1
  have hjc := xor_lt (n := St_n σ k) (d := St_d σ k) rfl hi.2.1 hi.2.2
  have hgp := gpV_in (n := St_n σ k) (d := St_d σ k) rfl (fun i j _ _ => hsg9 i j) hp7 hi.1 hi.2.1 hi.2.2
  have hb1 := zmul3 (hsg9 i j) (hsg9 (i ^^^ j) c) (hsg9 i j) hp7
  have hb2 := zmul3 (hsg9 j c) (hsg9 i (j ^^^ c)) (hsg9 i j) hp7
  refine lv_aload_n hx hb dX6_gap_0 rfl (lv_at hl 0 rfl) ?_
  refine z_get hC (k := 5) rfl in_X6 hAk.1 (by decide) q1558 (fun _ h => h) rfl dX6_gap_1 ?_
  refine lv_aload_n hx hb dX6_gap_4 rfl (lv_at hl 0 rfl) ?_
  refine z_get hC (k := 2) rfl in_X6 hAk.1 (by decide) q1552 (fun _ h => h) rfl dX6_gap_5 ?_
  refine lv_iload_n hx hb dX6_gap_8 rfl (lv_at hl 1 rfl) ?_
  refine z_aald hC hAk.2.2.2.1 (k := i) rfl (by omega) (q := (μ (12, k, i))) rfl dX6_gap_9 ?_
  refine lv_iload_n hx hb dX6_gap_10 rfl (lv_at hl 2 rfl) ?_
  refine z_iald hC (hAk.2.2.2.2.1 i (by first | assumption | omega)) (k := j) rfl (by omega) (y := (St_sg σ k i) j) rfl dX6_gap_11 ?_
  refine lv_aload_n hx hb dX6_gap_12 rfl (lv_at hl 0 rfl) ?_
  refine z_get hC (k := 2) rfl in_X6 hAk.1 (by decide) q1552 (fun _ h => h) rfl dX6_gap_13 ?_
  refine lv_iload_n hx hb dX6_gap_16 rfl (lv_at hl 1 rfl) ?_
  refine lv_iload_n hx hb dX6_gap_17 rfl (lv_at hl 2 rfl) ?_
  refine z_xor hx hb (n := i ^^^ j) dX6_gap_18 rfl rfl rfl ?_
  refine z_aald hC hAk.2.2.2.1 (k := i ^^^ j) rfl (by omega) (q := (μ (12, k, (i ^^^ j)))) rfl dX6_gap_19 ?_
  refine lv_iload_n hx hb dX6_gap_20 rfl (lv_at hl 3 rfl) ?_
  refine z_iald hC (hAk.2.2.2.2.1 (i ^^^ j) (by first | assumption | omega)) (k := c) rfl (by omega) (y := (St_sg σ k (i ^^^ j)) c) rfl dX6_gap_21 ?_
  refine z_mul hx hb (z := ((St_sg σ k i) j) * ((St_sg σ k (i ^^^ j)) c)) dX6_gap_22 rfl ?_
  refine lv_aload_n hx hb dX6_gap_23 rfl (lv_at hl 0 rfl) ?_
  refine z_get hC (k := 2) rfl in_X6 hAk.1 (by decide) q1552 (fun _ h => h) rfl dX6_gap_24 ?_
  refine lv_iload_n hx hb dX6_gap_27 rfl (lv_at hl 2 rfl) ?_
  refine z_aald hC hAk.2.2.2.1 (k := j) rfl (by omega) (q := (μ (12, k, j))) rfl dX6_gap_28 ?_
  refine lv_iload_n hx hb dX6_gap_29 rfl (lv_at hl 3 rfl) ?_
  refine z_iald hC (hAk.2.2.2.2.1 j (by first | assumption | omega)) (k := c) rfl (by omega) (y := (St_sg σ k j) c) rfl dX6_gap_30 ?_
  refine lv_aload_n hx hb dX6_gap_31 rfl (lv_at hl 0 rfl) ?_
  refine z_get hC (k := 2) rfl in_X6 hAk.1 (by decide) q1552 (fun _ h => h) rfl dX6_gap_32 ?_
  refine lv_iload_n hx hb dX6_gap_35 rfl (lv_at hl 1 rfl) ?_
  refine z_aald hC hAk.2.2.2.1 (k := i) rfl (by omega) (q := (μ (12, k, i))) rfl dX6_gap_36 ?_
  refine lv_iload_n hx hb dX6_gap_37 rfl (lv_at hl 2 rfl) ?_
  refine lv_iload_n hx hb dX6_gap_38 rfl (lv_at hl 3 rfl) ?_
  refine z_xor hx hb (n := j ^^^ c) dX6_gap_39 rfl rfl rfl ?_
  refine z_iald hC (hAk.2.2.2.2.1 i (by first | assumption | omega)) (k := j ^^^ c) rfl (by omega) (y := (St_sg σ k i) (j ^^^ c)) rfl dX6_gap_40 ?_
  refine z_mul hx hb (z := ((St_sg σ k j) c) * ((St_sg σ k i) (j ^^^ c))) dX6_gap_41 rfl ?_
  refine z_sub hx hb (z := (((St_sg σ k i) j) * ((St_sg σ k (i ^^^ j)) c)) - (((St_sg σ k j) c) * ((St_sg σ k i) (j ^^^ c)))) dX6_gap_42 rfl ?_
  have hH1 : HM G s0 μ σ th H0 := hh.ext0 hE (zS_F hS)
  refine z_go 0 0 (z_runVN (As := [.int (iI ((((St_sg σ k i) j) * ((St_sg σ k (i ^^^ j)) c)) - (((St_sg σ k j) c) * ((St_sg σ k i) (j ^^^ c)))))]) (rest := []) hC hml hl.1 (m_X3_mod hE H0 (hO.ext0 (zS_F hS)) (μ (0, 0, 0)) (μ (1, 0, 0)) (μ (3, 0, 0)) th (St_p σ) (St_kn σ) (St_sg σ k i j * St_sg σ k (i ^^^ j) c - St_sg σ k j c * St_sg σ k i (j ^^^ c)) hH1.2.2.1.1 hp (by omega)) q1622 q67 q1619 q1621 qs33 nd_X3_mod rfl (z_rv hC (ci := 2) rfl hH1.2.2.1.1 rfl) rfl (Nat.le_of_ble_eq_true rfl) ⟨Nat.le_of_ble_eq_true rfl, Nat.le_of_ble_eq_true rfl⟩ ⟨zfit (k := 0) (z := 0) rfl rfl (by omega), zfit (k := 0) (z := 0) rfl rfl (by omega)⟩ dX6_gap_43) ⟨zad (k := 0) rfl (by omega), zad (k := 0) rfl (by omega)⟩ hS (fun _ z => z.elim) (fun r H1 locs hp hF hS1 => ?_)
  obtain ⟨_, rfl, rfl⟩ := hp
  have hP := zpk hP hF
  have hP : va_P G.1 zCl ([]) H1 := hP
  have hD : va_D (zA M0 H0) ([]) := hD
  have hS := hS1
  exact z_iret hC hrt hlk hQ hS ⟨zle (z := 0) rfl (by omega), zle (z := 0) rfl (by omega)⟩ ⟨_, rfl, rfl⟩ dX6_gap_46

section KP
variable {p : Int} {sg : Nat → Nat → Int} {law i j c : Nat}
theorem kp_0t (h : law = 0) (e : sg i j = sg j i) : kpV p sg law i j c = true := by unfold kpV; rw [if_pos h]; simp [e]
theorem kp_0f (h : law = 0) (e : sg i j ≠ sg j i) : kpV p sg law i j c = false := by unfold kpV; rw [if_pos h]; simp [e]
theorem kp_1t (h : law = 1) (e : gpV sg i j c % p = 0) : kpV p sg law i j c = true := by unfold kpV; rw [if_neg (by omega), if_pos h]; simp [e]
theorem kp_1f (h : law = 1) (e : gpV sg i j c % p ≠ 0) : kpV p sg law i j c = false := by unfold kpV; rw [if_neg (by omega), if_pos h]; simp [e]
theorem kp_3t (h : law = 3) (e : (gpV sg i j c + gpV sg c j i) % p = 0) : kpV p sg law i j c = true := by unfold kpV; rw [if_neg (by omega), if_neg (by omega), if_pos h]; simp [e]
theorem kp_3f (h : law = 3) (e : (gpV sg i j c + gpV sg c j i) % p ≠ 0) : kpV p sg law i j c = false := by unfold kpV; rw [if_neg (by omega), if_neg (by omega), if_pos h]; simp [e]
theorem kp_2t (h : law ≠ 0 ∧ law ≠ 1 ∧ law ≠ 3) (e : (gpV sg i j c + gpV sg j i c) % p = 0) (e2 : (gpV sg i j c + gpV sg i c j) % p = 0) : kpV p sg law i j c = true := by unfold kpV; rw [if_neg h.1, if_neg h.2.1, if_neg h.2.2]; simp [e, e2]
theorem kp_2f (h : law ≠ 0 ∧ law ≠ 1 ∧ law ≠ 3) (e : (gpV sg i j c + gpV sg j i c) % p ≠ 0 ∨ (gpV sg i j c + gpV sg i c j) % p ≠ 0) : kpV p sg law i j c = false := by
  unfold kpV; rw [if_neg h.1, if_neg h.2.1, if_neg h.2.2]
  rcases e with e | e <;> simp [e]
end KP
abbrev rm_m_X6_keeps : Room := { frames := 2, cells := 0, slots := 0, locals := 44 }
set_option maxHeartbeats 4000000 in
theorem m_X6_keeps {l : Launch} {s0 : State} {G : zG} (hE : zE l s0 G) (H0 : Heap) (hO : zO s0 H0) (μ : Ro → Nat) (σ : St) (th : Int) (k : Nat) (law i j c : Nat) (hh : HM G s0 μ σ th H0) (hk : k < St_na σ) (hl0 : law < 4) (hi : i < St_n σ k ∧ j < St_n σ k ∧ c < St_n σ k) : zM l s0 yX6_keeps cX6_keeps 6 (some FieldType.boolean) rm_m_X6_keeps [.ref (μ (6, k, 0)), .int (iI ((law : Nat) : Int)), .int (iI ((i : Nat) : Int)), .int (iI ((j : Nat) : Int)), .int (iI ((c : Nat) : Int))] H0 M0 (ri (fun y _ => y = b2i (kpV (St_p σ) (St_sg σ k) law i j c))) := by
  refine z_met hE (by decide +kernel) (Nat.le_of_ble_eq_true rfl) ?_
  intro pp ee ss mm args below meth cd Q ls hC hml hrt hlk hnm hH hQ hS hl
  have hx := hC.x
  have hb := hC.b
  have hl : lv_has ls 6 [(0, .ref (μ (6, k, 0))), (1, .int (iI ((law : Nat) : Int))), (2, .int (iI ((i : Nat) : Int))), (3, .int (iI ((j : Nat) : Int))), (4, .int (iI ((c : Nat) : Int)))] := hl
  have hP : va_P G.1 zCl [] H0 := va_nil
  have hD : va_D (zA M0 H0) [] := va_nilD
  have hH1 := hh
  obtain ⟨hp, hna, hal, hne9, hel9, hmr9⟩ := id hh.ok
  have hp7 : 0 < St_p σ ∧ St_p σ ≤ 7 := by rcases hp with h | h | h <;> rw [h] <;> decide
  have hH1 : HM G s0 μ σ th H0 := hh.ext0 hE (zS_F hS)
  have hAk := hH1.al (k := k) hk
  have hn16k := hH1.n (k := k) hk
  have hn16 := hh.n hk
  have hdk := hal k hk
  have hsg9 := fun i j => St_sg_in (k := k) hh.ok i j
  have hs1 := hsg9 i j
  have hs2 := hsg9 j i
  refine lv_iload_n hx hb dX6_keeps_0 rfl (lv_at hl 1 rfl) ?_
  refine z_zne (tgt := 29) hx hb dX6_keeps_1 (by decide) (by omega) (fun c1 => ?_) (fun c1 => ?_)
  · refine lv_aload_n hx hb dX6_keeps_29 rfl (lv_at hl 0 rfl) ?_
    refine lv_iload_n hx hb dX6_keeps_30 rfl (lv_at hl 2 rfl) ?_
    refine lv_iload_n hx hb dX6_keeps_31 rfl (lv_at hl 3 rfl) ?_
    refine lv_iload hx hb dX6_keeps_32 (lv_at hl 4 rfl) ?_
    have hH1 : HM G s0 μ σ th H0 := hh.ext0 hE (zS_F hS)
    have hAk := hH1.al (k := k) hk
    have hn16k := hH1.n (k := k) hk
    have hH1 : HM G s0 μ σ th H0 := hh.ext0 hE (zS_F hS)
    refine z_go 0 0 (z_runV (As := [.int (iI ((i : Nat) : Int)), .int (iI ((j : Nat) : Int)), .int (iI ((c : Nat) : Int))]) (rest := []) hC hml hl.1 (m_X6_gap hE H0 (hO.ext0 (zS_F hS)) μ σ th k i j c hH1 hk ⟨by omega, by omega, by omega⟩) (lw_V q1854 q1855 q1856 q82 q1857) rfl nd_X6_gap rfl (z_rv hC (ci := 5) rfl hAk.1 rfl) rfl (Nat.le_of_ble_eq_true rfl) ⟨Nat.le_of_ble_eq_true rfl, Nat.le_of_ble_eq_true rfl⟩ ⟨zfit (k := 0) (z := 0) rfl rfl (by omega), zfit (k := 0) (z := 0) rfl rfl (by omega)⟩ dX6_keeps_34) ⟨zad (k := 0) rfl (by omega), zad (k := 0) rfl (by omega)⟩ hS (fun _ z => z.elim) (fun r H2 locs hp hF hS1 => ?_)
    obtain ⟨_, rfl, rfl⟩ := hp
    have hP := zpk hP hF
    have hP : va_P G.1 zCl ([]) H2 := hP
    have hD : va_D (zA M0 H0) ([]) := hD
    have hS := hS1
    have hgijc := md_in hp (gpV (St_sg σ k) i j c)
    have hH1 : HM G s0 μ σ th H2 := hh.ext0 hE (zS_F hS)
    have hAk := hH1.al (k := k) hk
    have hn16k := hH1.n (k := k) hk
    refine lv_istore (lv' := [(5, .int (iI (gpV (St_sg σ k) i j c % St_p σ))), (0, .ref (μ (6, k, 0))), (1, .int (iI ((law : Nat) : Int))), (2, .int (iI ((i : Nat) : Int))), (3, .int (iI ((j : Nat) : Int))), (4, .int (iI ((c : Nat) : Int)))]) hx hb dX6_keeps_37 hl (by decide) rfl (fun ls hl => ?_)
    refine lv_iload_n hx hb dX6_keeps_39 rfl (lv_at hl 2 rfl) ?_
    refine lv_iconst (v := iI 1) hx hb dX6_keeps_40 rfl ?_
    refine z_cne (tgt := 55) hx hb dX6_keeps_41 (by decide) (by omega) (fun c3 => ?_) (fun c3 => ?_)
    · refine lv_iload_n hx hb dX6_keeps_55 rfl (lv_at hl 2 rfl) ?_
      refine lv_iconst (v := iI 3) hx hb dX6_keeps_56 rfl ?_
      refine z_cne (tgt := 87) hx hb dX6_keeps_57 (by decide) (by omega) (fun c4 => ?_) (fun c4 => ?_)
      · refine lv_aload_n hx hb dX6_keeps_87 rfl (lv_at hl 1 rfl) ?_
        refine z_get hC (k := 5) rfl in_X6 hAk.1 (by decide) q1558 (fun _ h => h) rfl dX6_keeps_88 ?_
        refine lv_iload hx hb dX6_keeps_91 (lv_at hl 0 rfl) ?_
        refine lv_aload_n hx hb dX6_keeps_93 rfl (lv_at hl 1 rfl) ?_
        refine lv_iload_n hx hb dX6_keeps_94 rfl (lv_at hl 4 rfl) ?_
        refine lv_iload_n hx hb dX6_keeps_95 rfl (lv_at hl 3 rfl) ?_
        refine lv_iload hx hb dX6_keeps_96 (lv_at hl 5 rfl) ?_
        have hH1 : HM G s0 μ σ th H2 := hh.ext0 hE (zS_F hS)
        have hAk := hH1.al (k := k) hk
        have hn16k := hH1.n (k := k) hk
        have hH1 : HM G s0 μ σ th H2 := hh.ext0 hE (zS_F hS)
        refine z_go 0 0 (z_runV (As := [.int (iI ((j : Nat) : Int)), .int (iI ((i : Nat) : Int)), .int (iI ((c : Nat) : Int))]) (rest := [.int (iI (gpV (St_sg σ k) i j c % St_p σ)), .ref (μ (0, 0, 0))]) hC hml hl.1 (m_X6_gap hE H2 (hO.ext0 (zS_F hS)) μ σ th k j i c hH1 hk ⟨by omega, by omega, by omega⟩) (lw_V q1854 q1855 q1856 q82 q1857) rfl nd_X6_gap rfl (z_rv hC (ci := 5) rfl hAk.1 rfl) rfl (Nat.le_of_ble_eq_true rfl) ⟨Nat.le_of_ble_eq_true rfl, Nat.le_of_ble_eq_true rfl⟩ ⟨zfit (k := 0) (z := 0) rfl rfl (by omega), zfit (k := 0) (z := 0) rfl rfl (by omega)⟩ dX6_keeps_98) ⟨zad (k := 0) rfl (by omega), zad (k := 0) rfl (by omega)⟩ hS (fun _ z => z.elim) (fun r H5 locs hp hF hS1 => ?_)
        obtain ⟨_, rfl, rfl⟩ := hp
        have hP := zpk hP hF
        have hP : va_P G.1 zCl ([]) H5 := hP
        have hD : va_D (zA M0 H0) ([]) := hD
        have hS := hS1
        have hgjic := md_in hp (gpV (St_sg σ k) j i c)
        have hH1 : HM G s0 μ σ th H5 := hh.ext0 hE (zS_F hS)
        have hAk := hH1.al (k := k) hk
        have hn16k := hH1.n (k := k) hk
        refine z_add hx hb (z := (gpV (St_sg σ k) i j c % St_p σ) + (gpV (St_sg σ k) j i c % St_p σ)) dX6_keeps_101 rfl ?_
        have hH1 : HM G s0 μ σ th H5 := hh.ext0 hE (zS_F hS)
        refine z_go 0 0 (z_runVN (As := [.int (iI ((gpV (St_sg σ k) i j c % St_p σ) + (gpV (St_sg σ k) j i c % St_p σ)))]) (rest := []) hC hml hl.1 (m_X3_mod hE H5 (hO.ext0 (zS_F hS)) (μ (0, 0, 0)) (μ (1, 0, 0)) (μ (3, 0, 0)) th (St_p σ) (St_kn σ) (gpV (St_sg σ k) i j c % St_p σ + gpV (St_sg σ k) j i c % St_p σ) hH1.2.2.1.1 hp (by omega)) q1622 q67 q1619 q1621 qs33 nd_X3_mod rfl (z_rv hC (ci := 2) rfl hH1.2.2.1.1 rfl) rfl (Nat.le_of_ble_eq_true rfl) ⟨Nat.le_of_ble_eq_true rfl, Nat.le_of_ble_eq_true rfl⟩ ⟨zfit (k := 0) (z := 0) rfl rfl (by omega), zfit (k := 0) (z := 0) rfl rfl (by omega)⟩ dX6_keeps_102) ⟨zad (k := 0) rfl (by omega), zad (k := 0) rfl (by omega)⟩ hS (fun _ z => z.elim) (fun r H6 locs hp hF hS1 => ?_)
        obtain ⟨_, rfl, rfl⟩ := hp
        have hP := zpk hP hF
        have hP : va_P G.1 zCl ([]) H6 := hP
        have hD : va_D (zA M0 H0) ([]) := hD
        have hS := hS1
        refine z_top (b := (gpV (St_sg σ k) i j c + gpV (St_sg σ k) j i c) % St_p σ) ((Int.add_emod _ _ _).symm) ?_
        have hhjic := md_in hp (gpV (St_sg σ k) i j c + gpV (St_sg σ k) j i c)
        have hH1 : HM G s0 μ σ th H6 := hh.ext0 hE (zS_F hS)
        have hAk := hH1.al (k := k) hk
        have hn16k := hH1.n (k := k) hk
        refine z_zne (tgt := 133) hx hb dX6_keeps_105 (by decide) (by omega) (fun c7 => ?_) (fun c7 => ?_)
        · refine lv_iconst (v := iI 0) hx hb dX6_keeps_133 rfl ?_
          exact z_zret hC hrt hlk hQ hS ⟨zle (z := 0) rfl (by omega), zle (z := 0) rfl (by omega)⟩ (by omega) ⟨_, rfl, b2i_f (kp_2f (by omega) (Or.inl (by omega)))⟩ dX6_keeps_134
        · refine lv_aload_n hx hb dX6_keeps_108 rfl (lv_at hl 1 rfl) ?_
          refine z_get hC (k := 5) rfl in_X6 hAk.1 (by decide) q1558 (fun _ h => h) rfl dX6_keeps_109 ?_
          refine lv_iload hx hb dX6_keeps_112 (lv_at hl 0 rfl) ?_
          refine lv_aload_n hx hb dX6_keeps_114 rfl (lv_at hl 1 rfl) ?_
          refine lv_iload_n hx hb dX6_keeps_115 rfl (lv_at hl 3 rfl) ?_
          refine lv_iload hx hb dX6_keeps_116 (lv_at hl 5 rfl) ?_
          refine lv_iload_n hx hb dX6_keeps_118 rfl (lv_at hl 4 rfl) ?_
          have hH1 : HM G s0 μ σ th H6 := hh.ext0 hE (zS_F hS)
          have hAk := hH1.al (k := k) hk
          have hn16k := hH1.n (k := k) hk
          have hH1 : HM G s0 μ σ th H6 := hh.ext0 hE (zS_F hS)
          refine z_go 0 0 (z_runV (As := [.int (iI ((i : Nat) : Int)), .int (iI ((c : Nat) : Int)), .int (iI ((j : Nat) : Int))]) (rest := [.int (iI (gpV (St_sg σ k) i j c % St_p σ)), .ref (μ (0, 0, 0))]) hC hml hl.1 (m_X6_gap hE H6 (hO.ext0 (zS_F hS)) μ σ th k i c j hH1 hk ⟨by omega, by omega, by omega⟩) (lw_V q1854 q1855 q1856 q82 q1857) rfl nd_X6_gap rfl (z_rv hC (ci := 5) rfl hAk.1 rfl) rfl (Nat.le_of_ble_eq_true rfl) ⟨Nat.le_of_ble_eq_true rfl, Nat.le_of_ble_eq_true rfl⟩ ⟨zfit (k := 0) (z := 0) rfl rfl (by omega), zfit (k := 0) (z := 0) rfl rfl (by omega)⟩ dX6_keeps_119) ⟨zad (k := 0) rfl (by omega), zad (k := 0) rfl (by omega)⟩ hS (fun _ z => z.elim) (fun r H8 locs hp hF hS1 => ?_)
          obtain ⟨_, rfl, rfl⟩ := hp
          have hP := zpk hP hF
          have hP : va_P G.1 zCl ([]) H8 := hP
          have hD : va_D (zA M0 H0) ([]) := hD
          have hS := hS1
          have hgicj := md_in hp (gpV (St_sg σ k) i c j)
          have hH1 : HM G s0 μ σ th H8 := hh.ext0 hE (zS_F hS)
          have hAk := hH1.al (k := k) hk
          have hn16k := hH1.n (k := k) hk
          refine z_add hx hb (z := (gpV (St_sg σ k) i j c % St_p σ) + (gpV (St_sg σ k) i c j % St_p σ)) dX6_keeps_122 rfl ?_
          have hH1 : HM G s0 μ σ th H8 := hh.ext0 hE (zS_F hS)
          refine z_go 0 0 (z_runVN (As := [.int (iI ((gpV (St_sg σ k) i j c % St_p σ) + (gpV (St_sg σ k) i c j % St_p σ)))]) (rest := []) hC hml hl.1 (m_X3_mod hE H8 (hO.ext0 (zS_F hS)) (μ (0, 0, 0)) (μ (1, 0, 0)) (μ (3, 0, 0)) th (St_p σ) (St_kn σ) (gpV (St_sg σ k) i j c % St_p σ + gpV (St_sg σ k) i c j % St_p σ) hH1.2.2.1.1 hp (by omega)) q1622 q67 q1619 q1621 qs33 nd_X3_mod rfl (z_rv hC (ci := 2) rfl hH1.2.2.1.1 rfl) rfl (Nat.le_of_ble_eq_true rfl) ⟨Nat.le_of_ble_eq_true rfl, Nat.le_of_ble_eq_true rfl⟩ ⟨zfit (k := 0) (z := 0) rfl rfl (by omega), zfit (k := 0) (z := 0) rfl rfl (by omega)⟩ dX6_keeps_123) ⟨zad (k := 0) rfl (by omega), zad (k := 0) rfl (by omega)⟩ hS (fun _ z => z.elim) (fun r H9 locs hp hF hS1 => ?_)
          obtain ⟨_, rfl, rfl⟩ := hp
          have hP := zpk hP hF
          have hP : va_P G.1 zCl ([]) H9 := hP
          have hD : va_D (zA M0 H0) ([]) := hD
          have hS := hS1
          refine z_top (b := (gpV (St_sg σ k) i j c + gpV (St_sg σ k) i c j) % St_p σ) ((Int.add_emod _ _ _).symm) ?_
          have hhicj := md_in hp (gpV (St_sg σ k) i j c + gpV (St_sg σ k) i c j)
          have hH1 : HM G s0 μ σ th H9 := hh.ext0 hE (zS_F hS)
          have hAk := hH1.al (k := k) hk
          have hn16k := hH1.n (k := k) hk
          refine z_zne (tgt := 133) hx hb dX6_keeps_126 (by decide) (by omega) (fun c10 => ?_) (fun c10 => ?_)
          · refine lv_iconst (v := iI 0) hx hb dX6_keeps_133 rfl ?_
            exact z_zret hC hrt hlk hQ hS ⟨zle (z := 0) rfl (by omega), zle (z := 0) rfl (by omega)⟩ (by omega) ⟨_, rfl, b2i_f (kp_2f (by omega) (Or.inr (by omega)))⟩ dX6_keeps_134
          · refine lv_iconst (v := iI 1) hx hb dX6_keeps_129 rfl ?_
            refine lv_goto (tgt := 134) hx hb dX6_keeps_130 (by decide) ?_
            exact z_zret hC hrt hlk hQ hS ⟨zle (z := 0) rfl (by omega), zle (z := 0) rfl (by omega)⟩ (by omega) ⟨_, rfl, b2i_t (kp_2t (by omega) (by omega) (by omega))⟩ dX6_keeps_134
      · refine lv_aload_n hx hb dX6_keeps_60 rfl (lv_at hl 1 rfl) ?_
        refine z_get hC (k := 5) rfl in_X6 hAk.1 (by decide) q1558 (fun _ h => h) rfl dX6_keeps_61 ?_
        refine lv_iload hx hb dX6_keeps_64 (lv_at hl 0 rfl) ?_
        refine lv_aload_n hx hb dX6_keeps_66 rfl (lv_at hl 1 rfl) ?_
        refine lv_iload hx hb dX6_keeps_67 (lv_at hl 5 rfl) ?_
        refine lv_iload_n hx hb dX6_keeps_69 rfl (lv_at hl 4 rfl) ?_
        refine lv_iload_n hx hb dX6_keeps_70 rfl (lv_at hl 3 rfl) ?_
        have hH1 : HM G s0 μ σ th H2 := hh.ext0 hE (zS_F hS)
        have hAk := hH1.al (k := k) hk
        have hn16k := hH1.n (k := k) hk
        have hH1 : HM G s0 μ σ th H2 := hh.ext0 hE (zS_F hS)
        refine z_go 0 0 (z_runV (As := [.int (iI ((c : Nat) : Int)), .int (iI ((j : Nat) : Int)), .int (iI ((i : Nat) : Int))]) (rest := [.int (iI (gpV (St_sg σ k) i j c % St_p σ)), .ref (μ (0, 0, 0))]) hC hml hl.1 (m_X6_gap hE H2 (hO.ext0 (zS_F hS)) μ σ th k c j i hH1 hk ⟨by omega, by omega, by omega⟩) (lw_V q1854 q1855 q1856 q82 q1857) rfl nd_X6_gap rfl (z_rv hC (ci := 5) rfl hAk.1 rfl) rfl (Nat.le_of_ble_eq_true rfl) ⟨Nat.le_of_ble_eq_true rfl, Nat.le_of_ble_eq_true rfl⟩ ⟨zfit (k := 0) (z := 0) rfl rfl (by omega), zfit (k := 0) (z := 0) rfl rfl (by omega)⟩ dX6_keeps_71) ⟨zad (k := 0) rfl (by omega), zad (k := 0) rfl (by omega)⟩ hS (fun _ z => z.elim) (fun r H11 locs hp hF hS1 => ?_)
        obtain ⟨_, rfl, rfl⟩ := hp
        have hP := zpk hP hF
        have hP : va_P G.1 zCl ([]) H11 := hP
        have hD : va_D (zA M0 H0) ([]) := hD
        have hS := hS1
        have hgcji := md_in hp (gpV (St_sg σ k) c j i)
        have hH1 : HM G s0 μ σ th H11 := hh.ext0 hE (zS_F hS)
        have hAk := hH1.al (k := k) hk
        have hn16k := hH1.n (k := k) hk
        refine z_add hx hb (z := (gpV (St_sg σ k) i j c % St_p σ) + (gpV (St_sg σ k) c j i % St_p σ)) dX6_keeps_74 rfl ?_
        have hH1 : HM G s0 μ σ th H11 := hh.ext0 hE (zS_F hS)
        refine z_go 0 0 (z_runVN (As := [.int (iI ((gpV (St_sg σ k) i j c % St_p σ) + (gpV (St_sg σ k) c j i % St_p σ)))]) (rest := []) hC hml hl.1 (m_X3_mod hE H11 (hO.ext0 (zS_F hS)) (μ (0, 0, 0)) (μ (1, 0, 0)) (μ (3, 0, 0)) th (St_p σ) (St_kn σ) (gpV (St_sg σ k) i j c % St_p σ + gpV (St_sg σ k) c j i % St_p σ) hH1.2.2.1.1 hp (by omega)) q1622 q67 q1619 q1621 qs33 nd_X3_mod rfl (z_rv hC (ci := 2) rfl hH1.2.2.1.1 rfl) rfl (Nat.le_of_ble_eq_true rfl) ⟨Nat.le_of_ble_eq_true rfl, Nat.le_of_ble_eq_true rfl⟩ ⟨zfit (k := 0) (z := 0) rfl rfl (by omega), zfit (k := 0) (z := 0) rfl rfl (by omega)⟩ dX6_keeps_75) ⟨zad (k := 0) rfl (by omega), zad (k := 0) rfl (by omega)⟩ hS (fun _ z => z.elim) (fun r H12 locs hp hF hS1 => ?_)
        obtain ⟨_, rfl, rfl⟩ := hp
        have hP := zpk hP hF
        have hP : va_P G.1 zCl ([]) H12 := hP
        have hD : va_D (zA M0 H0) ([]) := hD
        have hS := hS1
        refine z_top (b := (gpV (St_sg σ k) i j c + gpV (St_sg σ k) c j i) % St_p σ) ((Int.add_emod _ _ _).symm) ?_
        have hhcji := md_in hp (gpV (St_sg σ k) i j c + gpV (St_sg σ k) c j i)
        have hH1 : HM G s0 μ σ th H12 := hh.ext0 hE (zS_F hS)
        have hAk := hH1.al (k := k) hk
        have hn16k := hH1.n (k := k) hk
        refine z_zne (tgt := 85) hx hb dX6_keeps_78 (by decide) (by omega) (fun c13 => ?_) (fun c13 => ?_)
        · refine lv_iconst (v := iI 0) hx hb dX6_keeps_85 rfl ?_
          exact z_zret hC hrt hlk hQ hS ⟨zle (z := 0) rfl (by omega), zle (z := 0) rfl (by omega)⟩ (by omega) ⟨_, rfl, b2i_f (kp_3f (by omega) (by omega))⟩ dX6_keeps_86
        · refine lv_iconst (v := iI 1) hx hb dX6_keeps_81 rfl ?_
          refine lv_goto (tgt := 86) hx hb dX6_keeps_82 (by decide) ?_
          exact z_zret hC hrt hlk hQ hS ⟨zle (z := 0) rfl (by omega), zle (z := 0) rfl (by omega)⟩ (by omega) ⟨_, rfl, b2i_t (kp_3t (by omega) (by omega))⟩ dX6_keeps_86
    · refine lv_iload hx hb dX6_keeps_44 (lv_at hl 0 rfl) ?_
      refine z_zne (tgt := 53) hx hb dX6_keeps_46 (by decide) (by omega) (fun c14 => ?_) (fun c14 => ?_)
      · refine lv_iconst (v := iI 0) hx hb dX6_keeps_53 rfl ?_
        exact z_zret hC hrt hlk hQ hS ⟨zle (z := 0) rfl (by omega), zle (z := 0) rfl (by omega)⟩ (by omega) ⟨_, rfl, b2i_f (kp_1f (by omega) (by omega))⟩ dX6_keeps_54
      · refine lv_iconst (v := iI 1) hx hb dX6_keeps_49 rfl ?_
        refine lv_goto (tgt := 54) hx hb dX6_keeps_50 (by decide) ?_
        exact z_zret hC hrt hlk hQ hS ⟨zle (z := 0) rfl (by omega), zle (z := 0) rfl (by omega)⟩ (by omega) ⟨_, rfl, b2i_t (kp_1t (by omega) (by omega))⟩ dX6_keeps_54
  · refine lv_aload_n hx hb dX6_keeps_4 rfl (lv_at hl 0 rfl) ?_
    refine z_get hC (k := 2) rfl in_X6 hAk.1 (by decide) q1552 (fun _ h => h) rfl dX6_keeps_5 ?_
    refine lv_iload_n hx hb dX6_keeps_8 rfl (lv_at hl 2 rfl) ?_
    refine z_aald hC hAk.2.2.2.1 (k := i) rfl (by omega) (q := (μ (12, k, i))) rfl dX6_keeps_9 ?_
    refine lv_iload_n hx hb dX6_keeps_10 rfl (lv_at hl 3 rfl) ?_
    refine z_iald hC (hAk.2.2.2.2.1 i (by first | assumption | omega)) (k := j) rfl (by omega) (y := (St_sg σ k i) j) rfl dX6_keeps_11 ?_
    refine lv_aload_n hx hb dX6_keeps_12 rfl (lv_at hl 0 rfl) ?_
    refine z_get hC (k := 2) rfl in_X6 hAk.1 (by decide) q1552 (fun _ h => h) rfl dX6_keeps_13 ?_
    refine lv_iload_n hx hb dX6_keeps_16 rfl (lv_at hl 3 rfl) ?_
    refine z_aald hC hAk.2.2.2.1 (k := j) rfl (by omega) (q := (μ (12, k, j))) rfl dX6_keeps_17 ?_
    refine lv_iload_n hx hb dX6_keeps_18 rfl (lv_at hl 2 rfl) ?_
    refine z_iald hC (hAk.2.2.2.2.1 j (by first | assumption | omega)) (k := i) rfl (by omega) (y := (St_sg σ k j) i) rfl dX6_keeps_19 ?_
    refine z_cne (tgt := 27) hx hb dX6_keeps_20 (by decide) (by omega) (fun c15 => ?_) (fun c15 => ?_)
    · refine lv_iconst (v := iI 0) hx hb dX6_keeps_27 rfl ?_
      exact z_zret hC hrt hlk hQ hS ⟨zle (z := 0) rfl (by omega), zle (z := 0) rfl (by omega)⟩ (by omega) ⟨_, rfl, b2i_f (kp_0f (by omega) (by omega))⟩ dX6_keeps_28
    · refine lv_iconst (v := iI 1) hx hb dX6_keeps_23 rfl ?_
      refine lv_goto (tgt := 28) hx hb dX6_keeps_24 (by decide) ?_
      exact z_zret hC hrt hlk hQ hS ⟨zle (z := 0) rfl (by omega), zle (z := 0) rfl (by omega)⟩ (by omega) ⟨_, rfl, b2i_t (kp_0t (by omega) (by omega))⟩ dX6_keeps_28

abbrev rm_m_X6_form : Room := { frames := 1, cells := 0, slots := 0, locals := 21 }
set_option maxHeartbeats 4000000 in
theorem m_X6_form {l : Launch} {s0 : State} {G : zG} (hE : zE l s0 G) (H0 : Heap) (hO : zO s0 H0) (μ : Ro → Nat) (σ : St) (th : Int) (k : Nat) (row : Int) (hh : HM G s0 μ σ th H0) (hk : k < St_na σ) (hr : 0 ≤ row ∧ row ≤ 2401) : zM l s0 yX6_form cX6_form 5 (some FieldType.int) rm_m_X6_form [.ref (μ (6, k, 0)), .int (iI row)] H0 M0 (ri (fun y _ => y = fmV (St_p σ) (St_dv σ k) (St_d σ k) row % St_p σ)) := by
  refine z_met hE (by decide +kernel) (Nat.le_of_ble_eq_true rfl) ?_
  intro pp ee ss mm args below meth cd Q ls hC hml hrt hlk hnm hH hQ hS hl
  have hx := hC.x
  have hb := hC.b
  have hl : lv_has ls 5 [(0, .ref (μ (6, k, 0))), (1, .int (iI row))] := hl
  have hP : va_P G.1 zCl [] H0 := va_nil
  have hD : va_D (zA M0 H0) [] := va_nilD
  have hH1 := hh
  obtain ⟨hp, hna, hal, hne9, hel9, hmr9⟩ := id hh.ok
  have hp7 : 0 < St_p σ ∧ St_p σ ≤ 7 := by rcases hp with h | h | h <;> rw [h] <;> decide
  have hH1 : HM G s0 μ σ th H0 := hh.ext0 hE (zS_F hS)
  have hAk := hH1.al (k := k) hk
  have hn16k := hH1.n (k := k) hk
  have hn16 := hh.n hk
  have hdk := hal k hk
  have hsg9 := fun i j => St_sg_in (k := k) hh.ok i j
  have hfm := fmV_in (p := St_p σ) (dv := St_dv σ k) hp (St_d σ k) row hdk.2.2
  refine lv_iconst (v := iI 0) hx hb dX6_form_0 rfl ?_
  refine lv_istore_n (lv' := [(2, .int (iI 0)), (0, .ref (μ (6, k, 0))), (1, .int (iI row))]) hx hb dX6_form_1 rfl hl (by decide) rfl (fun ls hl => ?_)
  refine lv_iload_n hx hb dX6_form_2 rfl (lv_at hl 2 rfl) ?_
  refine lv_istore_n (lv' := [(3, .int (iI row)), (2, .int (iI 0)), (0, .ref (μ (6, k, 0))), (1, .int (iI row))]) hx hb dX6_form_3 rfl hl (by decide) rfl (fun ls hl => ?_)
  refine lv_aload_n hx hb dX6_form_4 rfl (lv_at hl 2 rfl) ?_
  refine z_get hC (k := 3) rfl in_X6 hAk.1 (by decide) q1554 (fun _ h => h) rfl dX6_form_5 ?_
  refine lv_iconst (v := iI 1) hx hb dX6_form_8 rfl ?_
  refine z_sub hx hb (z := ((St_d σ k : Nat) : Int) - 1) dX6_form_9 rfl ?_
  refine lv_istore (lv' := [(4, .int (iI (((St_d σ k : Nat) : Int) - 1))), (3, .int (iI row)), (2, .int (iI 0)), (0, .ref (μ (6, k, 0))), (1, .int (iI row))]) hx hb dX6_form_10 hl (by decide) rfl (fun ls hl => ?_)
  have lp1 : ∀ (dlp1 : Nat) (c : Nat) (s9 : Int) (r9 : Int), c = dlp1 → (c ≤ St_d σ k) → (0 ≤ r9 ∧ r9 ≤ 2401) → (s9 + fmV (St_p σ) (St_dv σ k) c r9 = fmV (St_p σ) (St_dv σ k) (St_d σ k) row) → (0 ≤ s9 ∧ s9 ≤ 864) → ∀ (H2 : Heap) (locs : List Loc) (ls : Array Slot), va_P G.1 zCl ([]) H2 → va_D (zA M0 H0) ([]) → va_S (zA M0 H0) H0 H2 locs → lv_has ls 5 [(4, .int (iI (((c : Nat) : Int) - 1))), (3, .int (iI r9)), (2, .int (iI s9)), (0, .ref (μ (6, k, 0))), (1, .int (iI row))] → W pp l ee rm_m_X6_form ss mm args below meth cd H2 locs 0 0 Q (F0 mm 12 ls []) := by
    intro dlp1
    induction dlp1 using Nat.strongRecOn with
    | ind dlp1 ihlp1 =>
      intro c s9 r9 hdlp1 hc hr9 hs hs9 H2 locs ls  hP hD hS hl
      have hH1 : HM G s0 μ σ th H2 := hh.ext0 hE (zS_F hS)
      have hAk := hH1.al (k := k) hk
      have hn16k := hH1.n (k := k) hk
      have hH1 : HM G s0 μ σ th H2 := hh.ext0 hE (zS_F hS)
      have hxx := hH1.2.2.1.1
      refine lv_iload hx hb dX6_form_12 (lv_at hl 0 rfl) ?_
      refine z_zlt (tgt := 63) hx hb dX6_form_14 (by decide) (by omega) (fun c3 => ?_) (fun c3 => ?_)
      · have ec : c = 0 := by omega
        have es : s9 = fmV (St_p σ) (St_dv σ k) (St_d σ k) row := by rw [← hs, ec]; simp [fmV]
        refine lv_aload_n hx hb dX6_form_63 rfl (lv_at hl 3 rfl) ?_
        refine z_get hC (k := 5) rfl in_X6 hAk.1 (by decide) q1558 (fun _ h => h) rfl dX6_form_64 ?_
        refine lv_iload_n hx hb dX6_form_67 rfl (lv_at hl 2 rfl) ?_
        have hH1 : HM G s0 μ σ th H2 := hh.ext0 hE (zS_F hS)
        refine z_go 0 0 (z_runVN (As := [.int (iI s9)]) (rest := []) hC hml hl.1 (m_X3_mod hE H2 (hO.ext0 (zS_F hS)) (μ (0, 0, 0)) (μ (1, 0, 0)) (μ (3, 0, 0)) th (St_p σ) (St_kn σ) (s9) hH1.2.2.1.1 hp (by omega)) q1622 q67 q1619 q1621 qs33 nd_X3_mod rfl (z_rv hC (ci := 2) rfl hH1.2.2.1.1 rfl) rfl (Nat.le_of_ble_eq_true rfl) ⟨Nat.le_of_ble_eq_true rfl, Nat.le_of_ble_eq_true rfl⟩ ⟨zfit (k := 0) (z := 0) rfl rfl (by omega), zfit (k := 0) (z := 0) rfl rfl (by omega)⟩ dX6_form_68) ⟨zad (k := 0) rfl (by omega), zad (k := 0) rfl (by omega)⟩ hS (fun _ z => z.elim) (fun r H4 locs hp hF hS1 => ?_)
        obtain ⟨_, rfl, rfl⟩ := hp
        have hP := zpk hP hF
        have hP : va_P G.1 zCl ([]) H4 := hP
        have hD : va_D (zA M0 H0) ([]) := hD
        have hS := hS1
        exact z_iret hC hrt hlk hQ hS ⟨zle (z := 0) rfl (by omega), zle (z := 0) rfl (by omega)⟩ ⟨_, rfl, by rw [es]⟩ dX6_form_71
      · obtain ⟨c1, ec⟩ : ∃ c1, c = c1 + 1 := ⟨c - 1, by omega⟩
        subst ec
        have hdc := hdk.2.2 c1 (by omega)
        have edv : dvA σ k c1 = St_dv σ k c1 := if_pos (by omega)
        have em : Int.tmod r9 (St_p σ) = r9 % St_p σ := Int.tmod_eq_emod_of_nonneg hr9.1
        have ed : Int.tdiv r9 (St_p σ) = r9 / St_p σ := Int.tdiv_eq_ediv_of_nonneg hr9.1
        have hmr := md_in hp r9
        have hb3 := zmul3 (p := St_p σ) (show 0 ≤ St_dv σ k c1 ∧ St_dv σ k c1 < St_p σ by omega) hmr hmr hp7
        have hdd : 0 ≤ r9 / St_p σ ∧ r9 / St_p σ ≤ r9 := ⟨Int.ediv_nonneg hr9.1 (by omega), Int.ediv_le_self _ hr9.1⟩
        have hfn := fmV_in (p := St_p σ) (dv := St_dv σ k) hp c1 (r9 / St_p σ) (fun j hj => hdk.2.2 j (by omega))
        have efm : fmV (St_p σ) (St_dv σ k) (c1 + 1) r9 = St_dv σ k c1 * (r9 % St_p σ) * (r9 % St_p σ) + fmV (St_p σ) (St_dv σ k) c1 (r9 / St_p σ) := rfl
        have hl : lv_has ls 5 [(4, .int (iI (((c1 + 1 : Nat) : Int) - 1))), (3, .int (iI r9)), (2, .int (iI s9)), (0, .ref (μ (6, k, 0))), (1, .int (iI row))] := hl
        rw [show (((c1 + 1 : Nat) : Int) - 1) = (c1 : Int) by omega] at hl
        refine lv_iload_n hx hb dX6_form_17 rfl (lv_at hl 2 rfl) ?_
        refine lv_aload_n hx hb dX6_form_18 rfl (lv_at hl 3 rfl) ?_
        refine z_get hC (k := 1) rfl in_X6 hAk.1 (by decide) q1550 (fun _ h => h) rfl dX6_form_19 ?_
        refine lv_iload hx hb dX6_form_22 (lv_at hl 0 rfl) ?_
        refine z_iald hC hAk.2.1 (k := c1) rfl (by omega) (y := (dvA σ k) c1) rfl dX6_form_24 ?_
        refine z_top (b := St_dv σ k c1) (edv) ?_
        refine lv_iload_n hx hb dX6_form_25 rfl (lv_at hl 1 rfl) ?_
        refine lv_aload_n hx hb dX6_form_26 rfl (lv_at hl 3 rfl) ?_
        refine z_get hC (k := 5) rfl in_X6 hAk.1 (by decide) q1558 (fun _ h => h) rfl dX6_form_27 ?_
        refine z_getn hC (k := 1) rfl in_X3 hxx (by decide) q1497 (fun _ h => h) rfl dX6_form_30 ?_
        refine z_rem hx hb (z := Int.tmod r9 (St_p σ)) dX6_form_33 (by omega) rfl ?_
        refine z_top (b := r9 % St_p σ) (em) ?_
        refine z_mul hx hb (z := (St_dv σ k c1) * (r9 % St_p σ)) dX6_form_34 rfl ?_
        refine lv_iload_n hx hb dX6_form_35 rfl (lv_at hl 1 rfl) ?_
        refine lv_aload_n hx hb dX6_form_36 rfl (lv_at hl 3 rfl) ?_
        refine z_get hC (k := 5) rfl in_X6 hAk.1 (by decide) q1558 (fun _ h => h) rfl dX6_form_37 ?_
        refine z_getn hC (k := 1) rfl in_X3 hxx (by decide) q1497 (fun _ h => h) rfl dX6_form_40 ?_
        refine z_rem hx hb (z := Int.tmod r9 (St_p σ)) dX6_form_43 (by omega) rfl ?_
        refine z_top (b := r9 % St_p σ) (em) ?_
        refine z_mul hx hb (z := ((St_dv σ k c1) * (r9 % St_p σ)) * (r9 % St_p σ)) dX6_form_44 rfl ?_
        refine z_add hx hb (z := s9 + (((St_dv σ k c1) * (r9 % St_p σ)) * (r9 % St_p σ))) dX6_form_45 rfl ?_
        refine lv_istore_n (lv' := [(2, .int (iI (s9 + (((St_dv σ k c1) * (r9 % St_p σ)) * (r9 % St_p σ))))), (4, .int (iI ((c1 : Nat) : Int))), (3, .int (iI r9)), (0, .ref (μ (6, k, 0))), (1, .int (iI row))]) hx hb dX6_form_46 rfl hl (by decide) rfl (fun ls hl => ?_)
        refine lv_iload_n hx hb dX6_form_47 rfl (lv_at hl 2 rfl) ?_
        refine lv_aload_n hx hb dX6_form_48 rfl (lv_at hl 3 rfl) ?_
        refine z_get hC (k := 5) rfl in_X6 hAk.1 (by decide) q1558 (fun _ h => h) rfl dX6_form_49 ?_
        refine z_getn hC (k := 1) rfl in_X3 hxx (by decide) q1497 (fun _ h => h) rfl dX6_form_52 ?_
        refine z_div hx hb (z := Int.tdiv r9 (St_p σ)) dX6_form_55 (by omega) rfl ?_
        refine z_top (b := r9 / St_p σ) (ed) ?_
        refine lv_istore_n (lv' := [(3, .int (iI (r9 / St_p σ))), (2, .int (iI (s9 + (((St_dv σ k c1) * (r9 % St_p σ)) * (r9 % St_p σ))))), (4, .int (iI ((c1 : Nat) : Int))), (0, .ref (μ (6, k, 0))), (1, .int (iI row))]) hx hb dX6_form_56 rfl hl (by decide) rfl (fun ls hl => ?_)
        refine z_iinc (z := ((c1 : Nat) : Int) - 1) (lv' := [(4, .int (iI (((c1 : Nat) : Int) - 1))), (3, .int (iI (r9 / St_p σ))), (2, .int (iI (s9 + (((St_dv σ k c1) * (r9 % St_p σ)) * (r9 % St_p σ))))), (0, .ref (μ (6, k, 0))), (1, .int (iI row))]) hx hb dX6_form_57 hl (k := 2) rfl (by omega) (by decide) rfl (fun ls hl => ?_)
        refine lv_goto (tgt := 12) hx hb dX6_form_60 (by decide) ?_
        exact W.widen (by omega) (by omega) (ihlp1 (c1) (by omega) c1 (s9 + St_dv σ k c1 * (r9 % St_p σ) * (r9 % St_p σ)) (r9 / St_p σ) rfl (by omega) (by omega) (by rw [← hs, efm]; omega) (by omega) _ _ _  hP hD hS hl)
  exact W.widen (by omega) (by omega) (lp1 _ (St_d σ k) 0 row rfl (Nat.le_refl _) (⟨by omega, by omega⟩) (by omega) (by decide) _ _ _  hP hD hS hl)

