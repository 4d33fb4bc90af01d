/-! THE MODEL: small questions -/
set_option maxRecDepth 100000
theorem md_tm {p z : Int} (hp : pr357 p) : Int.tmod (Int.tmod z p + p) p = z % p := by
  have h1 := Int.tmod_def z p
  have h2 := Int.lt_tmod_of_pos z (show 0 < p by rcases hp with rfl | rfl | rfl <;> decide)
  rw [Int.tmod_eq_emod_of_nonneg (by omega), h1]
  generalize Int.tdiv z p = q
  rcases hp with rfl | rfl | rfl <;> omega
theorem szV_p0 {v : Nat → Int} : ∀ {n : Nat}, 0 < n → v 0 ≠ 0 → szV v n ≠ 0
  | 0, h, _ => absurd h (Nat.lt_irrefl 0)
  | 1, _, h => by simp only [szV]; rw [if_neg h]; omega
  | n + 2, _, h => by
    have := szV_p0 (n := n + 1) (Nat.succ_pos n) h
    simp only [szV] at this ⊢
    omega
theorem tm_in {p z : Int} (hp : pr357 p) : -p < Int.tmod z p ∧ Int.tmod z p < p := ⟨Int.lt_tmod_of_pos z (by rcases hp with rfl | rfl | rfl <;> decide), Int.tmod_lt_of_pos z (by rcases hp with rfl | rfl | rfl <;> decide)⟩
abbrev rm_m_X3_in : Room := { frames := 0, cells := 0, slots := 0, locals := 0 }
set_option maxHeartbeats 4000000 in
theorem m_X3_in {l : Launch} {s0 : State} {G : zG} (hE : zE l s0 G) (H0 : Heap) (hO : zO s0 H0) (a b z : Int) (h : zi a ∧ zi b ∧ zi z) : zM l s0 yX3_in cX3_in 3 (some FieldType.boolean) rm_m_X3_in [.int (iI z), .int (iI a), .int (iI b)] H0 M0 (ri (fun y _ => y = if a ≤ z ∧ z ≤ b then 1 else 0)) := by
  refine z_met hE (by decide +kernel) (Nat.le_of_ble_eq_true rfl) ?_
  intro pp ee ss mm args below meth cd Q ls hC hml hrt hlk hnm hH hQ hS hl
  have hx := hC.x
  have hb := hC.b
  have hl : lv_has ls 3 [(0, .int (iI z)), (1, .int (iI a)), (2, .int (iI b))] := hl
  have hP : va_P G.1 zCl [] H0 := va_nil
  have hD : va_D (zA M0 H0) [] := va_nilD
  refine lv_iload_n hx hb dX3_in_0 rfl (lv_at hl 0 rfl) ?_
  refine lv_iload_n hx hb dX3_in_1 rfl (lv_at hl 1 rfl) ?_
  refine z_clt (tgt := 14) hx hb dX3_in_2 (by decide) (by omega) (fun c1 => ?_) (fun c1 => ?_)
  · refine lv_iconst (v := iI 0) hx hb dX3_in_14 rfl ?_
    exact z_zret hC hrt hlk hQ hS ⟨zle (z := 0) rfl (by omega), zle (z := 0) rfl (by omega)⟩ (by omega) ⟨_, rfl, by rw [if_neg (by omega)]⟩ dX3_in_15
  · refine lv_iload_n hx hb dX3_in_5 rfl (lv_at hl 0 rfl) ?_
    refine lv_iload_n hx hb dX3_in_6 rfl (lv_at hl 2 rfl) ?_
    refine z_cgt (tgt := 14) hx hb dX3_in_7 (by decide) (by omega) (fun c2 => ?_) (fun c2 => ?_)
    · refine lv_iconst (v := iI 0) hx hb dX3_in_14 rfl ?_
      exact z_zret hC hrt hlk hQ hS ⟨zle (z := 0) rfl (by omega), zle (z := 0) rfl (by omega)⟩ (by omega) ⟨_, rfl, by rw [if_neg (by omega)]⟩ dX3_in_15
    · refine lv_iconst (v := iI 1) hx hb dX3_in_10 rfl ?_
      refine lv_goto (tgt := 15) hx hb dX3_in_11 (by decide) ?_
      exact z_zret hC hrt hlk hQ hS ⟨zle (z := 0) rfl (by omega), zle (z := 0) rfl (by omega)⟩ (by omega) ⟨_, rfl, by rw [if_pos (by omega)]⟩ dX3_in_15

abbrev rm_m_X3_mod : Room := { frames := 0, cells := 0, slots := 0, locals := 0 }
set_option maxHeartbeats 4000000 in
theorem m_X3_mod {l : Launch} {s0 : State} {G : zG} (hE : zE l s0 G) (H0 : Heap) (hO : zO s0 H0) (x la le : Nat) (t9 p : Int) (kn : Nat) (z : Int) (hx0 : zAt G x (zOb 2 [.int (iI t9), .int (iI p), .int (iI (kn : Int)), .ref la, .ref le]) H0) (hp : pr357 p) (hz : zi z) : zM l s0 yX3_mod cX3_mod 2 (some FieldType.int) rm_m_X3_mod [.ref x, .int (iI z)] H0 M0 (ri (fun y _ => y = z % p)) := by
  refine z_met hE (by decide +kernel) (Nat.le_of_ble_eq_true rfl) ?_
  intro pp ee ss mm args below meth cd Q ls hC hml hrt hlk hnm hH hQ hS hl
  have hx := hC.x
  have hb := hC.b
  have hl : lv_has ls 2 [(0, .ref x), (1, .int (iI z))] := hl
  have hP : va_P G.1 zCl [] H0 := va_nil
  have hD : va_D (zA M0 H0) [] := va_nilD
  have hp7 : 0 < p ∧ p ≤ 7 := by rcases hp with h | h | h <;> rw [h] <;> decide
  have ht1 := tm_in (z := z) hp
  have ht2 := md_tm (z := z) hp
  refine lv_iload_n hx hb dX3_mod_0 rfl (lv_at hl 1 rfl) ?_
  refine lv_aload_n hx hb dX3_mod_1 rfl (lv_at hl 0 rfl) ?_
  refine z_get hC (k := 1) rfl in_X3 (zo hS hx0 id) (by decide) q1496 (fun _ h => h) rfl dX3_mod_2 ?_
  refine z_rem hx hb (z := Int.tmod z p) dX3_mod_5 (by omega) rfl ?_
  refine lv_aload_n hx hb dX3_mod_6 rfl (lv_at hl 0 rfl) ?_
  refine z_get hC (k := 1) rfl in_X3 (zo hS hx0 id) (by decide) q1496 (fun _ h => h) rfl dX3_mod_7 ?_
  refine z_add hx hb (z := (Int.tmod z p) + p) dX3_mod_10 rfl ?_
  refine lv_aload_n hx hb dX3_mod_11 rfl (lv_at hl 0 rfl) ?_
  refine z_get hC (k := 1) rfl in_X3 (zo hS hx0 id) (by decide) q1496 (fun _ h => h) rfl dX3_mod_12 ?_
  refine z_rem hx hb (z := Int.tmod ((Int.tmod z p) + p) p) dX3_mod_15 (by omega) rfl ?_
  exact z_iret hC hrt hlk hQ hS ⟨zle (z := 0) rfl (by omega), zle (z := 0) rfl (by omega)⟩ ⟨_, rfl, ht2⟩ dX3_mod_16

abbrev rm_m_X3_inverse : Room := { frames := 1, cells := 0, slots := 0, locals := 21 }
set_option maxHeartbeats 4000000 in
theorem m_X3_inverse {l : Launch} {s0 : State} {G : zG} (hE : zE l s0 G) (H0 : Heap) (hO : zO s0 H0) (x la le : Nat) (t9 p : Int) (kn : Nat) (z : Int) (hx0 : zAt G x (zOb 2 [.int (iI t9), .int (iI p), .int (iI (kn : Int)), .ref la, .ref le]) H0) (hp : pr357 p) (hz : z % p ≠ 0) (hzb : -1000 ≤ z ∧ z ≤ 1000) : zM l s0 yX3_inverse cX3_inverse 3 (some FieldType.int) rm_m_X3_inverse [.ref x, .int (iI z)] H0 M0 (ri (fun y _ => y = ivS p z)) := by
  refine z_met hE (by decide +kernel) (Nat.le_of_ble_eq_true rfl) ?_
  intro pp ee ss mm args below meth cd Q ls hC hml hrt hlk hnm hH hQ hS hl
  have hx := hC.x
  have hb := hC.b
  have hl : lv_has ls 3 [(0, .ref x), (1, .int (iI z))] := hl
  have hP : va_P G.1 zCl [] H0 := va_nil
  have hD : va_D (zA M0 H0) [] := va_nilD
  have hp7 : 0 < p ∧ p ≤ 7 := by rcases hp with rfl | rfl | rfl <;> decide
  obtain ⟨hi1, hi2, hi3, hi4⟩ := iv_ex hp hz
  refine lv_iconst (v := iI 1) hx hb dX3_inverse_0 rfl ?_
  refine lv_istore_n (lv' := [(2, .int (iI 1)), (0, .ref x), (1, .int (iI z))]) hx hb dX3_inverse_1 rfl hl (by decide) rfl (fun ls hl => ?_)
  have lp1 : ∀ (dlp1 : Nat) (k : Int), (ivS p z - k).toNat = dlp1 → (1 ≤ k ∧ k ≤ ivS p z) → ∀ (H2 : Heap) (locs : List Loc) (ls : Array Slot), va_P G.1 zCl ([]) H2 → va_D (zA M0 H0) ([]) → va_S (zA M0 H0) H0 H2 locs → lv_has ls 3 [(2, .int (iI k)), (0, .ref x), (1, .int (iI z))] → W pp l ee rm_m_X3_inverse ss mm args below meth cd H2 locs 0 0 Q (F0 mm 2 ls []) := by
    intro dlp1
    induction dlp1 using Nat.strongRecOn with
    | ind dlp1 ihlp1 =>
      intro k hdlp1 hk H2 locs ls  hP hD hS hl
      refine lv_aload_n hx hb dX3_inverse_2 rfl (lv_at hl 1 rfl) ?_
      refine lv_iload_n hx hb dX3_inverse_3 rfl (lv_at hl 0 rfl) ?_
      refine lv_iload_n hx hb dX3_inverse_4 rfl (lv_at hl 2 rfl) ?_
      refine z_mul hx hb (z := k * z) dX3_inverse_5 rfl ?_
      have hk2 : -6000 ≤ k * z ∧ k * z ≤ 6000 := zmul6 hk hzb
      refine z_go 0 0 (z_runV (As := [.int (iI (k * z))]) (rest := []) hC hml hl.1 (m_X3_mod hE H2 (hO.ext0 (zS_F hS)) x la le t9 p kn (k * z) (zo hS hx0 id) hp (by omega)) (lw_V q1670 q1621 qs33 q67 q1622) rfl nd_X3_mod rfl (z_rv hC (ci := 2) rfl (zo hS hx0 id) rfl) rfl (Nat.le_of_ble_eq_true rfl) ⟨Nat.le_of_ble_eq_true rfl, Nat.le_of_ble_eq_true rfl⟩ ⟨zfit (k := 0) (z := 0) rfl rfl (by omega), zfit (k := 0) (z := 0) rfl rfl (by omega)⟩ dX3_inverse_6) ⟨zad (k := 0) rfl (by omega), zad (k := 0) rfl (by omega)⟩ hS (fun _ z => z.elim) (fun r H3 locs hp hF hS1 => ?_)
      obtain ⟨_, rfl, rfl⟩ := hp
      have hP := zpk hP hF
      have hP : va_P G.1 zCl ([]) H3 := hP
      have hD : va_D (zA M0 H0) ([]) := hD
      have hS := hS1
      have hmd := md_in hp (k * z)
      refine lv_iconst (v := iI 1) hx hb dX3_inverse_9 rfl ?_
      refine z_ceq (tgt := 19) hx hb dX3_inverse_10 (by decide) (by omega) (fun c4 => ?_) (fun c4 => ?_)
      · have ek : k = ivS p z := by
          rcases Int.lt_or_le k (ivS p z) with hlt | hge
          · exact absurd (show k * z % p = 1 by omega) (hi4 k hk.1 hlt)
          · omega
        refine lv_iload_n hx hb dX3_inverse_19 rfl (lv_at hl 0 rfl) ?_
        exact z_iret hC hrt hlk hQ hS ⟨zle (z := 0) rfl (by omega), zle (z := 0) rfl (by omega)⟩ ⟨_, rfl, ek⟩ dX3_inverse_20
      · have hlt : k < ivS p z := by
          rcases Int.lt_or_le k (ivS p z) with hlt | hge
          · exact hlt
          · exfalso
            have ek : k = ivS p z := by omega
            subst ek
            omega
        refine z_iinc (z := k + (1)) (lv' := [(2, .int (iI (k + (1)))), (0, .ref x), (1, .int (iI z))]) hx hb dX3_inverse_13 hl (k := 0) rfl (by omega) (by decide) rfl (fun ls hl => ?_)
        refine lv_goto (tgt := 2) hx hb dX3_inverse_16 (by decide) ?_
        exact W.widen (by omega) (by omega) (ihlp1 ((ivS p z - (k + 1)).toNat) (by omega) (k + 1) rfl (⟨by omega, by omega⟩) _ _ _  hP hD hS hl)
  exact W.widen (by omega) (by omega) (lp1 _ 1 rfl (⟨by decide, hi2⟩) _ _ _  hP hD hS hl)

abbrev rm_m_X3_grade : Room := { frames := 0, cells := 0, slots := 0, locals := 0 }
set_option maxHeartbeats 4000000 in
theorem m_X3_grade {l : Launch} {s0 : State} {G : zG} (hE : zE l s0 G) (H0 : Heap) (hO : zO s0 H0) (u : Nat) (hu : u < 16) : zM l s0 yX3_grade cX3_grade 3 (some FieldType.int) rm_m_X3_grade [.int (iI ((u : Nat) : Int))] H0 M0 (ri (fun y _ => y = (bitc u : Nat))) := by
  refine z_met hE (by decide +kernel) (Nat.le_of_ble_eq_true rfl) ?_
  intro pp ee ss mm args below meth cd Q ls hC hml hrt hlk hnm hH hQ hS hl
  have hx := hC.x
  have hb := hC.b
  have hl : lv_has ls 3 [(0, .int (iI ((u : Nat) : Int)))] := hl
  have hP : va_P G.1 zCl [] H0 := va_nil
  have hD : va_D (zA M0 H0) [] := va_nilD
  refine lv_iconst (v := iI 0) hx hb dX3_grade_0 rfl ?_
  refine lv_istore_n (lv' := [(1, .int (iI 0)), (0, .int (iI ((u : Nat) : Int)))]) hx hb dX3_grade_1 rfl hl (by decide) rfl (fun ls hl => ?_)
  refine lv_iconst (v := iI 0) hx hb dX3_grade_2 rfl ?_
  refine lv_istore_n (lv' := [(2, .int (iI 0)), (1, .int (iI 0)), (0, .int (iI ((u : Nat) : Int)))]) hx hb dX3_grade_3 rfl hl (by decide) rfl (fun ls hl => ?_)
  refine lv_iload_n hx hb dX3_grade_4 rfl (lv_at hl 0 rfl) ?_
  refine lv_iconst (v := iI 4) hx hb dX3_grade_5 rfl ?_
  refine z_cge (tgt := 23) hx hb dX3_grade_6 (by decide) (by omega) (fun c1 => ?_) (fun c1 => ?_)
  · omega
  · have hb0 := Nat.and_one_is_mod (u / 2 ^ 0)
    refine lv_iload_n hx hb dX3_grade_9 rfl (lv_at hl 1 rfl) ?_
    refine lv_iload_n hx hb dX3_grade_10 rfl (lv_at hl 2 rfl) ?_
    refine lv_iload_n hx hb dX3_grade_11 rfl (lv_at hl 0 rfl) ?_
    refine z_shr hx hb (i := u) (j := 0) (n := u / 2 ^ 0) dX3_grade_12 rfl rfl (by omega) rfl ?_
    refine lv_iconst (v := iI 1) hx hb dX3_grade_13 rfl ?_
    refine z_and hx hb (n := (u / 2 ^ 0) &&& 1) dX3_grade_14 rfl rfl rfl ?_
    have hb9 : True := trivial
    refine z_top (b := ((u % 2 : Nat) : Int)) (by omega) ?_
    refine z_add hx hb (z := 0 + ((u % 2 : Nat) : Int)) dX3_grade_15 rfl ?_
    refine z_top (b := ((u % 2 : Nat) : Int)) (by omega) ?_
    refine lv_istore_n (lv' := [(1, .int (iI ((u % 2 : Nat) : Int))), (2, .int (iI 0)), (0, .int (iI ((u : Nat) : Int)))]) hx hb dX3_grade_16 rfl hl (by decide) rfl (fun ls hl => ?_)
    refine z_iinc (z := 1) (lv' := [(2, .int (iI 1)), (1, .int (iI ((u % 2 : Nat) : Int))), (0, .int (iI ((u : Nat) : Int)))]) hx hb dX3_grade_17 hl (k := 1) rfl (by omega) (by decide) rfl (fun ls hl => ?_)
    refine lv_goto (tgt := 4) hx hb dX3_grade_20 (by decide) ?_
    refine lv_iload_n hx hb dX3_grade_4 rfl (lv_at hl 0 rfl) ?_
    refine lv_iconst (v := iI 4) hx hb dX3_grade_5 rfl ?_
    refine z_cge (tgt := 23) hx hb dX3_grade_6 (by decide) (by omega) (fun c2 => ?_) (fun c2 => ?_)
    · omega
    · have hb1 := Nat.and_one_is_mod (u / 2 ^ 1)
      refine lv_iload_n hx hb dX3_grade_9 rfl (lv_at hl 1 rfl) ?_
      refine lv_iload_n hx hb dX3_grade_10 rfl (lv_at hl 2 rfl) ?_
      refine lv_iload_n hx hb dX3_grade_11 rfl (lv_at hl 0 rfl) ?_
      refine z_shr hx hb (i := u) (j := 1) (n := u / 2 ^ 1) dX3_grade_12 rfl rfl (by omega) rfl ?_
      refine lv_iconst (v := iI 1) hx hb dX3_grade_13 rfl ?_
      refine z_and hx hb (n := (u / 2 ^ 1) &&& 1) dX3_grade_14 rfl rfl rfl ?_
      have hb9 : True := trivial
      refine z_top (b := ((u / 2 % 2 : Nat) : Int)) (by omega) ?_
      refine z_add hx hb (z := ((u % 2 : Nat) : Int) + ((u / 2 % 2 : Nat) : Int)) dX3_grade_15 rfl ?_
      refine z_top (b := ((u % 2 + u / 2 % 2 : Nat) : Int)) (by omega) ?_
      refine lv_istore_n (lv' := [(1, .int (iI ((u % 2 + u / 2 % 2 : Nat) : Int))), (2, .int (iI 1)), (0, .int (iI ((u : Nat) : Int)))]) hx hb dX3_grade_16 rfl hl (by decide) rfl (fun ls hl => ?_)
      refine z_iinc (z := 2) (lv' := [(2, .int (iI 2)), (1, .int (iI ((u % 2 + u / 2 % 2 : Nat) : Int))), (0, .int (iI ((u : Nat) : Int)))]) hx hb dX3_grade_17 hl (k := 1) rfl (by omega) (by decide) rfl (fun ls hl => ?_)
      refine lv_goto (tgt := 4) hx hb dX3_grade_20 (by decide) ?_
      refine lv_iload_n hx hb dX3_grade_4 rfl (lv_at hl 0 rfl) ?_
      refine lv_iconst (v := iI 4) hx hb dX3_grade_5 rfl ?_
      refine z_cge (tgt := 23) hx hb dX3_grade_6 (by decide) (by omega) (fun c3 => ?_) (fun c3 => ?_)
      · omega
      · have hb2 := Nat.and_one_is_mod (u / 2 ^ 2)
        refine lv_iload_n hx hb dX3_grade_9 rfl (lv_at hl 1 rfl) ?_
        refine lv_iload_n hx hb dX3_grade_10 rfl (lv_at hl 2 rfl) ?_
        refine lv_iload_n hx hb dX3_grade_11 rfl (lv_at hl 0 rfl) ?_
        refine z_shr hx hb (i := u) (j := 2) (n := u / 2 ^ 2) dX3_grade_12 rfl rfl (by omega) rfl ?_
        refine lv_iconst (v := iI 1) hx hb dX3_grade_13 rfl ?_
        refine z_and hx hb (n := (u / 2 ^ 2) &&& 1) dX3_grade_14 rfl rfl rfl ?_
        have hb9 : True := trivial
        refine z_top (b := ((u / 4 % 2 : Nat) : Int)) (by omega) ?_
        refine z_add hx hb (z := ((u % 2 + u / 2 % 2 : Nat) : Int) + ((u / 4 % 2 : Nat) : Int)) dX3_grade_15 rfl ?_
        refine z_top (b := ((u % 2 + u / 2 % 2 + u / 4 % 2 : Nat) : Int)) (by omega) ?_
        refine lv_istore_n (lv' := [(1, .int (iI ((u % 2 + u / 2 % 2 + u / 4 % 2 : Nat) : Int))), (2, .int (iI 2)), (0, .int (iI ((u : Nat) : Int)))]) hx hb dX3_grade_16 rfl hl (by decide) rfl (fun ls hl => ?_)
        refine z_iinc (z := 3) (lv' := [(2, .int (iI 3)), (1, .int (iI ((u % 2 + u / 2 % 2 + u / 4 % 2 : Nat) : Int))), (0, .int (iI ((u : Nat) : Int)))]) hx hb dX3_grade_17 hl (k := 1) rfl (by omega) (by decide) rfl (fun ls hl => ?_)
        refine lv_goto (tgt := 4) hx hb dX3_grade_20 (by decide) ?_
        refine lv_iload_n hx hb dX3_grade_4 rfl (lv_at hl 0 rfl) ?_
        refine lv_iconst (v := iI 4) hx hb dX3_grade_5 rfl ?_
        refine z_cge (tgt := 23) hx hb dX3_grade_6 (by decide) (by omega) (fun c4 => ?_) (fun c4 => ?_)
        · omega
        · have hb3 := Nat.and_one_is_mod (u / 2 ^ 3)
          refine lv_iload_n hx hb dX3_grade_9 rfl (lv_at hl 1 rfl) ?_
          refine lv_iload_n hx hb dX3_grade_10 rfl (lv_at hl 2 rfl) ?_
          refine lv_iload_n hx hb dX3_grade_11 rfl (lv_at hl 0 rfl) ?_
          refine z_shr hx hb (i := u) (j := 3) (n := u / 2 ^ 3) dX3_grade_12 rfl rfl (by omega) rfl ?_
          refine lv_iconst (v := iI 1) hx hb dX3_grade_13 rfl ?_
          refine z_and hx hb (n := (u / 2 ^ 3) &&& 1) dX3_grade_14 rfl rfl rfl ?_
          have hb9 : True := trivial
          refine z_top (b := ((u / 8 % 2 : Nat) : Int)) (by omega) ?_
          refine z_add hx hb (z := ((u % 2 + u / 2 % 2 + u / 4 % 2 : Nat) : Int) + ((u / 8 % 2 : Nat) : Int)) dX3_grade_15 rfl ?_
          refine z_top (b := ((u % 2 + u / 2 % 2 + u / 4 % 2 + u / 8 % 2 : Nat) : Int)) (by omega) ?_
          refine lv_istore_n (lv' := [(1, .int (iI ((u % 2 + u / 2 % 2 + u / 4 % 2 + u / 8 % 2 : Nat) : Int))), (2, .int (iI 3)), (0, .int (iI ((u : Nat) : Int)))]) hx hb dX3_grade_16 rfl hl (by decide) rfl (fun ls hl => ?_)
          refine z_iinc (z := 4) (lv' := [(2, .int (iI 4)), (1, .int (iI ((u % 2 + u / 2 % 2 + u / 4 % 2 + u / 8 % 2 : Nat) : Int))), (0, .int (iI ((u : Nat) : Int)))]) hx hb dX3_grade_17 hl (k := 1) rfl (by omega) (by decide) rfl (fun ls hl => ?_)
          refine lv_goto (tgt := 4) hx hb dX3_grade_20 (by decide) ?_
          refine lv_iload_n hx hb dX3_grade_4 rfl (lv_at hl 0 rfl) ?_
          refine lv_iconst (v := iI 4) hx hb dX3_grade_5 rfl ?_
          refine z_cge (tgt := 23) hx hb dX3_grade_6 (by decide) (by omega) (fun c5 => ?_) (fun c5 => ?_)
          · refine lv_iload_n hx hb dX3_grade_23 rfl (lv_at hl 1 rfl) ?_
            refine z_top (b := ((bitc u : Nat) : Int)) (by unfold bitc; omega) ?_
            exact z_iret hC hrt hlk hQ hS ⟨zle (z := 0) rfl (by omega), zle (z := 0) rfl (by omega)⟩ ⟨_, rfl, rfl⟩ dX3_grade_24
          · omega

abbrev rm_m_X3_thrown : Room := { frames := 0, cells := 0, slots := 0, locals := 0 }
set_option maxHeartbeats 4000000 in
theorem m_X3_thrown {l : Launch} {s0 : State} {G : zG} (hE : zE l s0 G) (H0 : Heap) (hO : zO s0 H0) (μ : Ro → Nat) (σ : St) (th : Int) (hh : HM G s0 μ σ th H0) : zM l s0 yX3_thrown cX3_thrown 1 (some FieldType.int) rm_m_X3_thrown [.ref (μ (0, 0, 0))] H0 M0 (ri (fun y _ => y = th)) := by
  refine z_met hE (by decide +kernel) (Nat.le_of_ble_eq_true rfl) ?_
  intro pp ee ss mm args below meth cd Q ls hC hml hrt hlk hnm hH hQ hS hl
  have hx := hC.x
  have hb := hC.b
  have hl : lv_has ls 1 [(0, .ref (μ (0, 0, 0)))] := hl
  have hP : va_P G.1 zCl [] H0 := va_nil
  have hD : va_D (zA M0 H0) [] := va_nilD
  have hH1 := hh
  obtain ⟨hp, hna, hal, hne9, hel9, hmr9⟩ := id hh.ok
  have hp7 : 0 < St_p σ ∧ St_p σ ≤ 7 := by rcases hp with h | h | h <;> rw [h] <;> decide
  have hH1 : HM G s0 μ σ th H0 := hh.ext0 hE (zS_F hS)
  have hxx := hH1.2.2.1.1
  refine lv_aload_n hx hb dX3_thrown_0 rfl (lv_at hl 0 rfl) ?_
  refine z_get hC (k := 0) rfl in_X3 hxx (by decide) q1495 (fun _ h => h) rfl dX3_thrown_1 ?_
  exact z_iret hC hrt hlk hQ hS ⟨zle (z := 0) rfl (by omega), zle (z := 0) rfl (by omega)⟩ ⟨_, rfl, rfl⟩ dX3_thrown_4

abbrev rm_m_X3_no : Room := { frames := 0, cells := 0, slots := 0, locals := 0 }
set_option maxHeartbeats 4000000 in
theorem m_X3_no {l : Launch} {s0 : State} {G : zG} (hE : zE l s0 G) (H0 : Heap) (hO : zO s0 H0) (μ : Ro → Nat) (σ : St) (th : Int) (k : Nat) (hh : HM G s0 μ σ th H0) : zM l s0 yX3_no cX3_no 2 (some FieldType.int) rm_m_X3_no [.ref (μ (0, 0, 0)), .int (iI ((k : Nat) : Int))] H0 (fun z => z = μ (0, 0, 0)) (ri (fun y h1 => y = 0 ∧ zAt G (μ (0, 0, 0)) (zOb 2 [.int (iI (k : Int)), .int (iI (St_p σ)), .int (iI (St_kn σ : Int)), .ref (μ (1, 0, 0)), .ref (μ (3, 0, 0))]) h1)) := by
  refine z_met hE (by decide +kernel) (Nat.le_of_ble_eq_true rfl) ?_
  intro pp ee ss mm args below meth cd Q ls hC hml hrt hlk hnm hH hQ hS hl
  have hx := hC.x
  have hb := hC.b
  have hl : lv_has ls 2 [(0, .ref (μ (0, 0, 0))), (1, .int (iI ((k : Nat) : Int)))] := hl
  have hP : va_P G.1 zCl [((μ (0, 0, 0)), zOb 2 [.int (iI th), .int (iI (St_p σ)), .int (iI ((St_kn σ : Nat) : Int)), .ref (μ (1, 0, 0)), .ref (μ (3, 0, 0))])] H0 := zP1 hh.2.2.1.1
  have hD : va_D (zA (fun z => z = μ (0, 0, 0)) H0) [((μ (0, 0, 0)), zOb 2 [.int (iI th), .int (iI (St_p σ)), .int (iI ((St_kn σ : Nat) : Int)), .ref (μ (1, 0, 0)), .ref (μ (3, 0, 0))])] := zD1 (Or.inl rfl)
  have hMo : ∀ z, (fun z => z = μ (0, 0, 0)) z → s0.heap.size ≤ z := fun z hz => hz ▸ hh.sep.ge (domM0 0 (by omega)) (by simp [rAm])
  have hH1 := hh
  obtain ⟨hp, hna, hal, hne9, hel9, hmr9⟩ := id hh.ok
  have hp7 : 0 < St_p σ ∧ St_p σ ≤ 7 := by rcases hp with h | h | h <;> rw [h] <;> decide
  refine lv_aload_n hx hb dX3_no_0 rfl (lv_at hl 0 rfl) ?_
  refine lv_iload_n hx hb dX3_no_1 rfl (lv_at hl 1 rfl) ?_
  refine z_put hC hP hD hS 0 (k := 0) rfl rfl in_X3 tyX3_ok nmX3 (by decide) q1495 (fun _ h => h) rfl rfl rfl rfl (Nat.le_of_ble_eq_true rfl) (ws' := [((μ (0, 0, 0)), zOb 2 [.int (iI ((k : Nat) : Int)), .int (iI (St_p σ)), .int (iI ((St_kn σ : Nat) : Int)), .ref (μ (1, 0, 0)), .ref (μ (3, 0, 0))])]) rfl dX3_no_2 (fun H1 locs hP hD hS => ?_)
  refine lv_iconst (v := iI 0) hx hb dX3_no_5 rfl ?_
  exact z_iret hC hrt hlk hQ hS ⟨zle (z := 0) rfl (by omega), zle (z := 0) rfl (by omega)⟩ ⟨_, rfl, rfl, hP 0 _ rfl⟩ dX3_no_6

abbrev rm_m_X3_isAlgebra : Room := { frames := 1, cells := 0, slots := 0, locals := 22 }
set_option maxHeartbeats 4000000 in
theorem m_X3_isAlgebra {l : Launch} {s0 : State} {G : zG} (hE : zE l s0 G) (H0 : Heap) (hO : zO s0 H0) (μ : Ro → Nat) (σ : St) (th : Int) (i : Int) (hh : HM G s0 μ σ th H0) (hi : zi i) : zM l s0 yX3_isAlgebra cX3_isAlgebra 2 (some FieldType.boolean) rm_m_X3_isAlgebra [.ref (μ (0, 0, 0)), .int (iI i)] H0 M0 (ri (fun y _ => y = if 0 ≤ i ∧ i < (St_na σ : Nat) then 1 else 0)) := by
  refine z_met hE (by decide +kernel) (Nat.le_of_ble_eq_true rfl) ?_
  intro pp ee ss mm args below meth cd Q ls hC hml hrt hlk hnm hH hQ hS hl
  have hx := hC.x
  have hb := hC.b
  have hl : lv_has ls 2 [(0, .ref (μ (0, 0, 0))), (1, .int (iI i))] := hl
  have hP : va_P G.1 zCl [] H0 := va_nil
  have hD : va_D (zA M0 H0) [] := va_nilD
  have hH1 := hh
  obtain ⟨hp, hna, hal, hne9, hel9, hmr9⟩ := id hh.ok
  have hp7 : 0 < St_p σ ∧ St_p σ ≤ 7 := by rcases hp with h | h | h <;> rw [h] <;> decide
  have hH1 : HM G s0 μ σ th H0 := hh.ext0 hE (zS_F hS)
  have hxx := hH1.2.2.1.1
  refine lv_iload_n hx hb dX3_isAlgebra_0 rfl (lv_at hl 1 rfl) ?_
  refine lv_iconst (v := iI 0) hx hb dX3_isAlgebra_1 rfl ?_
  refine lv_aload_n hx hb dX3_isAlgebra_2 rfl (lv_at hl 0 rfl) ?_
  refine z_get hC (k := 3) rfl in_X3 hxx (by decide) q1499 (fun _ h => h) rfl dX3_isAlgebra_3 ?_
  have hH1 : HM G s0 μ σ th H0 := hh.ext0 hE (zS_F hS)
  obtain ⟨mda, hLa⟩ := id hH1.2.2.1.2.1
  refine z_go5 0 0 (z_runF (n := 0) (As := []) (rest := [.int (iI 0), .int (iI i)]) (ci := 8) hC hml hl.1 (m_J2_size hE H0 (hO.ext0 (zS_F hS)) (μ (1, 0, 0)) (St_na σ) (fun k => μ (6, k, 0)) (μ (2, 0, 0)) mda hLa) q232 q1525 q1529 q230 q65 q1527 q1526 q1531 q1530 q1528 ⟨by decide +kernel, by decide +kernel, by decide +kernel⟩ rfl rfl rfl (z_rv hC (ci := 8) rfl hLa.1 rfl) rfl (Nat.le_of_ble_eq_true rfl) ⟨Nat.le_of_ble_eq_true rfl, Nat.le_of_ble_eq_true rfl⟩ ⟨zfit (k := 0) (z := 0) rfl rfl (by omega), zfit (k := 0) (z := 0) rfl rfl (by omega)⟩ dX3_isAlgebra_6) ⟨zad (k := 0) rfl (by omega), zad (k := 0) rfl (by omega)⟩ hS (fun _ z => z.elim) (fun r H1 locs hp hF hS1 => ?_)
  obtain ⟨_, rfl, rfl⟩ := hp
  have hP := zpk hP hF
  have hP : va_P G.1 zCl ([]) H1 := hP
  have hD : va_D (zA M0 H0) ([]) := hD
  have hS := hS1
  refine lv_iconst (v := iI 1) hx hb dX3_isAlgebra_11 rfl ?_
  refine z_sub hx hb (z := ((St_na σ : Nat) : Int) - 1) dX3_isAlgebra_12 rfl ?_
  refine z_go 0 0 (z_runS (As := [.int (iI i), .int (iI 0), .int (iI (((St_na σ : Nat) : Int) - 1))]) (rest := []) hC hml hl.1 (m_X3_in hE H1 (hO.ext0 (zS_F hS)) 0 (((St_na σ : Nat) : Int) - 1) i ⟨by decide, ⟨by omega, by omega⟩, hi⟩) (lw_S q1536 q1537 q67 q1538) nd_X3_in rfl rfl (Nat.le_of_ble_eq_true rfl) ⟨Nat.le_of_ble_eq_true rfl, Nat.le_of_ble_eq_true rfl⟩ ⟨zfit (k := 0) (z := 0) rfl rfl (by omega), zfit (k := 0) (z := 0) rfl rfl (by omega)⟩ dX3_isAlgebra_13) ⟨zad (k := 0) rfl (by omega), zad (k := 0) rfl (by omega)⟩ hS (fun _ z => z.elim) (fun r H2 locs hp hF hS1 => ?_)
  obtain ⟨_, rfl, rfl⟩ := hp
  have hP := zpk hP hF
  have hP : va_P G.1 zCl ([]) H2 := hP
  have hD : va_D (zA M0 H0) ([]) := hD
  have hS := hS1
  refine z_top (b := (if 0 ≤ i ∧ i < ((St_na σ : Nat) : Int) then 1 else 0)) (by split <;> split <;> omega) ?_
  exact z_zret hC hrt hlk hQ hS ⟨zle (z := 0) rfl (by omega), zle (z := 0) rfl (by omega)⟩ (by split <;> omega) ⟨_, rfl, rfl⟩ dX3_isAlgebra_16

abbrev rm_m_X3_isElement : Room := { frames := 1, cells := 0, slots := 0, locals := 22 }
set_option maxHeartbeats 4000000 in
theorem m_X3_isElement {l : Launch} {s0 : State} {G : zG} (hE : zE l s0 G) (H0 : Heap) (hO : zO s0 H0) (μ : Ro → Nat) (σ : St) (th : Int) (i : Int) (hh : HM G s0 μ σ th H0) (hi : zi i) : zM l s0 yX3_isElement cX3_isElement 2 (some FieldType.boolean) rm_m_X3_isElement [.ref (μ (0, 0, 0)), .int (iI i)] H0 M0 (ri (fun y _ => y = if 0 ≤ i ∧ i < (St_ne σ : Nat) then 1 else 0)) := by
  refine z_met hE (by decide +kernel) (Nat.le_of_ble_eq_true rfl) ?_
  intro pp ee ss mm args below meth cd Q ls hC hml hrt hlk hnm hH hQ hS hl
  have hx := hC.x
  have hb := hC.b
  have hl : lv_has ls 2 [(0, .ref (μ (0, 0, 0))), (1, .int (iI i))] := hl
  have hP : va_P G.1 zCl [] H0 := va_nil
  have hD : va_D (zA M0 H0) [] := va_nilD
  have hH1 := hh
  obtain ⟨hp, hna, hal, hne9, hel9, hmr9⟩ := id hh.ok
  have hp7 : 0 < St_p σ ∧ St_p σ ≤ 7 := by rcases hp with h | h | h <;> rw [h] <;> decide
  have hH1 : HM G s0 μ σ th H0 := hh.ext0 hE (zS_F hS)
  have hxx := hH1.2.2.1.1
  refine lv_iload_n hx hb dX3_isElement_0 rfl (lv_at hl 1 rfl) ?_
  refine lv_iconst (v := iI 0) hx hb dX3_isElement_1 rfl ?_
  refine lv_aload_n hx hb dX3_isElement_2 rfl (lv_at hl 0 rfl) ?_
  refine z_get hC (k := 4) rfl in_X3 hxx (by decide) q1500 (fun _ h => h) rfl dX3_isElement_3 ?_
  have hH1 : HM G s0 μ σ th H0 := hh.ext0 hE (zS_F hS)
  obtain ⟨mde, hLe⟩ := id hH1.2.2.1.2.2
  refine z_go5 0 0 (z_runF (n := 0) (As := []) (rest := [.int (iI 0), .int (iI i)]) (ci := 8) hC hml hl.1 (m_J2_size hE H0 (hO.ext0 (zS_F hS)) (μ (3, 0, 0)) (St_ne σ) (fun j => μ (13, j, 0)) (μ (4, 0, 0)) mde hLe) q232 q1525 q1529 q230 q65 q1527 q1526 q1531 q1530 q1528 ⟨by decide +kernel, by decide +kernel, by decide +kernel⟩ rfl rfl rfl (z_rv hC (ci := 8) rfl hLe.1 rfl) rfl (Nat.le_of_ble_eq_true rfl) ⟨Nat.le_of_ble_eq_true rfl, Nat.le_of_ble_eq_true rfl⟩ ⟨zfit (k := 0) (z := 0) rfl rfl (by omega), zfit (k := 0) (z := 0) rfl rfl (by omega)⟩ dX3_isElement_6) ⟨zad (k := 0) rfl (by omega), zad (k := 0) rfl (by omega)⟩ hS (fun _ z => z.elim) (fun r H1 locs hp hF hS1 => ?_)
  obtain ⟨_, rfl, rfl⟩ := hp
  have hP := zpk hP hF
  have hP : va_P G.1 zCl ([]) H1 := hP
  have hD : va_D (zA M0 H0) ([]) := hD
  have hS := hS1
  refine lv_iconst (v := iI 1) hx hb dX3_isElement_11 rfl ?_
  refine z_sub hx hb (z := ((St_ne σ : Nat) : Int) - 1) dX3_isElement_12 rfl ?_
  refine z_go 0 0 (z_runS (As := [.int (iI i), .int (iI 0), .int (iI (((St_ne σ : Nat) : Int) - 1))]) (rest := []) hC hml hl.1 (m_X3_in hE H1 (hO.ext0 (zS_F hS)) 0 (((St_ne σ : Nat) : Int) - 1) i ⟨by decide, ⟨by omega, by omega⟩, hi⟩) (lw_S q1536 q1537 q67 q1538) nd_X3_in rfl rfl (Nat.le_of_ble_eq_true rfl) ⟨Nat.le_of_ble_eq_true rfl, Nat.le_of_ble_eq_true rfl⟩ ⟨zfit (k := 0) (z := 0) rfl rfl (by omega), zfit (k := 0) (z := 0) rfl rfl (by omega)⟩ dX3_isElement_13) ⟨zad (k := 0) rfl (by omega), zad (k := 0) rfl (by omega)⟩ hS (fun _ z => z.elim) (fun r H2 locs hp hF hS1 => ?_)
  obtain ⟨_, rfl, rfl⟩ := hp
  have hP := zpk hP hF
  have hP : va_P G.1 zCl ([]) H2 := hP
  have hD : va_D (zA M0 H0) ([]) := hD
  have hS := hS1
  refine z_top (b := (if 0 ≤ i ∧ i < ((St_ne σ : Nat) : Int) then 1 else 0)) (by split <;> split <;> omega) ?_
  exact z_zret hC hrt hlk hQ hS ⟨zle (z := 0) rfl (by omega), zle (z := 0) rfl (by omega)⟩ (by split <;> omega) ⟨_, rfl, rfl⟩ dX3_isElement_16

abbrev rm_m_X3_areOne : Room := { frames := 3, cells := 0, slots := 0, locals := 64 }
set_option maxHeartbeats 4000000 in
theorem m_X3_areOne {l : Launch} {s0 : State} {G : zG} (hE : zE l s0 G) (H0 : Heap) (hO : zO s0 H0) (μ : Ro → Nat) (σ : St) (th : Int) (i j : Nat) (hh : HM G s0 μ σ th H0) (hi : i < St_ne σ ∧ j < St_ne σ) : zM l s0 yX3_areOne cX3_areOne 3 (some FieldType.boolean) rm_m_X3_areOne [.ref (μ (0, 0, 0)), .int (iI ((i : Nat) : Int)), .int (iI ((j : Nat) : Int))] H0 M0 (ri (fun y _ => y = if St_ea σ i = St_ea σ j then 1 else 0)) := by
  refine z_met hE (by decide +kernel) (Nat.le_of_ble_eq_true rfl) ?_
  intro pp ee ss mm args below meth cd Q ls hC hml hrt hlk hnm hH hQ hS hl
  have hx := hC.x
  have hb := hC.b
  have hl : lv_has ls 3 [(0, .ref (μ (0, 0, 0))), (1, .int (iI ((i : Nat) : Int))), (2, .int (iI ((j : Nat) : Int)))] := hl
  have hP : va_P G.1 zCl [] H0 := va_nil
  have hD : va_D (zA M0 H0) [] := va_nilD
  have hH1 := hh
  obtain ⟨hp, hna, hal, hne9, hel9, hmr9⟩ := id hh.ok
  have hp7 : 0 < St_p σ ∧ St_p σ ≤ 7 := by rcases hp with h | h | h <;> rw [h] <;> decide
  have hH1 : HM G s0 μ σ th H0 := hh.ext0 hE (zS_F hS)
  have hxx := hH1.2.2.1.1
  refine lv_aload_n hx hb dX3_areOne_0 rfl (lv_at hl 0 rfl) ?_
  refine z_get hC (k := 4) rfl in_X3 hxx (by decide) q1500 (fun _ h => h) rfl dX3_areOne_1 ?_
  refine lv_iload_n hx hb dX3_areOne_4 rfl (lv_at hl 1 rfl) ?_
  have hH1 : HM G s0 μ σ th H0 := hh.ext0 hE (zS_F hS)
  obtain ⟨mde, hLe⟩ := id hH1.2.2.1.2.2
  refine z_go5 0 0 (z_runF (n := 1) (As := [.int (iI ((i : Nat) : Int))]) (rest := []) (ci := 8) hC hml hl.1 (m_J2_get hE H0 (hO.ext0 (zS_F hS)) (μ (3, 0, 0)) (St_ne σ) (fun j => μ (13, j, 0)) (μ (4, 0, 0)) mde i hLe (by omega)) q375 q1588 q1591 q373 q65 q1590 q1589 q1593 q1592 q1528 ⟨by decide +kernel, by decide +kernel, by decide +kernel⟩ rfl rfl rfl (z_rv hC (ci := 8) rfl hLe.1 rfl) rfl (Nat.le_of_ble_eq_true rfl) ⟨Nat.le_of_ble_eq_true rfl, Nat.le_of_ble_eq_true rfl⟩ ⟨zfit (k := 0) (z := 0) rfl rfl (by omega), zfit (k := 0) (z := 0) rfl rfl (by omega)⟩ dX3_areOne_5) ⟨zad (k := 0) rfl (by omega), zad (k := 0) rfl (by omega)⟩ hS (fun _ z => z.elim) (fun r H1 locs hp hF hS1 => ?_)
  obtain ⟨_, rfl, rfl⟩ := hp
  have hP := zpk hP hF
  have hP : va_P G.1 zCl ([]) H1 := hP
  have hD : va_D (zA M0 H0) ([]) := hD
  have hS := hS1
  have hH1 : HM G s0 μ σ th H1 := hh.ext0 hE (zS_F hS)
  have hEi := hH1.el (j := i) (by omega)
  have hvi := hH1.row (j := i) (by omega)
  have heai := hH1.ea (j := i) (by omega)
  have hnni := hH1.n (k := St_ea σ i) heai
  have hH1 : HM G s0 μ σ th H1 := hh.ext0 hE (zS_F hS)
  have hxx := hH1.2.2.1.1
  refine z_cast hC (ci := 7) rfl hEi.1 rfl q1598 dX3_areOne_10 ?_
  refine z_get hC (k := 0) rfl in_X8 hEi.1 (by decide) q1638 (fun _ h => h) rfl dX3_areOne_13 ?_
  refine lv_aload_n hx hb dX3_areOne_16 rfl (lv_at hl 0 rfl) ?_
  refine z_get hC (k := 4) rfl in_X3 hxx (by decide) q1500 (fun _ h => h) rfl dX3_areOne_17 ?_
  refine lv_iload_n hx hb dX3_areOne_20 rfl (lv_at hl 2 rfl) ?_
  have hH1 : HM G s0 μ σ th H1 := hh.ext0 hE (zS_F hS)
  obtain ⟨mde, hLe⟩ := id hH1.2.2.1.2.2
  refine z_go5 0 0 (z_runF (n := 1) (As := [.int (iI ((j : Nat) : Int))]) (rest := [.int (iI ((St_ea σ i : Nat) : Int))]) (ci := 8) hC hml hl.1 (m_J2_get hE H1 (hO.ext0 (zS_F hS)) (μ (3, 0, 0)) (St_ne σ) (fun j => μ (13, j, 0)) (μ (4, 0, 0)) mde j hLe (by omega)) q375 q1588 q1591 q373 q65 q1590 q1589 q1593 q1592 q1528 ⟨by decide +kernel, by decide +kernel, by decide +kernel⟩ rfl rfl rfl (z_rv hC (ci := 8) rfl hLe.1 rfl) rfl (Nat.le_of_ble_eq_true rfl) ⟨Nat.le_of_ble_eq_true rfl, Nat.le_of_ble_eq_true rfl⟩ ⟨zfit (k := 0) (z := 0) rfl rfl (by omega), zfit (k := 0) (z := 0) rfl rfl (by omega)⟩ dX3_areOne_21) ⟨zad (k := 0) rfl (by omega), zad (k := 0) rfl (by omega)⟩ hS (fun _ z => z.elim) (fun r H2 locs hp hF hS1 => ?_)
  obtain ⟨_, rfl, rfl⟩ := hp
  have hP := zpk hP hF
  have hP : va_P G.1 zCl ([]) H2 := hP
  have hD : va_D (zA M0 H0) ([]) := hD
  have hS := hS1
  have hH1 : HM G s0 μ σ th H2 := hh.ext0 hE (zS_F hS)
  have hEj := hH1.el (j := j) (by omega)
  have hvj := hH1.row (j := j) (by omega)
  have heaj := hH1.ea (j := j) (by omega)
  have hnnj := hH1.n (k := St_ea σ j) heaj
  refine z_cast hC (ci := 7) rfl hEj.1 rfl q1598 dX3_areOne_26 ?_
  refine z_get hC (k := 0) rfl in_X8 hEj.1 (by decide) q1638 (fun _ h => h) rfl dX3_areOne_29 ?_
  refine z_cne (tgt := 39) hx hb dX3_areOne_32 (by decide) (by omega) (fun c3 => ?_) (fun c3 => ?_)
  · refine lv_iconst (v := iI 0) hx hb dX3_areOne_39 rfl ?_
    exact z_zret hC hrt hlk hQ hS ⟨zle (z := 0) rfl (by omega), zle (z := 0) rfl (by omega)⟩ (by omega) ⟨_, rfl, by rw [if_neg (by omega)]⟩ dX3_areOne_40
  · refine lv_iconst (v := iI 1) hx hb dX3_areOne_35 rfl ?_
    refine lv_goto (tgt := 40) hx hb dX3_areOne_36 (by decide) ?_
    exact z_zret hC hrt hlk hQ hS ⟨zle (z := 0) rfl (by omega), zle (z := 0) rfl (by omega)⟩ (by omega) ⟨_, rfl, by rw [if_pos (by omega)]⟩ dX3_areOne_40

abbrev rm_m_X3_row : Room := { frames := 3, cells := 0, slots := 0, locals := 64 }
set_option maxHeartbeats 4000000 in
theorem m_X3_row {l : Launch} {s0 : State} {G : zG} (hE : zE l s0 G) (H0 : Heap) (hO : zO s0 H0) (μ : Ro → Nat) (σ : St) (th : Int) (j : Nat) (hh : HM G s0 μ σ th H0) (hj : j < St_ne σ) : zM l s0 yX3_row cX3_row 2 (some (FieldType.array FieldType.int)) rm_m_X3_row [.ref (μ (0, 0, 0)), .int (iI ((j : Nat) : Int))] H0 M0 (rr (fun q _ => q = μ (14, j, 0))) := by
  refine z_met hE (by decide +kernel) (Nat.le_of_ble_eq_true rfl) ?_
  intro pp ee ss mm args below meth cd Q ls hC hml hrt hlk hnm hH hQ hS hl
  have hx := hC.x
  have hb := hC.b
  have hl : lv_has ls 2 [(0, .ref (μ (0, 0, 0))), (1, .int (iI ((j : Nat) : Int)))] := hl
  have hP : va_P G.1 zCl [] H0 := va_nil
  have hD : va_D (zA M0 H0) [] := va_nilD
  have hH1 := hh
  obtain ⟨hp, hna, hal, hne9, hel9, hmr9⟩ := id hh.ok
  have hp7 : 0 < St_p σ ∧ St_p σ ≤ 7 := by rcases hp with h | h | h <;> rw [h] <;> decide
  have hH1 : HM G s0 μ σ th H0 := hh.ext0 hE (zS_F hS)
  have hxx := hH1.2.2.1.1
  refine lv_aload_n hx hb dX3_row_0 rfl (lv_at hl 0 rfl) ?_
  refine z_get hC (k := 4) rfl in_X3 hxx (by decide) q1500 (fun _ h => h) rfl dX3_row_1 ?_
  refine lv_iload_n hx hb dX3_row_4 rfl (lv_at hl 1 rfl) ?_
  have hH1 : HM G s0 μ σ th H0 := hh.ext0 hE (zS_F hS)
  obtain ⟨mde, hLe⟩ := id hH1.2.2.1.2.2
  refine z_go5 0 0 (z_runF (n := 1) (As := [.int (iI ((j : Nat) : Int))]) (rest := []) (ci := 8) hC hml hl.1 (m_J2_get hE H0 (hO.ext0 (zS_F hS)) (μ (3, 0, 0)) (St_ne σ) (fun j => μ (13, j, 0)) (μ (4, 0, 0)) mde j hLe (by omega)) q375 q1588 q1591 q373 q65 q1590 q1589 q1593 q1592 q1528 ⟨by decide +kernel, by decide +kernel, by decide +kernel⟩ rfl rfl rfl (z_rv hC (ci := 8) rfl hLe.1 rfl) rfl (Nat.le_of_ble_eq_true rfl) ⟨Nat.le_of_ble_eq_true rfl, Nat.le_of_ble_eq_true rfl⟩ ⟨zfit (k := 0) (z := 0) rfl rfl (by omega), zfit (k := 0) (z := 0) rfl rfl (by omega)⟩ dX3_row_5) ⟨zad (k := 0) rfl (by omega), zad (k := 0) rfl (by omega)⟩ hS (fun _ z => z.elim) (fun r H1 locs hp hF hS1 => ?_)
  obtain ⟨_, rfl, rfl⟩ := hp
  have hP := zpk hP hF
  have hP : va_P G.1 zCl ([]) H1 := hP
  have hD : va_D (zA M0 H0) ([]) := hD
  have hS := hS1
  have hH1 : HM G s0 μ σ th H1 := hh.ext0 hE (zS_F hS)
  have hEj := hH1.el (j := j) (by omega)
  have hvj := hH1.row (j := j) (by omega)
  have heaj := hH1.ea (j := j) (by omega)
  have hnnj := hH1.n (k := St_ea σ j) heaj
  refine z_cast hC (ci := 7) rfl hEj.1 rfl q1598 dX3_row_10 ?_
  refine z_get hC (k := 1) rfl in_X8 hEj.1 (by decide) q1640 (fun _ h => h) rfl dX3_row_13 ?_
  exact z_aretA hC hrt hlk hQ hS ⟨zle (z := 0) rfl (by omega), zle (z := 0) rfl (by omega)⟩ ⟨_, rfl, rfl⟩ dX3_row_16

abbrev rm_m_X3_home : Room := { frames := 3, cells := 0, slots := 0, locals := 64 }
set_option maxHeartbeats 4000000 in
theorem m_X3_home {l : Launch} {s0 : State} {G : zG} (hE : zE l s0 G) (H0 : Heap) (hO : zO s0 H0) (μ : Ro → Nat) (σ : St) (th : Int) (j : Nat) (hh : HM G s0 μ σ th H0) (hj : j < St_ne σ) : zM l s0 yX3_home cX3_home 2 (some (FieldType.object "VersorhallModel$Algebra")) rm_m_X3_home [.ref (μ (0, 0, 0)), .int (iI ((j : Nat) : Int))] H0 M0 (rr (fun q _ => q = μ (6, St_ea σ j, 0))) := by
  refine z_met hE (by decide +kernel) (Nat.le_of_ble_eq_true rfl) ?_
  intro pp ee ss mm args below meth cd Q ls hC hml hrt hlk hnm hH hQ hS hl
  have hx := hC.x
  have hb := hC.b
  have hl : lv_has ls 2 [(0, .ref (μ (0, 0, 0))), (1, .int (iI ((j : Nat) : Int)))] := hl
  have hP : va_P G.1 zCl [] H0 := va_nil
  have hD : va_D (zA M0 H0) [] := va_nilD
  have hH1 := hh
  obtain ⟨hp, hna, hal, hne9, hel9, hmr9⟩ := id hh.ok
  have hp7 : 0 < St_p σ ∧ St_p σ ≤ 7 := by rcases hp with h | h | h <;> rw [h] <;> decide
  have hH1 : HM G s0 μ σ th H0 := hh.ext0 hE (zS_F hS)
  have hxx := hH1.2.2.1.1
  refine lv_aload_n hx hb dX3_home_0 rfl (lv_at hl 0 rfl) ?_
  refine z_get hC (k := 3) rfl in_X3 hxx (by decide) q1499 (fun _ h => h) rfl dX3_home_1 ?_
  refine lv_aload_n hx hb dX3_home_4 rfl (lv_at hl 0 rfl) ?_
  refine z_get hC (k := 4) rfl in_X3 hxx (by decide) q1500 (fun _ h => h) rfl dX3_home_5 ?_
  refine lv_iload_n hx hb dX3_home_8 rfl (lv_at hl 1 rfl) ?_
  have hH1 : HM G s0 μ σ th H0 := hh.ext0 hE (zS_F hS)
  obtain ⟨mde, hLe⟩ := id hH1.2.2.1.2.2
  refine z_go5 0 0 (z_runF (n := 1) (As := [.int (iI ((j : Nat) : Int))]) (rest := [.ref (μ (1, 0, 0))]) (ci := 8) hC hml hl.1 (m_J2_get hE H0 (hO.ext0 (zS_F hS)) (μ (3, 0, 0)) (St_ne σ) (fun j => μ (13, j, 0)) (μ (4, 0, 0)) mde j hLe (by omega)) q375 q1588 q1591 q373 q65 q1590 q1589 q1593 q1592 q1528 ⟨by decide +kernel, by decide +kernel, by decide +kernel⟩ rfl rfl rfl (z_rv hC (ci := 8) rfl hLe.1 rfl) rfl (Nat.le_of_ble_eq_true rfl) ⟨Nat.le_of_ble_eq_true rfl, Nat.le_of_ble_eq_true rfl⟩ ⟨zfit (k := 0) (z := 0) rfl rfl (by omega), zfit (k := 0) (z := 0) rfl rfl (by omega)⟩ dX3_home_9) ⟨zad (k := 0) rfl (by omega), zad (k := 0) rfl (by omega)⟩ hS (fun _ z => z.elim) (fun r H1 locs hp hF hS1 => ?_)
  obtain ⟨_, rfl, rfl⟩ := hp
  have hP := zpk hP hF
  have hP : va_P G.1 zCl ([]) H1 := hP
  have hD : va_D (zA M0 H0) ([]) := hD
  have hS := hS1
  have hH1 : HM G s0 μ σ th H1 := hh.ext0 hE (zS_F hS)
  have hEj := hH1.el (j := j) (by omega)
  have hvj := hH1.row (j := j) (by omega)
  have heaj := hH1.ea (j := j) (by omega)
  have hnnj := hH1.n (k := St_ea σ j) heaj
  refine z_cast hC (ci := 7) rfl hEj.1 rfl q1598 dX3_home_14 ?_
  refine z_get hC (k := 0) rfl in_X8 hEj.1 (by decide) q1638 (fun _ h => h) rfl dX3_home_17 ?_
  have hH1 : HM G s0 μ σ th H1 := hh.ext0 hE (zS_F hS)
  obtain ⟨mda, hLa⟩ := id hH1.2.2.1.2.1
  refine z_go5 0 0 (z_runF (n := 1) (As := [.int (iI ((St_ea σ j : Nat) : Int))]) (rest := []) (ci := 8) hC hml hl.1 (m_J2_get hE H1 (hO.ext0 (zS_F hS)) (μ (1, 0, 0)) (St_na σ) (fun k => μ (6, k, 0)) (μ (2, 0, 0)) mda (St_ea σ j) hLa heaj) q375 q1588 q1591 q373 q65 q1590 q1589 q1593 q1592 q1528 ⟨by decide +kernel, by decide +kernel, by decide +kernel⟩ rfl rfl rfl (z_rv hC (ci := 8) rfl hLa.1 rfl) rfl (Nat.le_of_ble_eq_true rfl) ⟨Nat.le_of_ble_eq_true rfl, Nat.le_of_ble_eq_true rfl⟩ ⟨zfit (k := 0) (z := 0) rfl rfl (by omega), zfit (k := 0) (z := 0) rfl rfl (by omega)⟩ dX3_home_20) ⟨zad (k := 0) rfl (by omega), zad (k := 0) rfl (by omega)⟩ hS (fun _ z => z.elim) (fun r H2 locs hp hF hS1 => ?_)
  obtain ⟨_, rfl, rfl⟩ := hp
  have hP := zpk hP hF
  have hP : va_P G.1 zCl ([]) H2 := hP
  have hD : va_D (zA M0 H0) ([]) := hD
  have hS := hS1
  have hH1 : HM G s0 μ σ th H2 := hh.ext0 hE (zS_F hS)
  have hASt_eaσj := hH1.al (k := St_ea σ j) heaj
  have hn16St_eaσj := hH1.n (k := St_ea σ j) heaj
  refine z_cast hC (ci := 5) rfl hASt_eaσj.1 rfl q1539 dX3_home_25 ?_
  exact z_aret hC hrt hlk hQ hS ⟨zle (z := 0) rfl (by omega), zle (z := 0) rfl (by omega)⟩ ⟨_, rfl, rfl⟩ dX3_home_28

abbrev rm_m_X3_size : Room := { frames := 0, cells := 0, slots := 0, locals := 0 }
set_option maxHeartbeats 4000000 in
theorem m_X3_size {l : Launch} {s0 : State} {G : zG} (hE : zE l s0 G) (H0 : Heap) (hO : zO s0 H0) (a n : Nat) (v : Nat → Int) (h : zAt G a (zI G n v) H0) (hv : ∀ j, j < n → 0 ≤ v j ∧ v j < 7) (hn : 1 ≤ n ∧ n ≤ 16) : zM l s0 yX3_size cX3_size 6 (some FieldType.int) rm_m_X3_size [.ref a] H0 M0 (ri (fun y _ => y = (szV v n : Nat))) := by
  refine z_met hE (by decide +kernel) (Nat.le_of_ble_eq_true rfl) ?_
  intro pp ee ss mm args below meth cd Q ls hC hml hrt hlk hnm hH hQ hS hl
  have hx := hC.x
  have hb := hC.b
  have hl : lv_has ls 6 [(0, .ref a)] := hl
  have hP : va_P G.1 zCl [] H0 := va_nil
  have hD : va_D (zA M0 H0) [] := va_nilD
  refine lv_iconst (v := iI 0) hx hb dX3_size_0 rfl ?_
  refine lv_istore_n (lv' := [(1, .int (iI 0)), (0, .ref a)]) hx hb dX3_size_1 rfl hl (by decide) rfl (fun ls hl => ?_)
  refine lv_aload_n hx hb dX3_size_2 rfl (lv_at hl 1 rfl) ?_
  refine lv_astore_n (lv' := [(2, .ref a), (1, .int (iI 0)), (0, .ref a)]) hx hb dX3_size_3 rfl hl (by decide) rfl (fun ls hl => ?_)
  refine lv_aload_n hx hb dX3_size_4 rfl (lv_at hl 0 rfl) ?_
  refine z_alen hC 0 (zo hS h id) rfl (y := ((n : Nat) : Int)) rfl dX3_size_5 ?_
  refine lv_istore_n (lv' := [(3, .int (iI ((n : Nat) : Int))), (2, .ref a), (1, .int (iI 0)), (0, .ref a)]) hx hb dX3_size_6 rfl hl (by decide) rfl (fun ls hl => ?_)
  refine lv_iconst (v := iI 0) hx hb dX3_size_7 rfl ?_
  refine lv_istore (lv' := [(4, .int (iI 0)), (3, .int (iI ((n : Nat) : Int))), (2, .ref a), (1, .int (iI 0)), (0, .ref a)]) hx hb dX3_size_8 hl (by decide) rfl (fun ls hl => ?_)
  have lp1 : ∀ (dlp1 : Nat) (k : Nat) (c : Nat), n - k = dlp1 → (k ≤ n) → (c = szV v k) → ∀ (H2 : Heap) (locs : List Loc) (ls : Array Slot), va_P G.1 zCl ([]) H2 → va_D (zA M0 H0) ([]) → va_S (zA M0 H0) H0 H2 locs → lv_has ls 6 [(4, .int (iI ((k : Nat) : Int))), (1, .int (iI ((c : Nat) : Int))), (3, .int (iI ((n : Nat) : Int))), (2, .ref a), (0, .ref a)] → W pp l ee rm_m_X3_size ss mm args below meth cd H2 locs 0 0 Q (F0 mm 10 ls []) := by
    intro dlp1
    induction dlp1 using Nat.strongRecOn with
    | ind dlp1 ihlp1 =>
      intro k c hdlp1 hk hc H2 locs ls  hP hD hS hl
      refine lv_iload hx hb dX3_size_10 (lv_at hl 0 rfl) ?_
      refine lv_iload_n hx hb dX3_size_12 rfl (lv_at hl 2 rfl) ?_
      refine z_cge (tgt := 41) hx hb dX3_size_13 (by decide) (by omega) (fun c3 => ?_) (fun c3 => ?_)
      · have ek : k = n := by omega
        refine lv_iload_n hx hb dX3_size_41 rfl (lv_at hl 1 rfl) ?_
        exact z_iret hC hrt hlk hQ hS ⟨zle (z := 0) rfl (by omega), zle (z := 0) rfl (by omega)⟩ ⟨_, rfl, by rw [hc, ek]⟩ dX3_size_42
      · have hvk := hv k (by omega)
        have hcl := szV_le v k
        refine lv_aload_n hx hb dX3_size_16 rfl (lv_at hl 3 rfl) ?_
        refine lv_iload hx hb dX3_size_17 (lv_at hl 0 rfl) ?_
        refine z_iald hC (zo hS h id) (k := k) rfl (by omega) (y := v k) rfl dX3_size_19 ?_
        refine lv_istore (lv' := [(5, .int (iI (v k))), (4, .int (iI ((k : Nat) : Int))), (1, .int (iI ((c : Nat) : Int))), (3, .int (iI ((n : Nat) : Int))), (2, .ref a), (0, .ref a)]) hx hb dX3_size_20 hl (by decide) rfl (fun ls hl => ?_)
        refine lv_iload_n hx hb dX3_size_22 rfl (lv_at hl 2 rfl) ?_
        refine lv_iload hx hb dX3_size_23 (lv_at hl 0 rfl) ?_
        refine z_zle (tgt := 32) hx hb dX3_size_25 (by decide) (by omega) (fun c4 => ?_) (fun c4 => ?_)
        · refine lv_iconst (v := iI 0) hx hb dX3_size_32 rfl ?_
          refine z_add hx hb (z := ((c : Nat) : Int) + 0) dX3_size_33 rfl ?_
          refine z_top (b := ((c + 0 : Nat) : Int)) (by omega) ?_
          refine lv_istore_n (lv' := [(1, .int (iI ((c + 0 : Nat) : Int))), (5, .int (iI (v k))), (4, .int (iI ((k : Nat) : Int))), (3, .int (iI ((n : Nat) : Int))), (2, .ref a), (0, .ref a)]) hx hb dX3_size_34 rfl hl (by decide) rfl (fun ls hl => ?_)
          refine z_iinc (z := ((k + 1 : Nat) : Int)) (lv' := [(4, .int (iI ((k + 1 : Nat) : Int))), (1, .int (iI ((c + 0 : Nat) : Int))), (5, .int (iI (v k))), (3, .int (iI ((n : Nat) : Int))), (2, .ref a), (0, .ref a)]) hx hb dX3_size_35 hl (k := 2) rfl (by omega) (by decide) rfl (fun ls hl => ?_)
          refine lv_goto (tgt := 10) hx hb dX3_size_38 (by decide) ?_
          exact W.widen (by omega) (by omega) (ihlp1 (n - (k + 1)) (by omega) (k + 1) (c + 0) rfl (by omega) (by simp only [szV]; rw [if_pos (by omega)]; omega) _ _ _  hP hD hS (lv_sub hl [0, 1, 3, 4, 5] rfl))
        · refine lv_iconst (v := iI 1) hx hb dX3_size_28 rfl ?_
          refine lv_goto (tgt := 33) hx hb dX3_size_29 (by decide) ?_
          refine z_add hx hb (z := ((c : Nat) : Int) + 1) dX3_size_33 rfl ?_
          refine z_top (b := ((c + 1 : Nat) : Int)) (by omega) ?_
          refine lv_istore_n (lv' := [(1, .int (iI ((c + 1 : Nat) : Int))), (5, .int (iI (v k))), (4, .int (iI ((k : Nat) : Int))), (3, .int (iI ((n : Nat) : Int))), (2, .ref a), (0, .ref a)]) hx hb dX3_size_34 rfl hl (by decide) rfl (fun ls hl => ?_)
          refine z_iinc (z := ((k + 1 : Nat) : Int)) (lv' := [(4, .int (iI ((k + 1 : Nat) : Int))), (1, .int (iI ((c + 1 : Nat) : Int))), (5, .int (iI (v k))), (3, .int (iI ((n : Nat) : Int))), (2, .ref a), (0, .ref a)]) hx hb dX3_size_35 hl (k := 2) rfl (by omega) (by decide) rfl (fun ls hl => ?_)
          refine lv_goto (tgt := 10) hx hb dX3_size_38 (by decide) ?_
          exact W.widen (by omega) (by omega) (ihlp1 (n - (k + 1)) (by omega) (k + 1) (c + 1) rfl (by omega) (by simp only [szV]; rw [if_neg (by omega)]; omega) _ _ _  hP hD hS (lv_sub hl [0, 1, 3, 4, 5] rfl))
  exact W.widen (by omega) (by omega) (lp1 _ 0 0 rfl (Nat.zero_le _) rfl _ _ _  hP hD hS (lv_sub hl [0, 3, 1, 2, 4] rfl))

abbrev rm_m_X3_isPlain : Room := { frames := 1, cells := 0, slots := 0, locals := 25 }
set_option maxHeartbeats 4000000 in
theorem m_X3_isPlain {l : Launch} {s0 : State} {G : zG} (hE : zE l s0 G) (H0 : Heap) (hO : zO s0 H0) (a n : Nat) (v : Nat → Int) (h : zAt G a (zI G n v) H0) (hv : ∀ j, j < n → 0 ≤ v j ∧ v j < 7) (hn : 1 ≤ n ∧ n ≤ 16) : zM l s0 yX3_isPlain cX3_isPlain 1 (some FieldType.boolean) rm_m_X3_isPlain [.ref a] H0 M0 (ri (fun y _ => y = b2i (paV n v))) := by
  refine z_met hE (by decide +kernel) (Nat.le_of_ble_eq_true rfl) ?_
  intro pp ee ss mm args below meth cd Q ls hC hml hrt hlk hnm hH hQ hS hl
  have hx := hC.x
  have hb := hC.b
  have hl : lv_has ls 1 [(0, .ref a)] := hl
  have hP : va_P G.1 zCl [] H0 := va_nil
  have hD : va_D (zA M0 H0) [] := va_nilD
  have hs := szV_le v n
  have hv0 := hv 0 (by omega)
  have hsp : v 0 ≠ 0 → szV v n ≠ 0 := fun z => szV_p0 (by omega) z
  refine lv_aload_n hx hb dX3_isPlain_0 rfl (lv_at hl 0 rfl) ?_
  refine z_go 0 0 (z_runS (As := [.ref a]) (rest := []) hC hml hl.1 (m_X3_size hE H0 (hO.ext0 (zS_F hS)) a n v (zo hS h id) hv hn) (lw_S q1675 q1676 q67 q1677) nd_X3_size rfl rfl (Nat.le_of_ble_eq_true rfl) ⟨Nat.le_of_ble_eq_true rfl, Nat.le_of_ble_eq_true rfl⟩ ⟨zfit (k := 0) (z := 0) rfl rfl (by omega), zfit (k := 0) (z := 0) rfl rfl (by omega)⟩ dX3_isPlain_1) ⟨zad (k := 0) rfl (by omega), zad (k := 0) rfl (by omega)⟩ hS (fun _ z => z.elim) (fun r H1 locs hp hF hS1 => ?_)
  obtain ⟨_, rfl, rfl⟩ := hp
  have hP := zpk hP hF
  have hP : va_P G.1 zCl ([]) H1 := hP
  have hD : va_D (zA M0 H0) ([]) := hD
  have hS := hS1
  refine lv_aload_n hx hb dX3_isPlain_4 rfl (lv_at hl 0 rfl) ?_
  refine lv_iconst (v := iI 0) hx hb dX3_isPlain_5 rfl ?_
  refine z_iald hC (zo hS h id) (k := 0) rfl (by omega) (y := v 0) rfl dX3_isPlain_6 ?_
  refine z_zle (tgt := 14) hx hb dX3_isPlain_7 (by decide) (by omega) (fun c2 => ?_) (fun c2 => ?_)
  · refine lv_iconst (v := iI 0) hx hb dX3_isPlain_14 rfl ?_
    refine z_cne (tgt := 22) hx hb dX3_isPlain_15 (by decide) (by omega) (fun c3 => ?_) (fun c3 => ?_)
    · refine lv_iconst (v := iI 0) hx hb dX3_isPlain_22 rfl ?_
      exact z_zret hC hrt hlk hQ hS ⟨zle (z := 0) rfl (by omega), zle (z := 0) rfl (by omega)⟩ (by omega) ⟨_, rfl, b2i_f (paV_f (by omega) (Or.inr (by omega)))⟩ dX3_isPlain_23
    · refine lv_iconst (v := iI 1) hx hb dX3_isPlain_18 rfl ?_
      refine lv_goto (tgt := 23) hx hb dX3_isPlain_19 (by decide) ?_
      exact z_zret hC hrt hlk hQ hS ⟨zle (z := 0) rfl (by omega), zle (z := 0) rfl (by omega)⟩ (by omega) ⟨_, rfl, b2i_t (paV_0 (by omega))⟩ dX3_isPlain_23
  · refine lv_iconst (v := iI 1) hx hb dX3_isPlain_10 rfl ?_
    refine lv_goto (tgt := 15) hx hb dX3_isPlain_11 (by decide) ?_
    refine z_cne (tgt := 22) hx hb dX3_isPlain_15 (by decide) (by omega) (fun c4 => ?_) (fun c4 => ?_)
    · refine lv_iconst (v := iI 0) hx hb dX3_isPlain_22 rfl ?_
      exact z_zret hC hrt hlk hQ hS ⟨zle (z := 0) rfl (by omega), zle (z := 0) rfl (by omega)⟩ (by omega) ⟨_, rfl, b2i_f (paV_f (by omega) (Or.inl (by omega)))⟩ dX3_isPlain_23
    · refine lv_iconst (v := iI 1) hx hb dX3_isPlain_18 rfl ?_
      refine lv_goto (tgt := 23) hx hb dX3_isPlain_19 (by decide) ?_
      exact z_zret hC hrt hlk hQ hS ⟨zle (z := 0) rfl (by omega), zle (z := 0) rfl (by omega)⟩ (by omega) ⟨_, rfl, b2i_t (paV_1 (by omega) (by omega))⟩ dX3_isPlain_23

abbrev rm_m_X3_isSame : Room := { frames := 0, cells := 0, slots := 0, locals := 0 }
set_option maxHeartbeats 4000000 in
theorem m_X3_isSame {l : Launch} {s0 : State} {G : zG} (hE : zE l s0 G) (H0 : Heap) (hO : zO s0 H0) (a b n : Nat) (v w : Nat → Int) (h : zAt G a (zI G n v) H0) (h2 : zAt G b (zI G n w) H0) (hv : ∀ j, j < n → 0 ≤ v j ∧ v j < 7) (hw : ∀ j, j < n → 0 ≤ w j ∧ w j < 7) (hn : 1 ≤ n ∧ n ≤ 16) : zM l s0 yX3_isSame cX3_isSame 3 (some FieldType.boolean) rm_m_X3_isSame [.ref a, .ref b] H0 M0 (ri (fun y _ => (y = 1 ∧ ∀ j, j < n → v j = w j) ∨ (y = 0 ∧ ∃ j, j < n ∧ v j ≠ w j))) := by
  refine z_met hE (by decide +kernel) (Nat.le_of_ble_eq_true rfl) ?_
  intro pp ee ss mm args below meth cd Q ls hC hml hrt hlk hnm hH hQ hS hl
  have hx := hC.x
  have hb := hC.b
  have hl : lv_has ls 3 [(0, .ref a), (1, .ref b)] := hl
  have hP : va_P G.1 zCl [] H0 := va_nil
  have hD : va_D (zA M0 H0) [] := va_nilD
  refine lv_iconst (v := iI 0) hx hb dX3_isSame_0 rfl ?_
  refine lv_istore_n (lv' := [(2, .int (iI 0)), (0, .ref a), (1, .ref b)]) hx hb dX3_isSame_1 rfl hl (by decide) rfl (fun ls hl => ?_)
  have lp1 : ∀ (dlp1 : Nat) (k : Nat), n - k = dlp1 → (k ≤ n) → (∀ j, j < k → v j = w j) → ∀ (H2 : Heap) (locs : List Loc) (ls : Array Slot), va_P G.1 zCl ([]) H2 → va_D (zA M0 H0) ([]) → va_S (zA M0 H0) H0 H2 locs → lv_has ls 3 [(2, .int (iI ((k : Nat) : Int))), (0, .ref a), (1, .ref b)] → W pp l ee rm_m_X3_isSame ss mm args below meth cd H2 locs 0 0 Q (F0 mm 2 ls []) := by
    intro dlp1
    induction dlp1 using Nat.strongRecOn with
    | ind dlp1 ihlp1 =>
      intro k hdlp1 hk he H2 locs ls  hP hD hS hl
      refine lv_iload_n hx hb dX3_isSame_2 rfl (lv_at hl 0 rfl) ?_
      refine lv_aload_n hx hb dX3_isSame_3 rfl (lv_at hl 1 rfl) ?_
      refine z_alen hC 0 (zo hS h id) rfl (y := ((n : Nat) : Int)) rfl dX3_isSame_4 ?_
      refine z_cge (tgt := 25) hx hb dX3_isSame_5 (by decide) (by omega) (fun c3 => ?_) (fun c3 => ?_)
      · refine lv_iconst (v := iI 1) hx hb dX3_isSame_25 rfl ?_
        exact z_zret hC hrt hlk hQ hS ⟨zle (z := 0) rfl (by omega), zle (z := 0) rfl (by omega)⟩ (by omega) ⟨_, rfl, Or.inl ⟨rfl, fun j hj => he j (by omega)⟩⟩ dX3_isSame_26
      · have hvk := hv k (by omega)
        have hwk := hw k (by omega)
        refine lv_aload_n hx hb dX3_isSame_8 rfl (lv_at hl 1 rfl) ?_
        refine lv_iload_n hx hb dX3_isSame_9 rfl (lv_at hl 0 rfl) ?_
        refine z_iald hC (zo hS h id) (k := k) rfl (by omega) (y := v k) rfl dX3_isSame_10 ?_
        refine lv_aload_n hx hb dX3_isSame_11 rfl (lv_at hl 2 rfl) ?_
        refine lv_iload_n hx hb dX3_isSame_12 rfl (lv_at hl 0 rfl) ?_
        refine z_iald hC (zo hS h2 id) (k := k) rfl (by omega) (y := w k) rfl dX3_isSame_13 ?_
        refine z_ceq (tgt := 19) hx hb dX3_isSame_14 (by decide) (by omega) (fun c4 => ?_) (fun c4 => ?_)
        · refine z_iinc (z := ((k + 1 : Nat) : Int)) (lv' := [(2, .int (iI ((k + 1 : Nat) : Int))), (0, .ref a), (1, .ref b)]) hx hb dX3_isSame_19 hl (k := 0) rfl (by omega) (by decide) rfl (fun ls hl => ?_)
          refine lv_goto (tgt := 2) hx hb dX3_isSame_22 (by decide) ?_
          exact W.widen (by omega) (by omega) (ihlp1 (n - (k + 1)) (by omega) (k + 1) rfl (by omega) (fun j hj => by by_cases e : j = k; (subst e; omega); exact he j (by omega)) _ _ _  hP hD hS hl)
        · refine lv_iconst (v := iI 0) hx hb dX3_isSame_17 rfl ?_
          exact z_zret hC hrt hlk hQ hS ⟨zle (z := 0) rfl (by omega), zle (z := 0) rfl (by omega)⟩ (by omega) ⟨_, rfl, Or.inr ⟨rfl, k, by omega, by omega⟩⟩ dX3_isSame_18
  exact W.widen (by omega) (by omega) (lp1 _ 0 rfl (Nat.zero_le _) (fun j hj => absurd hj (Nat.not_lt_zero j)) _ _ _  hP hD hS hl)

abbrev rm_m_X3_put : Room := { frames := 3, cells := 0, slots := 0, locals := 64 }
set_option maxHeartbeats 4000000 in
theorem m_X3_put {l : Launch} {s0 : State} {G : zG} (hE : zE l s0 G) (H0 : Heap) (hO : zO s0 H0) (μ : Ro → Nat) (σ : St) (th : Int) (e rb : Nat) (w : Nat → Int) (hh : HM G s0 μ σ th H0) (he : e < St_ne σ) (hb1 : zAt G rb (zI G (St_n σ (St_ea σ e)) w) H0) (hw : rw_ok (St_p σ) (St_n σ (St_ea σ e)) w) : zM l s0 yX3_put cX3_put 3 (some FieldType.int) rm_m_X3_put [.ref (μ (0, 0, 0)), .int (iI ((e : Nat) : Int)), .ref rb] H0 (fun z => z = μ (13, e, 0)) (ri (fun y h1 => y = (szV w (St_n σ (St_ea σ e)) : Nat) ∧ zAt G (μ (13, e, 0)) (zOb 7 [.int (iI (St_ea σ e : Int)), .ref rb]) h1)) := by
  refine z_met hE (by decide +kernel) (Nat.le_of_ble_eq_true rfl) ?_
  intro pp ee ss mm args below meth cd Q ls hC hml hrt hlk hnm hH hQ hS hl
  have hx := hC.x
  have hb := hC.b
  have hl : lv_has ls 3 [(0, .ref (μ (0, 0, 0))), (1, .int (iI ((e : Nat) : Int))), (2, .ref rb)] := hl
  have hP : va_P G.1 zCl [] H0 := va_nil
  have hD : va_D (zA (fun z => z = μ (13, e, 0)) H0) [] := va_nilD
  have hMo : ∀ z, (fun z => z = μ (13, e, 0)) z → s0.heap.size ≤ z := fun z hz => hz ▸ hh.sep.ge (domME 13 e (Or.inl rfl) he) (by simp [rAm])
  have hH1 := hh
  obtain ⟨hp, hna, hal, hne9, hel9, hmr9⟩ := id hh.ok
  have hp7 : 0 < St_p σ ∧ St_p σ ≤ 7 := by rcases hp with h | h | h <;> rw [h] <;> decide
  have hrn : rb ≠ μ (13, e, 0) := Ne.symm (z_noArr hE (ci := 7) (t := 0) rfl (hh.el he).1 rfl hb1)
  have hn16 := hh.n (hh.ea he)
  have hxx := hH1.2.2.1.1
  refine lv_aload_n hx hb dX3_put_0 rfl (lv_at hl 0 rfl) ?_
  refine z_get hC (k := 4) rfl in_X3 hxx (by decide) q1500 (fun _ h => h) rfl dX3_put_1 ?_
  refine lv_iload_n hx hb dX3_put_4 rfl (lv_at hl 1 rfl) ?_
  obtain ⟨mde, hLe⟩ := id hH1.2.2.1.2.2
  refine z_go5 0 0 (z_runF (n := 1) (As := [.int (iI ((e : Nat) : Int))]) (rest := []) (ci := 8) hC hml hl.1 (m_J2_get hE H0 (hO.ext (zS_F hS) hMo) (μ (3, 0, 0)) (St_ne σ) (fun j => μ (13, j, 0)) (μ (4, 0, 0)) mde e hLe (by omega)) q375 q1588 q1591 q373 q65 q1590 q1589 q1593 q1592 q1528 ⟨by decide +kernel, by decide +kernel, by decide +kernel⟩ rfl rfl rfl (z_rv hC (ci := 8) rfl hLe.1 rfl) rfl (Nat.le_of_ble_eq_true rfl) ⟨Nat.le_of_ble_eq_true rfl, Nat.le_of_ble_eq_true rfl⟩ ⟨zfit (k := 0) (z := 0) rfl rfl (by omega), zfit (k := 0) (z := 0) rfl rfl (by omega)⟩ dX3_put_5) ⟨zad (k := 0) rfl (by omega), zad (k := 0) rfl (by omega)⟩ hS (fun _ z => z.elim) (fun r H1 locs hp hF hS1 => ?_)
  obtain ⟨_, rfl, rfl⟩ := hp
  have hP := zpk hP hF
  have hP : va_P G.1 zCl ([]) H1 := hP
  have hD : va_D (zA (fun z => z = μ (13, e, 0)) H0) ([]) := hD
  have hH1 : HM G s0 μ σ th H1 := hH1.ext0 hE hF
  have hS := hS1
  have hEe := hH1.el (j := e) (by omega)
  have hve := hH1.row (j := e) (by omega)
  have heae := hH1.ea (j := e) (by omega)
  have hnne := hH1.n (k := St_ea σ e) heae
  have hP : va_P G.1 zCl [((μ (13, e, 0)), zOb 7 [.int (iI ((St_ea σ e : Nat) : Int)), .ref (μ (14, e, 0))])] H1 := zP1 hEe.1
  have hD : va_D (zA (fun z => z = μ (13, e, 0)) H0) [((μ (13, e, 0)), zOb 7 [.int (iI ((St_ea σ e : Nat) : Int)), .ref (μ (14, e, 0))])] := zD1 (Or.inl rfl)
  refine z_cast hC (ci := 7) rfl (hP 0 _ rfl) rfl q1598 dX3_put_10 ?_
  refine lv_aload_n hx hb dX3_put_13 rfl (lv_at hl 2 rfl) ?_
  refine z_put hC hP hD hS 0 (k := 1) rfl rfl in_X8 tyX8_ok nmX8 (by decide) q1640 (fun _ h => h) rfl rfl rfl rfl (Nat.le_of_ble_eq_true rfl) (ws' := [((μ (13, e, 0)), zOb 7 [.int (iI ((St_ea σ e : Nat) : Int)), .ref rb])]) rfl dX3_put_14 (fun H2 locs hP hD hS => ?_)
  refine lv_aload_n hx hb dX3_put_17 rfl (lv_at hl 2 rfl) ?_
  refine z_go 0 0 (z_runS (As := [.ref rb]) (rest := []) hC hml hl.1 (m_X3_size hE H2 (hO.ext (zS_F hS) hMo) rb (St_n σ (St_ea σ e)) w (zo hS hb1 hrn) (fun j hj => by have := hw j hj; omega) hn16) (lw_S q1675 q1676 q67 q1677) nd_X3_size rfl rfl (Nat.le_of_ble_eq_true rfl) ⟨Nat.le_of_ble_eq_true rfl, Nat.le_of_ble_eq_true rfl⟩ ⟨zfit (k := 0) (z := 0) rfl rfl (by omega), zfit (k := 0) (z := 0) rfl rfl (by omega)⟩ dX3_put_18) ⟨zad (k := 0) rfl (by omega), zad (k := 0) rfl (by omega)⟩ hS (fun _ z => z.elim) (fun r H3 locs hp hF hS1 => ?_)
  obtain ⟨_, rfl, rfl⟩ := hp
  have hP := zpk hP hF
  have hP : va_P G.1 zCl ([((μ (13, e, 0)), zOb 7 [.int (iI ((St_ea σ e : Nat) : Int)), .ref rb])]) H3 := hP
  have hD : va_D (zA (fun z => z = μ (13, e, 0)) H0) ([((μ (13, e, 0)), zOb 7 [.int (iI ((St_ea σ e : Nat) : Int)), .ref rb])]) := hD
  have hS := hS1
  have hsz9 := szV_le w (St_n σ (St_ea σ e))
  exact z_iret hC hrt hlk hQ hS ⟨zle (z := 0) rfl (by omega), zle (z := 0) rfl (by omega)⟩ ⟨_, rfl, rfl, hP 0 _ rfl⟩ dX3_put_21

abbrev rm_m_X3_plus : Room := { frames := 1, cells := 1, slots := 16, locals := 21 }
set_option maxHeartbeats 4000000 in
theorem m_X3_plus {l : Launch} {s0 : State} {G : zG} (hE : zE l s0 G) (H0 : Heap) (hO : zO s0 H0) (μ : Ro → Nat) (σ : St) (th : Int) (k : Nat) (a : Nat) (v : Nat → Int) (b : Nat) (w : Nat → Int) (t : Int) (hh : HM G s0 μ σ th H0) (hk : k < St_na σ) (h : zAt G a (zI G (St_n σ k) v) H0) (hv : rw_ok (St_p σ) (St_n σ k) v) (h2 : zAt G b (zI G (St_n σ k) w) H0) (hw : rw_ok (St_p σ) (St_n σ k) w) (ht : -10 ≤ t ∧ t ≤ 10) : zM l s0 yX3_plus cX3_plus 6 (some (FieldType.array FieldType.int)) rm_m_X3_plus [.ref (μ (0, 0, 0)), .ref a, .ref b, .int (iI t)] H0 M0 (rr (fun q h1 => NW G H0 h1 [(q, zI G (St_n σ k) (plV (St_p σ) t v w))])) := by
  refine z_met hE (by decide +kernel) (Nat.le_of_ble_eq_true rfl) ?_
  intro pp ee ss mm args below meth cd Q ls hC hml hrt hlk hnm hH hQ hS hl
  have hx := hC.x
  have hb := hC.b
  have hl : lv_has ls 6 [(0, .ref (μ (0, 0, 0))), (1, .ref a), (2, .ref b), (3, .int (iI t))] := hl
  have hP : va_P G.1 zCl [] H0 := va_nil
  have hD : va_D (zA M0 H0) [] := va_nilD
  have hH1 := hh
  obtain ⟨hp, hna, hal, hne9, hel9, hmr9⟩ := id hh.ok
  have hp7 : 0 < St_p σ ∧ St_p σ ≤ 7 := by rcases hp with h | h | h <;> rw [h] <;> decide
  have hn16 := hh.n hk
  refine lv_aload_n hx hb dX3_plus_0 rfl (lv_at hl 1 rfl) ?_
  refine z_alen hC 0 (zo hS h id) rfl (y := ((St_n σ k : Nat) : Int)) rfl dX3_plus_1 ?_
  refine z_newi hC hP hD hS (N := St_n σ k) (c1 := 1) (s1 := 16) rfl (by omega) ⟨zle (z := 1) rfl (by omega), zle (z := 16) rfl (by omega)⟩ ⟨by omega, by omega⟩ (ws' := fun q1 => [(q1, zI G (St_n σ k) (fun _ => 0))]) (fun _ => rfl) dX3_plus_2 (fun q1 H2 hq0q1 hq1q1 hP hD hS hF => ?_)
  refine lv_astore (lv' := [(4, .ref q1), (0, .ref (μ (0, 0, 0))), (1, .ref a), (2, .ref b), (3, .int (iI t))]) hx hb dX3_plus_4 hl (by decide) rfl (fun ls hl => ?_)
  refine lv_iconst (v := iI 0) hx hb dX3_plus_6 rfl ?_
  refine lv_istore (lv' := [(5, .int (iI 0)), (4, .ref q1), (0, .ref (μ (0, 0, 0))), (1, .ref a), (2, .ref b), (3, .int (iI t))]) hx hb dX3_plus_7 hl (by decide) rfl (fun ls hl => ?_)
  have lp3 : ∀ (dlp3 : Nat) (k9 : Nat) (f : Nat → Int), St_n σ k - k9 = dlp3 → (k9 ≤ St_n σ k) → (∀ j, j < k9 → f j = (plV (St_p σ) t v w) j) → ∀ (H4 : Heap) (locs : List Loc) (ls : Array Slot), va_P G.1 zCl ([(q1, zI G (St_n σ k) f)]) H4 → va_D (zA M0 H0) ([(q1, zI G (St_n σ k) f)]) → va_S (zA M0 H0) H0 H4 locs → lv_has ls 6 [(5, .int (iI ((k9 : Nat) : Int))), (4, .ref q1), (0, .ref (μ (0, 0, 0))), (1, .ref a), (2, .ref b), (3, .int (iI t))] → W pp l ee rm_m_X3_plus ss mm args below meth cd H4 locs 1 16 Q (F0 mm 9 ls []) := by
    intro dlp3
    induction dlp3 using Nat.strongRecOn with
    | ind dlp3 ihlp3 =>
      intro k9 f hdlp3 hk9 hf H4 locs ls  hP hD hS hl
      refine lv_iload hx hb dX3_plus_9 (lv_at hl 0 rfl) ?_
      refine lv_aload hx hb dX3_plus_11 (lv_at hl 1 rfl) ?_
      refine z_alen hC 0 (hP 0 _ rfl) rfl (y := ((St_n σ k : Nat) : Int)) rfl dX3_plus_13 ?_
      refine z_cge (tgt := 43) hx hb dX3_plus_14 (by decide) (by omega) (fun c5 => ?_) (fun c5 => ?_)
      · refine lv_aload hx hb dX3_plus_43 (lv_at hl 1 rfl) ?_
        have hP : va_P G.1 zCl ([(q1, zI G (St_n σ k) (plV (St_p σ) t v w))]) H4 := zcI hP 0 rfl (fun j hj => hf j (by omega))
        have hD : va_D (zA M0 H0) ([(q1, zI G (St_n σ k) (plV (St_p σ) t v w))]) := hD.set (p := 0) rfl
        exact z_aretA hC hrt hlk hQ hS ⟨zle (z := 1) rfl (by omega), zle (z := 16) rfl (by omega)⟩ ⟨_, rfl, hP, zdn hD⟩ dX3_plus_45
      · have hvk := hv k9 (by omega)
        have hwk := hw k9 (by omega)
        have hb2 : -70 ≤ t * w k9 ∧ t * w k9 ≤ 70 := zmulb ht hwk hp7
        refine lv_aload hx hb dX3_plus_17 (lv_at hl 1 rfl) ?_
        refine lv_iload hx hb dX3_plus_19 (lv_at hl 0 rfl) ?_
        refine lv_aload_n hx hb dX3_plus_21 rfl (lv_at hl 2 rfl) ?_
        refine lv_aload_n hx hb dX3_plus_22 rfl (lv_at hl 3 rfl) ?_
        refine lv_iload hx hb dX3_plus_23 (lv_at hl 0 rfl) ?_
        refine z_iald hC (zo hS h id) (k := k9) rfl (by omega) (y := v k9) rfl dX3_plus_25 ?_
        refine lv_iload_n hx hb dX3_plus_26 rfl (lv_at hl 5 rfl) ?_
        refine lv_aload_n hx hb dX3_plus_27 rfl (lv_at hl 4 rfl) ?_
        refine lv_iload hx hb dX3_plus_28 (lv_at hl 0 rfl) ?_
        refine z_iald hC (zo hS h2 id) (k := k9) rfl (by omega) (y := w k9) rfl dX3_plus_30 ?_
        refine z_mul hx hb (z := t * (w k9)) dX3_plus_31 rfl ?_
        refine z_add hx hb (z := (v k9) + (t * (w k9))) dX3_plus_32 rfl ?_
        have hH1 : HM G s0 μ σ th H4 := hh.ext0 hE (zS_F hS)
        refine z_go 1 16 (z_runV (As := [.int (iI ((v k9) + (t * (w k9))))]) (rest := [.int (iI ((k9 : Nat) : Int)), .ref q1]) hC hml hl.1 (m_X3_mod hE H4 (hO.ext0 (zS_F hS)) (μ (0, 0, 0)) (μ (1, 0, 0)) (μ (3, 0, 0)) th (St_p σ) (St_kn σ) (v k9 + t * w k9) hH1.2.2.1.1 hp (by omega)) (lw_V q1670 q1621 qs33 q67 q1622) rfl nd_X3_mod rfl (z_rv hC (ci := 2) rfl hH1.2.2.1.1 rfl) rfl (Nat.le_of_ble_eq_true rfl) ⟨Nat.le_of_ble_eq_true rfl, Nat.le_of_ble_eq_true rfl⟩ ⟨zfit (k := 0) (z := 1) rfl rfl (by omega), zfit (k := 0) (z := 16) rfl rfl (by omega)⟩ dX3_plus_33) ⟨zad (k := 0) rfl (by omega), zad (k := 0) rfl (by omega)⟩ hS (fun _ z => z.elim) (fun r H6 locs hp hF hS1 => ?_)
        obtain ⟨_, rfl, rfl⟩ := hp
        have hP := zpk hP hF
        have hP : va_P G.1 zCl ([(q1, zI G (St_n σ k) f)]) H6 := hP
        have hD : va_D (zA M0 H0) ([(q1, zI G (St_n σ k) f)]) := hD
        have hS := hS1
        refine z_iast hC hP hD hS 0 (k := k9) rfl rfl (by omega) (ws' := [(q1, zI G (St_n σ k) (va_up f k9 ((v k9 + t * w k9) % St_p σ)))]) rfl dX3_plus_36 (fun H7 locs hP hD hS => ?_)
        refine z_iinc (z := ((k9 + 1 : Nat) : Int)) (lv' := [(5, .int (iI ((k9 + 1 : Nat) : Int))), (4, .ref q1), (0, .ref (μ (0, 0, 0))), (1, .ref a), (2, .ref b), (3, .int (iI t))]) hx hb dX3_plus_37 hl (k := 0) rfl (by omega) (by decide) rfl (fun ls hl => ?_)
        refine lv_goto (tgt := 9) hx hb dX3_plus_40 (by decide) ?_
        exact W.widen (by omega) (by omega) (ihlp3 (St_n σ k - (k9 + 1)) (by omega) (k9 + 1) (va_up f k9 ((v k9 + t * w k9) % St_p σ)) rfl (by omega) (fun j hj => if e : j = k9 then by subst e; rw [va_up_self]; rfl else by rw [va_up_ne _ _ e]; exact hf j (by omega)) _ _ _  hP hD hS hl)
  exact W.widen (by omega) (by omega) (lp3 _ 0 (fun _ => 0) rfl (Nat.zero_le _) (fun j hj => absurd hj (Nat.not_lt_zero j)) _ _ _  hP hD hS hl)

