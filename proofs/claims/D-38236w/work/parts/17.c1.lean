/-! THE CLASS: numbers; an algebra's units; elements that are made new -/
set_option maxRecDepth 100000
abbrev rm_m_X1_mod : Room := { frames := 1, cells := 0, slots := 0, locals := 22 }
set_option maxHeartbeats 4000000 in
theorem m_X1_mod {l : Launch} {s0 : State} {G : zG} (hE : zE l s0 G) (H0 : Heap) (hO : zO s0 H0) (x la le dr : Nat) (p kn sm : Int) (z : Int) (hx0 : zAt G x (zOb 0 [.int (iI p), .ref la, .ref le, .ref dr, .int (iI kn), .long (lI sm)]) H0) (hp : 0 < p ∧ p ≤ 7) (hz : zi z) : zM l s0 yX1_mod cX1_mod 2 (some FieldType.int) rm_m_X1_mod [.ref x, .int (iI z)] H0 M0 (ri (fun y _ => y = z % p)) := by
  refine z_met hE (by decide +kernel) (Nat.le_of_ble_eq_true rfl) ?_
  intro pp ee ss mm args below meth cd Q ls hC hml hrt hlk hnm hH hQ hS hl
  have hx := hC.x
  have hb := hC.b
  have hl : lv_has ls 2 [(0, .ref x), (1, .int (iI z))] := hl
  have hP : va_P G.1 zCl [] H0 := va_nil
  have hD : va_D (zA M0 H0) [] := va_nilD
  refine lv_iload_n hx hb dX1_mod_0 rfl (lv_at hl 1 rfl) ?_
  refine lv_aload_n hx hb dX1_mod_1 rfl (lv_at hl 0 rfl) ?_
  refine z_get hC (k := 0) rfl in_X1 (zo hS hx0 id) (by decide) q149 (fun _ h => h) rfl dX1_mod_2 ?_
  refine z_go 0 0 (z_runS (As := [.int (iI z), .int (iI p)]) (rest := []) hC hml hl.1 (m_J10_floorMod hE H0 (hO.ext0 (zS_F hS)) z p hz (by omega)) (lw_S q356 q357 q78 q358) nd_J10_floorMod rfl rfl (Nat.le_of_ble_eq_true rfl) ⟨Nat.le_of_ble_eq_true rfl, Nat.le_of_ble_eq_true rfl⟩ ⟨zfit (k := 0) (z := 0) rfl rfl (by omega), zfit (k := 0) (z := 0) rfl rfl (by omega)⟩ dX1_mod_5) ⟨zad (k := 0) rfl (by omega), zad (k := 0) rfl (by omega)⟩ hS (fun _ z => z.elim) (fun r H1 locs hp hF hS1 => ?_)
  obtain ⟨_, rfl, rfl⟩ := hp
  have hP := zpk hP hF
  have hP : va_P G.1 zCl ([]) H1 := hP
  have hD : va_D (zA M0 H0) ([]) := hD
  have hS := hS1
  exact z_iret hC hrt hlk hQ hS ⟨zle (z := 0) rfl (by omega), zle (z := 0) rfl (by omega)⟩ ⟨_, rfl, rfl⟩ dX1_mod_8

abbrev rm_m_X1_signed : Room := { frames := 0, cells := 0, slots := 0, locals := 0 }
set_option maxHeartbeats 4000000 in
theorem m_X1_signed {l : Launch} {s0 : State} {G : zG} (hE : zE l s0 G) (H0 : Heap) (hO : zO s0 H0) (x la le dr : Nat) (p kn sm : Int) (z : Int) (hx0 : zAt G x (zOb 0 [.int (iI p), .ref la, .ref le, .ref dr, .int (iI kn), .long (lI sm)]) H0) (hp : 0 < p ∧ p ≤ 7) (hz : 0 ≤ z ∧ z < p) : zM l s0 yX1_signed cX1_signed 2 (some FieldType.int) rm_m_X1_signed [.ref x, .int (iI z)] H0 M0 (ri (fun y _ => y = if z > p / 2 then z - p else z)) := by
  refine z_met hE (by decide +kernel) (Nat.le_of_ble_eq_true rfl) ?_
  intro pp ee ss mm args below meth cd Q ls hC hml hrt hlk hnm hH hQ hS hl
  have hx := hC.x
  have hb := hC.b
  have hl : lv_has ls 2 [(0, .ref x), (1, .int (iI z))] := hl
  have hP : va_P G.1 zCl [] H0 := va_nil
  have hD : va_D (zA M0 H0) [] := va_nilD
  have e2 : Int.tdiv p 2 = p / 2 := Int.tdiv_eq_ediv_of_nonneg (by omega)
  refine lv_iload_n hx hb dX1_signed_0 rfl (lv_at hl 1 rfl) ?_
  refine lv_aload_n hx hb dX1_signed_1 rfl (lv_at hl 0 rfl) ?_
  refine z_get hC (k := 0) rfl in_X1 (zo hS hx0 id) (by decide) q149 (fun _ h => h) rfl dX1_signed_2 ?_
  refine lv_iconst (v := iI 2) hx hb dX1_signed_5 rfl ?_
  refine z_div hx hb (z := Int.tdiv p 2) dX1_signed_6 (by omega) rfl ?_
  refine z_cle (tgt := 19) hx hb dX1_signed_7 (by decide) (by omega) (fun c1 => ?_) (fun c1 => ?_)
  · refine lv_iload_n hx hb dX1_signed_19 rfl (lv_at hl 1 rfl) ?_
    exact z_iret hC hrt hlk hQ hS ⟨zle (z := 0) rfl (by omega), zle (z := 0) rfl (by omega)⟩ ⟨_, rfl, by rw [if_neg (by omega)]⟩ dX1_signed_20
  · refine lv_iload_n hx hb dX1_signed_10 rfl (lv_at hl 1 rfl) ?_
    refine lv_aload_n hx hb dX1_signed_11 rfl (lv_at hl 0 rfl) ?_
    refine z_get hC (k := 0) rfl in_X1 (zo hS hx0 id) (by decide) q149 (fun _ h => h) rfl dX1_signed_12 ?_
    refine z_sub hx hb (z := z - p) dX1_signed_15 rfl ?_
    refine lv_goto (tgt := 20) hx hb dX1_signed_16 (by decide) ?_
    exact z_iret hC hrt hlk hQ hS ⟨zle (z := 0) rfl (by omega), zle (z := 0) rfl (by omega)⟩ ⟨_, rfl, by rw [if_pos (by omega)]⟩ dX1_signed_20

abbrev rm_m_X1_inverseOf : Room := { frames := 2, cells := 0, slots := 0, locals := 43 }
set_option maxHeartbeats 4000000 in
theorem m_X1_inverseOf {l : Launch} {s0 : State} {G : zG} (hE : zE l s0 G) (H0 : Heap) (hO : zO s0 H0) (x la le dr : Nat) (p kn sm : Int) (z : Int) (hx0 : zAt G x (zOb 0 [.int (iI p), .ref la, .ref le, .ref dr, .int (iI kn), .long (lI sm)]) H0) (hp : pr357 p) (hz : z % p ≠ 0) (hzb : -1000 ≤ z ∧ z ≤ 1000) : zM l s0 yX1_inverseOf cX1_inverseOf 3 (some FieldType.int) rm_m_X1_inverseOf [.ref x, .int (iI z)] H0 M0 (ri (fun y _ => y = ivS p z)) := by
  refine z_met hE (by decide +kernel) (Nat.le_of_ble_eq_true rfl) ?_
  intro pp ee ss mm args below meth cd Q ls hC hml hrt hlk hnm hH hQ hS hl
  have hx := hC.x
  have hb := hC.b
  have hl : lv_has ls 3 [(0, .ref x), (1, .int (iI z))] := hl
  have hP : va_P G.1 zCl [] H0 := va_nil
  have hD : va_D (zA M0 H0) [] := va_nilD
  have hp7 : 0 < p ∧ p ≤ 7 := by rcases hp with rfl | rfl | rfl <;> decide
  obtain ⟨hi1, hi2, hi3, hi4⟩ := iv_ex hp hz
  refine lv_iconst (v := iI 1) hx hb dX1_inverseOf_0 rfl ?_
  refine lv_istore_n (lv' := [(2, .int (iI 1)), (0, .ref x), (1, .int (iI z))]) hx hb dX1_inverseOf_1 rfl hl (by decide) rfl (fun ls hl => ?_)
  have lp1 : ∀ (dlp1 : Nat) (k : Int), (ivS p z - k).toNat = dlp1 → (1 ≤ k ∧ k ≤ ivS p z) → ∀ (H2 : Heap) (locs : List Loc) (ls : Array Slot), va_P G.1 zCl ([]) H2 → va_D (zA M0 H0) ([]) → va_S (zA M0 H0) H0 H2 locs → lv_has ls 3 [(2, .int (iI k)), (0, .ref x), (1, .int (iI z))] → W pp l ee rm_m_X1_inverseOf ss mm args below meth cd H2 locs 0 0 Q (F0 mm 2 ls []) := by
    intro dlp1
    induction dlp1 using Nat.strongRecOn with
    | ind dlp1 ihlp1 =>
      intro k hdlp1 hk H2 locs ls  hP hD hS hl
      refine lv_aload_n hx hb dX1_inverseOf_2 rfl (lv_at hl 1 rfl) ?_
      refine lv_iload_n hx hb dX1_inverseOf_3 rfl (lv_at hl 0 rfl) ?_
      refine lv_iload_n hx hb dX1_inverseOf_4 rfl (lv_at hl 2 rfl) ?_
      refine z_mul hx hb (z := k * z) dX1_inverseOf_5 rfl ?_
      have hk2 : -6000 ≤ k * z ∧ k * z ≤ 6000 := zmul6 hk hzb
      refine z_go 0 0 (z_runV (As := [.int (iI (k * z))]) (rest := []) hC hml hl.1 (m_X1_mod hE H2 (hO.ext0 (zS_F hS)) x la le dr p kn sm (k * z) (zo hS hx0 id) hp7 (by omega)) (lw_V q450 q354 qs5 q62 q355) rfl nd_X1_mod rfl (z_rv hC (ci := 0) rfl (zo hS hx0 id) rfl) rfl (Nat.le_of_ble_eq_true rfl) ⟨Nat.le_of_ble_eq_true rfl, Nat.le_of_ble_eq_true rfl⟩ ⟨zfit (k := 0) (z := 0) rfl rfl (by omega), zfit (k := 0) (z := 0) rfl rfl (by omega)⟩ dX1_inverseOf_6) ⟨zad (k := 0) rfl (by omega), zad (k := 0) rfl (by omega)⟩ hS (fun _ z => z.elim) (fun r H3 locs hp hF hS1 => ?_)
      obtain ⟨_, rfl, rfl⟩ := hp
      have hP := zpk hP hF
      have hP : va_P G.1 zCl ([]) H3 := hP
      have hD : va_D (zA M0 H0) ([]) := hD
      have hS := hS1
      have hmd := md_in hp (k * z)
      refine lv_iconst (v := iI 1) hx hb dX1_inverseOf_9 rfl ?_
      refine z_ceq (tgt := 19) hx hb dX1_inverseOf_10 (by decide) (by omega) (fun c4 => ?_) (fun c4 => ?_)
      · have ek : k = ivS p z := by
          rcases Int.lt_or_le k (ivS p z) with hlt | hge
          · exact absurd (show k * z % p = 1 by omega) (hi4 k hk.1 hlt)
          · omega
        refine lv_iload_n hx hb dX1_inverseOf_19 rfl (lv_at hl 0 rfl) ?_
        exact z_iret hC hrt hlk hQ hS ⟨zle (z := 0) rfl (by omega), zle (z := 0) rfl (by omega)⟩ ⟨_, rfl, ek⟩ dX1_inverseOf_20
      · have hlt : k < ivS p z := by
          rcases Int.lt_or_le k (ivS p z) with hlt | hge
          · exact hlt
          · exfalso
            have ek : k = ivS p z := by omega
            subst ek
            omega
        refine z_iinc (z := k + (1)) (lv' := [(2, .int (iI (k + (1)))), (0, .ref x), (1, .int (iI z))]) hx hb dX1_inverseOf_13 hl (k := 0) rfl (by omega) (by decide) rfl (fun ls hl => ?_)
        refine lv_goto (tgt := 2) hx hb dX1_inverseOf_16 (by decide) ?_
        exact W.widen (by omega) (by omega) (ihlp1 ((ivS p z - (k + 1)).toNat) (by omega) (k + 1) rfl (⟨by omega, by omega⟩) _ _ _  hP hD hS hl)
  exact W.widen (by omega) (by omega) (lp1 _ 1 rfl (⟨by decide, hi2⟩) _ _ _  hP hD hS hl)

abbrev rm_m_X1_isFrom : Room := { frames := 0, cells := 0, slots := 0, locals := 0 }
set_option maxHeartbeats 4000000 in
theorem m_X1_isFrom {l : Launch} {s0 : State} {G : zG} (hE : zE l s0 G) (H0 : Heap) (hO : zO s0 H0) (a b z : Int) (h : zi a ∧ zi b ∧ zi z) : zM l s0 yX1_isFrom cX1_isFrom 3 (some FieldType.boolean) rm_m_X1_isFrom [.int (iI a), .int (iI b), .int (iI z)] H0 M0 (ri (fun y _ => y = if a ≤ z ∧ z ≤ b then 1 else 0)) := by
  refine z_met hE (by decide +kernel) (Nat.le_of_ble_eq_true rfl) ?_
  intro pp ee ss mm args below meth cd Q ls hC hml hrt hlk hnm hH hQ hS hl
  have hx := hC.x
  have hb := hC.b
  have hl : lv_has ls 3 [(0, .int (iI a)), (1, .int (iI b)), (2, .int (iI z))] := hl
  have hP : va_P G.1 zCl [] H0 := va_nil
  have hD : va_D (zA M0 H0) [] := va_nilD
  refine lv_iload_n hx hb dX1_isFrom_0 rfl (lv_at hl 2 rfl) ?_
  refine lv_iload_n hx hb dX1_isFrom_1 rfl (lv_at hl 0 rfl) ?_
  refine z_clt (tgt := 14) hx hb dX1_isFrom_2 (by decide) (by omega) (fun c1 => ?_) (fun c1 => ?_)
  · refine lv_iconst (v := iI 0) hx hb dX1_isFrom_14 rfl ?_
    exact z_zret hC hrt hlk hQ hS ⟨zle (z := 0) rfl (by omega), zle (z := 0) rfl (by omega)⟩ (by omega) ⟨_, rfl, by rw [if_neg (by omega)]⟩ dX1_isFrom_15
  · refine lv_iload_n hx hb dX1_isFrom_5 rfl (lv_at hl 2 rfl) ?_
    refine lv_iload_n hx hb dX1_isFrom_6 rfl (lv_at hl 1 rfl) ?_
    refine z_cgt (tgt := 14) hx hb dX1_isFrom_7 (by decide) (by omega) (fun c2 => ?_) (fun c2 => ?_)
    · refine lv_iconst (v := iI 0) hx hb dX1_isFrom_14 rfl ?_
      exact z_zret hC hrt hlk hQ hS ⟨zle (z := 0) rfl (by omega), zle (z := 0) rfl (by omega)⟩ (by omega) ⟨_, rfl, by rw [if_neg (by omega)]⟩ dX1_isFrom_15
    · refine lv_iconst (v := iI 1) hx hb dX1_isFrom_10 rfl ?_
      refine lv_goto (tgt := 15) hx hb dX1_isFrom_11 (by decide) ?_
      exact z_zret hC hrt hlk hQ hS ⟨zle (z := 0) rfl (by omega), zle (z := 0) rfl (by omega)⟩ (by omega) ⟨_, rfl, by rw [if_pos (by omega)]⟩ dX1_isFrom_15

abbrev rm_m_X5_units : Room := { frames := 1, cells := 0, slots := 0, locals := 20 }
set_option maxHeartbeats 4000000 in
theorem m_X5_units {l : Launch} {s0 : State} {G : zG} (hE : zE l s0 G) (H0 : Heap) (hO : zO s0 H0) (x g : Nat) (p : Int) (d n kd : Nat) (dv : Nat → Int) (sg : Nat → Nat → Int) (hA : zAg G x g p d n kd dv sg H0) : zM l s0 yX5_units cX5_units 1 (some FieldType.int) rm_m_X5_units [.ref g] H0 M0 (ri (fun y _ => y = n)) := by
  refine z_met hE (by decide +kernel) (Nat.le_of_ble_eq_true rfl) ?_
  intro pp ee ss mm args below meth cd Q ls hC hml hrt hlk hnm hH hQ hS hl
  have hx := hC.x
  have hb := hC.b
  have hl : lv_has ls 1 [(0, .ref g)] := hl
  have hP : va_P G.1 zCl [] H0 := va_nil
  have hD : va_D (zA M0 H0) [] := va_nilD
  obtain ⟨la, le, dr, kn, sm, dl, da, ml, so, dm, ro, hx0, hg0, hL0, hso, hro, hfa⟩ := id hA
  obtain ⟨hp, hd4, hn2, hkd, hdv, hsg⟩ := hfa
  obtain ⟨hn16, hp7⟩ := hA.n
  refine lv_iconst (v := iI 1) hx hb dX5_units_0 rfl ?_
  refine lv_aload_n hx hb dX5_units_1 rfl (lv_at hl 0 rfl) ?_
  refine z_get hC (k := 1) rfl in_X5 (zo hS hg0 id) (by decide) q958 (fun _ h => h) rfl dX5_units_2 ?_
  refine z_go 0 0 (z_runV (As := []) (rest := [.int (iI 1)]) hC hml hl.1 (m_J2_size hE H0 (hO.ext0 (zS_F hS)) dl d _ da dm (hL0.ext0 (zS_F hS))) (lw_V q301 q230 q231 q65 q232) rfl nd_J2_size rfl (z_rv hC (ci := 8) rfl (zo hS hL0.1 id) rfl) rfl (Nat.le_of_ble_eq_true rfl) ⟨Nat.le_of_ble_eq_true rfl, Nat.le_of_ble_eq_true rfl⟩ ⟨zfit (k := 0) (z := 0) rfl rfl (by omega), zfit (k := 0) (z := 0) rfl rfl (by omega)⟩ dX5_units_5) ⟨zad (k := 0) rfl (by omega), zad (k := 0) rfl (by omega)⟩ hS (fun _ z => z.elim) (fun r H1 locs hp hF hS1 => ?_)
  obtain ⟨_, rfl, rfl⟩ := hp
  have hP := zpk hP hF
  have hP : va_P G.1 zCl ([]) H1 := hP
  have hD : va_D (zA M0 H0) ([]) := hD
  have hS := hS1
  have h2d : 2 ^ d ≤ 16 := by omega
  refine z_shl hx hb (i := 1) (j := d) (n := 1 * 2 ^ d) dX5_units_8 rfl rfl (by omega) rfl ?_
  refine z_top (b := ((n : Nat) : Int)) (by omega) ?_
  exact z_iret hC hrt hlk hQ hS ⟨zle (z := 0) rfl (by omega), zle (z := 0) rfl (by omega)⟩ ⟨_, rfl, rfl⟩ dX5_units_9

abbrev rm_m_X7_init : Room := { frames := 2, cells := 1, slots := 16, locals := 40 }
set_option maxHeartbeats 4000000 in
theorem m_X7_init {l : Launch} {s0 : State} {G : zG} (hE : zE l s0 G) (H0 : Heap) (hO : zO s0 H0) (x g : Nat) (p : Int) (d n kd : Nat) (dv : Nat → Int) (sg : Nat → Nat → Int) (q : Nat) (hq : s0.heap.size ≤ q) (hA : zAg G x g p d n kd dv sg H0) (h0 : zAt G q (zOb 6 [.null, .null, .null]) H0) : zM l s0 yX7_init cX7_init 3 (none : Option FieldType) rm_m_X7_init [.ref q, .ref x, .ref g] H0 (fun z => z = q) (rv (fun h1 => ∃ r1, zAt G q (zOb 6 [.ref g, .ref r1, .ref x]) h1 ∧ NW G H0 h1 [(r1, zI G n (fun _ => 0))])) := by
  refine z_met hE (by decide +kernel) (Nat.le_of_ble_eq_true rfl) ?_
  intro pp ee ss mm args below meth cd Q ls hC hml hrt hlk hnm hH hQ hS hl
  have hx := hC.x
  have hb := hC.b
  have hl : lv_has ls 3 [(0, .ref q), (1, .ref x), (2, .ref g)] := hl
  have hP : va_P G.1 zCl [(q, zOb 6 [.null, .null, .null])] H0 := zP1 h0
  have hD : va_D (zA (fun z => z = q) H0) [(q, zOb 6 [.null, .null, .null])] := zD1 (Or.inl rfl)
  have hMo : ∀ z, (fun z => z = q) z → s0.heap.size ≤ z := fun z hz => hz ▸ hq
  obtain ⟨hn16, hp7⟩ := hA.n
  have hg6 : ∀ {H1 : Heap}, zF (fun z => z = q) H0 H1 → zAg G x g p d n kd dv sg H1 := fun hF => hA.extq hE h0 hF
  obtain ⟨la, le, dr, kn, sm, dl, da, ml, so, dm, ro, hx0, hg0, -⟩ := id hA
  have nx : x ≠ q := z_noCls hE (ci := 0) (cj := 6) rfl rfl (by decide) hx0 h0
  have ng : g ≠ q := z_noCls hE (ci := 4) (cj := 6) rfl rfl (by decide) hg0 h0
  refine lv_aload_n hx hb dX7_init_0 rfl (lv_at hl 0 rfl) ?_
  refine lv_aload_n hx hb dX7_init_1 rfl (lv_at hl 1 rfl) ?_
  refine z_putF hC hnm hP hD hS 0 (k := 2) rfl rfl in_X7 tyX7_ok nmX7 (by decide) q326 (fun _ h => h) rfl rfl rfl rfl rfl (Nat.le_of_ble_eq_true rfl) (ws' := [(q, zOb 6 [.null, .null, .ref x])]) rfl dX7_init_2 (fun H1 locs hP hD hS => ?_)
  refine lv_aload_n hx hb dX7_init_5 rfl (lv_at hl 0 rfl) ?_
  refine W.objInit hx hb hC.o (hC.t _ q320) (hC.t _ q108) (hC.t _ q109) rfl (by rw [hml]; exact hl.1) rfl dX7_init_6 (Nat.le_of_ble_eq_true rfl) (Nat.le_of_ble_eq_true rfl) ?_
  refine W.eq (g2 := F0 mm 9 ls []) rfl ?_
  refine lv_aload_n hx hb dX7_init_9 rfl (lv_at hl 0 rfl) ?_
  refine lv_aload_n hx hb dX7_init_10 rfl (lv_at hl 2 rfl) ?_
  refine z_putF hC hnm hP hD hS 0 (k := 0) rfl rfl in_X7 tyX7_ok nmX7 (by decide) q322 (fun _ h => h) rfl rfl rfl rfl rfl (Nat.le_of_ble_eq_true rfl) (ws' := [(q, zOb 6 [.ref g, .null, .ref x])]) rfl dX7_init_11 (fun H2 locs hP hD hS => ?_)
  refine lv_aload_n hx hb dX7_init_14 rfl (lv_at hl 0 rfl) ?_
  refine lv_aload_n hx hb dX7_init_15 rfl (lv_at hl 2 rfl) ?_
  refine z_go 0 0 (z_runV (As := []) (rest := [.ref q]) hC hml hl.1 (m_X5_units hE H2 (hO.ext (zS_F hS) hMo) x g p d n kd dv sg (hg6 (zS_F hS))) (lw_V q321 q298 q299 q74 q300) rfl nd_X5_units rfl (z_rv hC (ci := 4) rfl (zo hS hg0 ng) rfl) rfl (Nat.le_of_ble_eq_true rfl) ⟨Nat.le_of_ble_eq_true rfl, Nat.le_of_ble_eq_true rfl⟩ ⟨zfit (k := 0) (z := 1) rfl rfl (by omega), zfit (k := 0) (z := 16) rfl rfl (by omega)⟩ dX7_init_16) ⟨zad (k := 0) rfl (by omega), zad (k := 0) rfl (by omega)⟩ hS (fun _ z => z.elim) (fun r H3 locs hp hF hS1 => ?_)
  obtain ⟨_, rfl, rfl⟩ := hp
  have hP := zpk hP hF
  have hP : va_P G.1 zCl ([(q, zOb 6 [.ref g, .null, .ref x])]) H3 := hP
  have hD : va_D (zA (fun z => z = q) H0) ([(q, zOb 6 [.ref g, .null, .ref x])]) := hD
  have hS := hS1
  refine z_newi hC hP hD hS (N := n) (c1 := 1) (s1 := 16) rfl (by omega) ⟨zle (z := 1) rfl (by omega), zle (z := 16) rfl (by omega)⟩ ⟨by omega, by omega⟩ (ws' := fun q4 => [(q, zOb 6 [.ref g, .null, .ref x]), (q4, zI G n (fun _ => 0))]) (fun _ => rfl) dX7_init_19 (fun q4 H5 hq0q4 hq1q4 hP hD hS hF => ?_)
  refine z_put hC hP hD hS 0 (k := 1) rfl rfl in_X7 tyX7_ok nmX7 (by decide) q324 (fun _ h => h) rfl rfl rfl rfl (Nat.le_of_ble_eq_true rfl) (ws' := [(q, zOb 6 [.ref g, .ref q4, .ref x]), (q4, zI G n (fun _ => 0))]) rfl dX7_init_21 (fun H6 locs hP hD hS => ?_)
  exact z_vret hC hrt hlk hQ hS ⟨zle (z := 1) rfl (by omega), zle (z := 16) rfl (by omega)⟩ ⟨rfl, _, hP 0 _ rfl, zP1 (hP 1 _ rfl), zD1 hq0q4⟩ dX7_init_24

abbrev rm_m_X7_one : Room := { frames := 3, cells := 2, slots := 19, locals := 62 }
set_option maxHeartbeats 4000000 in
theorem m_X7_one {l : Launch} {s0 : State} {G : zG} (hE : zE l s0 G) (H0 : Heap) (hO : zO s0 H0) (x g : Nat) (p : Int) (d n kd : Nat) (dv : Nat → Int) (sg : Nat → Nat → Int) (a r : Nat) (v : Nat → Int) (hA : zAg G x g p d n kd dv sg H0) (h : zEl G x g a r n v H0) (hv : rw_ok p n v) : zM l s0 yX7_one cX7_one 2 (some (FieldType.object "Versorhall$Element")) rm_m_X7_one [.ref a] H0 M0 (rr (fun q h1 => ∃ r1, NW G H0 h1 [(q, zOb 6 [.ref g, .ref r1, .ref x]), (r1, zI G n (oneV))])) := by
  refine z_met hE (by decide +kernel) (Nat.le_of_ble_eq_true rfl) ?_
  intro pp ee ss mm args below meth cd Q ls hC hml hrt hlk hnm hH hQ hS hl
  have hx := hC.x
  have hb := hC.b
  have hl : lv_has ls 2 [(0, .ref a)] := hl
  have hP : va_P G.1 zCl [] H0 := va_nil
  have hD : va_D (zA M0 H0) [] := va_nilD
  obtain ⟨la, le, dr, kn, sm, dl, da, ml, so, dm, ro, hx0, hg0, hL0, hso, hro, hfa⟩ := id hA
  obtain ⟨hp, hd4, hn2, hkd, hdv, hsg⟩ := hfa
  obtain ⟨hn16, hp7⟩ := hA.n
  refine z_new hC hP hD hS (c1 := 1) (s1 := 3) (fs := [.null, .null, .null]) (ci := 6) rfl in_X7 tyX7_ok q315 q316 q92 df_X7 ⟨zle (z := 2) rfl (by omega), zle (z := 19) rfl (by omega)⟩ ⟨by omega, by omega⟩ (ws' := fun q1 => [(q1, zOb 6 [.null, .null, .null])]) (fun _ => rfl) dX7_one_0 (fun q1 H2 hq0q1 hq1q1 hP hD hS hF => ?_)
  refine lv_dup hx hb dX7_one_3 rfl ?_
  refine lv_aload_n hx hb dX7_one_4 rfl (lv_at hl 0 rfl) ?_
  refine z_get hC (k := 2) rfl in_X7 (zo hS h.1 id) (by decide) q326 (fun _ h => h) rfl dX7_one_5 ?_
  refine lv_aload_n hx hb dX7_one_8 rfl (lv_at hl 0 rfl) ?_
  refine z_get hC (k := 0) rfl in_X7 (zo hS h.1 id) (by decide) q322 (fun _ h => h) rfl dX7_one_9 ?_
  refine z_go 2 19 (z_runI (As := [.ref x, .ref g]) (rest := [.ref q1]) hC hml hl.1 (m_X7_init hE H2 (hO.ext0 (zS_F hS)) x g p d n kd dv sg q1 (Nat.le_trans hO.1 hq0q1) (hA.ext0 (zS_F hS)) (hP 0 _ rfl)) q319 q92 q317 q318 rfl nd_X7_init rfl rfl (Nat.le_of_ble_eq_true rfl) ⟨Nat.le_of_ble_eq_true rfl, Nat.le_of_ble_eq_true rfl⟩ ⟨zfit (k := 1) (z := 2) rfl rfl (by omega), zfit (k := 16) (z := 19) rfl rfl (by omega)⟩ dX7_one_12) ⟨zad (k := 1) rfl (by omega), zad (k := 16) rfl (by omega)⟩ hS (fun q z => by subst z; exact hD.2 0 _ rfl) (fun r H3 locs hp hF hS1 => ?_)
  obtain ⟨rfl, rq1, hm, hN⟩ := hp
  obtain ⟨hP, hD⟩ := zjmn hP hD hS.1 hF 0 rfl hm hN
  have hP : va_P G.1 zCl ([(q1, zOb 6 [.ref g, .ref rq1, .ref x]), (rq1, zI G n (fun _ => 0))]) H3 := hP
  have hD : va_D (zA M0 H0) ([(q1, zOb 6 [.ref g, .ref rq1, .ref x]), (rq1, zI G n (fun _ => 0))]) := hD
  have hS := hS1
  refine lv_astore_n (lv' := [(1, .ref q1), (0, .ref a)]) hx hb dX7_one_15 rfl hl (by decide) rfl (fun ls hl => ?_)
  refine lv_aload_n hx hb dX7_one_16 rfl (lv_at hl 0 rfl) ?_
  refine z_get hC (k := 1) rfl in_X7 (hP 0 _ rfl) (by decide) q324 (fun _ h => h) rfl dX7_one_17 ?_
  refine lv_iconst (v := iI 0) hx hb dX7_one_20 rfl ?_
  refine lv_iconst (v := iI 1) hx hb dX7_one_21 rfl ?_
  refine z_iast hC hP hD hS 1 (k := 0) rfl rfl (by omega) (ws' := [(q1, zOb 6 [.ref g, .ref rq1, .ref x]), (rq1, zI G n (va_up (fun _ => 0) 0 1))]) rfl dX7_one_22 (fun H4 locs hP hD hS => ?_)
  refine lv_aload_n hx hb dX7_one_23 rfl (lv_at hl 0 rfl) ?_
  have hP : va_P G.1 zCl ([(q1, zOb 6 [.ref g, .ref rq1, .ref x]), (rq1, zI G n oneV)]) H4 := zcI hP 1 rfl (fun j _ => by unfold va_up oneV; rfl)
  have hD : va_D (zA M0 H0) ([(q1, zOb 6 [.ref g, .ref rq1, .ref x]), (rq1, zI G n oneV)]) := hD.set (p := 1) rfl
  exact z_aret hC hrt hlk hQ hS ⟨zle (z := 2) rfl (by omega), zle (z := 19) rfl (by omega)⟩ ⟨_, rfl, _, hP, zdn hD⟩ dX7_one_24

abbrev rm_m_X7_times_2 : Room := { frames := 3, cells := 2, slots := 19, locals := 62 }
set_option maxHeartbeats 4000000 in
theorem m_X7_times_2 {l : Launch} {s0 : State} {G : zG} (hE : zE l s0 G) (H0 : Heap) (hO : zO s0 H0) (x g : Nat) (p : Int) (d n kd : Nat) (dv : Nat → Int) (sg : Nat → Nat → Int) (a r : Nat) (v : Nat → Int) (t : Int) (hA : zAg G x g p d n kd dv sg H0) (h : zEl G x g a r n v H0) (hv : rw_ok p n v) (ht : -10 ≤ t ∧ t ≤ 10) : zM l s0 yX7_times_2 cX7_times_2 4 (some (FieldType.object "Versorhall$Element")) rm_m_X7_times_2 [.ref a, .int (iI t)] H0 M0 (rr (fun q h1 => ∃ r1, NW G H0 h1 [(q, zOb 6 [.ref g, .ref r1, .ref x]), (r1, zI G n (scV p t v))])) := by
  refine z_met hE (by decide +kernel) (Nat.le_of_ble_eq_true rfl) ?_
  intro pp ee ss mm args below meth cd Q ls hC hml hrt hlk hnm hH hQ hS hl
  have hx := hC.x
  have hb := hC.b
  have hl : lv_has ls 4 [(0, .ref a), (1, .int (iI t))] := hl
  have hP : va_P G.1 zCl [] H0 := va_nil
  have hD : va_D (zA M0 H0) [] := va_nilD
  obtain ⟨la, le, dr, kn, sm, dl, da, ml, so, dm, ro, hx0, hg0, hL0, hso, hro, hfa⟩ := id hA
  obtain ⟨hp, hd4, hn2, hkd, hdv, hsg⟩ := hfa
  obtain ⟨hn16, hp7⟩ := hA.n
  refine z_new hC hP hD hS (c1 := 1) (s1 := 3) (fs := [.null, .null, .null]) (ci := 6) rfl in_X7 tyX7_ok q315 q316 q92 df_X7 ⟨zle (z := 2) rfl (by omega), zle (z := 19) rfl (by omega)⟩ ⟨by omega, by omega⟩ (ws' := fun q1 => [(q1, zOb 6 [.null, .null, .null])]) (fun _ => rfl) dX7_times_2_0 (fun q1 H2 hq0q1 hq1q1 hP hD hS hF => ?_)
  refine lv_dup hx hb dX7_times_2_3 rfl ?_
  refine lv_aload_n hx hb dX7_times_2_4 rfl (lv_at hl 0 rfl) ?_
  refine z_get hC (k := 2) rfl in_X7 (zo hS h.1 id) (by decide) q326 (fun _ h => h) rfl dX7_times_2_5 ?_
  refine lv_aload_n hx hb dX7_times_2_8 rfl (lv_at hl 0 rfl) ?_
  refine z_get hC (k := 0) rfl in_X7 (zo hS h.1 id) (by decide) q322 (fun _ h => h) rfl dX7_times_2_9 ?_
  refine z_go 2 19 (z_runI (As := [.ref x, .ref g]) (rest := [.ref q1]) hC hml hl.1 (m_X7_init hE H2 (hO.ext0 (zS_F hS)) x g p d n kd dv sg q1 (Nat.le_trans hO.1 hq0q1) (hA.ext0 (zS_F hS)) (hP 0 _ rfl)) q319 q92 q317 q318 rfl nd_X7_init rfl rfl (Nat.le_of_ble_eq_true rfl) ⟨Nat.le_of_ble_eq_true rfl, Nat.le_of_ble_eq_true rfl⟩ ⟨zfit (k := 1) (z := 2) rfl rfl (by omega), zfit (k := 16) (z := 19) rfl rfl (by omega)⟩ dX7_times_2_12) ⟨zad (k := 1) rfl (by omega), zad (k := 16) rfl (by omega)⟩ hS (fun q z => by subst z; exact hD.2 0 _ rfl) (fun r H3 locs hp hF hS1 => ?_)
  obtain ⟨rfl, rq1, hm, hN⟩ := hp
  obtain ⟨hP, hD⟩ := zjmn hP hD hS.1 hF 0 rfl hm hN
  have hP : va_P G.1 zCl ([(q1, zOb 6 [.ref g, .ref rq1, .ref x]), (rq1, zI G n (fun _ => 0))]) H3 := hP
  have hD : va_D (zA M0 H0) ([(q1, zOb 6 [.ref g, .ref rq1, .ref x]), (rq1, zI G n (fun _ => 0))]) := hD
  have hS := hS1
  refine lv_astore_n (lv' := [(2, .ref q1), (0, .ref a), (1, .int (iI t))]) hx hb dX7_times_2_15 rfl hl (by decide) rfl (fun ls hl => ?_)
  refine lv_iconst (v := iI 0) hx hb dX7_times_2_16 rfl ?_
  refine lv_istore_n (lv' := [(3, .int (iI 0)), (2, .ref q1), (0, .ref a), (1, .int (iI t))]) hx hb dX7_times_2_17 rfl hl (by decide) rfl (fun ls hl => ?_)
  have lp4 : ∀ (dlp4 : Nat) (k : Nat) (f : Nat → Int), n - k = dlp4 → (k ≤ n) → (∀ j, j < k → f j = (scV p t v) j) → ∀ (H5 : Heap) (locs : List Loc) (ls : Array Slot), va_P G.1 zCl ([(q1, zOb 6 [.ref g, .ref rq1, .ref x]), (rq1, zI G n f)]) H5 → va_D (zA M0 H0) ([(q1, zOb 6 [.ref g, .ref rq1, .ref x]), (rq1, zI G n f)]) → va_S (zA M0 H0) H0 H5 locs → lv_has ls 4 [(3, .int (iI ((k : Nat) : Int))), (2, .ref q1), (0, .ref a), (1, .int (iI t))] → W pp l ee rm_m_X7_times_2 ss mm args below meth cd H5 locs 2 19 Q (F0 mm 18 ls []) := by
    intro dlp4
    induction dlp4 using Nat.strongRecOn with
    | ind dlp4 ihlp4 =>
      intro k f hdlp4 hk hf H5 locs ls  hP hD hS hl
      refine lv_iload_n hx hb dX7_times_2_18 rfl (lv_at hl 0 rfl) ?_
      refine lv_aload_n hx hb dX7_times_2_19 rfl (lv_at hl 2 rfl) ?_
      refine z_get hC (k := 1) rfl in_X7 (zo hS h.1 id) (by decide) q324 (fun _ h => h) rfl dX7_times_2_20 ?_
      refine z_alen hC 0 (zo hS h.2 id) rfl (y := ((n : Nat) : Int)) rfl dX7_times_2_23 ?_
      refine z_cge (tgt := 54) hx hb dX7_times_2_24 (by decide) (by omega) (fun c6 => ?_) (fun c6 => ?_)
      · refine lv_aload_n hx hb dX7_times_2_54 rfl (lv_at hl 1 rfl) ?_
        have hP : va_P G.1 zCl ([(q1, zOb 6 [.ref g, .ref rq1, .ref x]), (rq1, zI G n (scV p t v))]) H5 := zcI hP 1 rfl (fun j hj => hf j (by omega))
        have hD : va_D (zA M0 H0) ([(q1, zOb 6 [.ref g, .ref rq1, .ref x]), (rq1, zI G n (scV p t v))]) := hD.set (p := 1) rfl
        exact z_aret hC hrt hlk hQ hS ⟨zle (z := 2) rfl (by omega), zle (z := 19) rfl (by omega)⟩ ⟨_, rfl, _, hP, zdn hD⟩ dX7_times_2_55
      · have hvk := hv k (by omega)
        have hb2 : -70 ≤ t * v k ∧ t * v k ≤ 70 := zmulb ht hvk hp7
        refine lv_aload_n hx hb dX7_times_2_27 rfl (lv_at hl 1 rfl) ?_
        refine z_get hC (k := 1) rfl in_X7 (hP 0 _ rfl) (by decide) q324 (fun _ h => h) rfl dX7_times_2_28 ?_
        refine lv_iload_n hx hb dX7_times_2_31 rfl (lv_at hl 0 rfl) ?_
        refine lv_aload_n hx hb dX7_times_2_32 rfl (lv_at hl 2 rfl) ?_
        refine z_get hC (k := 2) rfl in_X7 (zo hS h.1 id) (by decide) q326 (fun _ h => h) rfl dX7_times_2_33 ?_
        refine lv_iload_n hx hb dX7_times_2_36 rfl (lv_at hl 3 rfl) ?_
        refine lv_aload_n hx hb dX7_times_2_37 rfl (lv_at hl 2 rfl) ?_
        refine z_get hC (k := 1) rfl in_X7 (zo hS h.1 id) (by decide) q324 (fun _ h => h) rfl dX7_times_2_38 ?_
        refine lv_iload_n hx hb dX7_times_2_41 rfl (lv_at hl 0 rfl) ?_
        refine z_iald hC (zo hS h.2 id) (k := k) rfl (by omega) (y := v k) rfl dX7_times_2_42 ?_
        refine z_mul hx hb (z := t * (v k)) dX7_times_2_43 rfl ?_
        refine z_go 2 19 (z_runVN (As := [.int (iI (t * (v k)))]) (rest := [.int (iI ((k : Nat) : Int)), .ref rq1]) hC hml hl.1 (m_X1_mod hE H5 (hO.ext0 (zS_F hS)) x la le dr p kn sm (t * v k) (zo hS hx0 id) hp7 (by omega)) q355 q62 q352 q354 qs5 nd_X1_mod rfl (z_rv hC (ci := 0) rfl (zo hS hx0 id) rfl) rfl (Nat.le_of_ble_eq_true rfl) ⟨Nat.le_of_ble_eq_true rfl, Nat.le_of_ble_eq_true rfl⟩ ⟨zfit (k := 0) (z := 2) rfl rfl (by omega), zfit (k := 0) (z := 19) rfl rfl (by omega)⟩ dX7_times_2_44) ⟨zad (k := 0) rfl (by omega), zad (k := 0) rfl (by omega)⟩ hS (fun _ z => z.elim) (fun r H7 locs hp hF hS1 => ?_)
        obtain ⟨_, rfl, rfl⟩ := hp
        have hP := zpk hP hF
        have hP : va_P G.1 zCl ([(q1, zOb 6 [.ref g, .ref rq1, .ref x]), (rq1, zI G n f)]) H7 := hP
        have hD : va_D (zA M0 H0) ([(q1, zOb 6 [.ref g, .ref rq1, .ref x]), (rq1, zI G n f)]) := hD
        have hS := hS1
        refine z_iast hC hP hD hS 1 (k := k) rfl rfl (by omega) (ws' := [(q1, zOb 6 [.ref g, .ref rq1, .ref x]), (rq1, zI G n (va_up f k ((t * v k) % p)))]) rfl dX7_times_2_47 (fun H8 locs hP hD hS => ?_)
        refine z_iinc (z := ((k + 1 : Nat) : Int)) (lv' := [(3, .int (iI ((k + 1 : Nat) : Int))), (2, .ref q1), (0, .ref a), (1, .int (iI t))]) hx hb dX7_times_2_48 hl (k := 0) rfl (by omega) (by decide) rfl (fun ls hl => ?_)
        refine lv_goto (tgt := 18) hx hb dX7_times_2_51 (by decide) ?_
        exact W.widen (by omega) (by omega) (ihlp4 (n - (k + 1)) (by omega) (k + 1) (va_up f k ((t * v k) % p)) rfl (by omega) (fun j hj => if e : j = k then by subst e; rw [va_up_self]; rfl else by rw [va_up_ne _ _ e]; exact hf j (by omega)) _ _ _  hP hD hS hl)
  exact W.widen (by omega) (by omega) (lp4 _ 0 (fun _ => 0) rfl (Nat.zero_le _) (fun j hj => absurd hj (Nat.not_lt_zero j)) _ _ _  hP hD hS hl)

abbrev rm_m_X7_plus : Room := { frames := 3, cells := 2, slots := 19, locals := 62 }
set_option maxHeartbeats 4000000 in
theorem m_X7_plus {l : Launch} {s0 : State} {G : zG} (hE : zE l s0 G) (H0 : Heap) (hO : zO s0 H0) (x g : Nat) (p : Int) (d n kd : Nat) (dv : Nat → Int) (sg : Nat → Nat → Int) (a r : Nat) (v : Nat → Int) (b s : Nat) (w : Nat → Int) (t : Int) (hA : zAg G x g p d n kd dv sg H0) (h : zEl G x g a r n v H0) (hv : rw_ok p n v) (h2 : zEl G x g b s n w H0) (hw : rw_ok p n w) (ht : -10 ≤ t ∧ t ≤ 10) : zM l s0 yX7_plus cX7_plus 5 (some (FieldType.object "Versorhall$Element")) rm_m_X7_plus [.ref a, .ref b, .int (iI t)] H0 M0 (rr (fun q h1 => ∃ r1, NW G H0 h1 [(q, zOb 6 [.ref g, .ref r1, .ref x]), (r1, zI G n (plV p t v w))])) := by
  refine z_met hE (by decide +kernel) (Nat.le_of_ble_eq_true rfl) ?_
  intro pp ee ss mm args below meth cd Q ls hC hml hrt hlk hnm hH hQ hS hl
  have hx := hC.x
  have hb := hC.b
  have hl : lv_has ls 5 [(0, .ref a), (1, .ref b), (2, .int (iI t))] := hl
  have hP : va_P G.1 zCl [] H0 := va_nil
  have hD : va_D (zA M0 H0) [] := va_nilD
  obtain ⟨la, le, dr, kn, sm, dl, da, ml, so, dm, ro, hx0, hg0, hL0, hso, hro, hfa⟩ := id hA
  obtain ⟨hp, hd4, hn2, hkd, hdv, hsg⟩ := hfa
  obtain ⟨hn16, hp7⟩ := hA.n
  refine z_new hC hP hD hS (c1 := 1) (s1 := 3) (fs := [.null, .null, .null]) (ci := 6) rfl in_X7 tyX7_ok q315 q316 q92 df_X7 ⟨zle (z := 2) rfl (by omega), zle (z := 19) rfl (by omega)⟩ ⟨by omega, by omega⟩ (ws' := fun q1 => [(q1, zOb 6 [.null, .null, .null])]) (fun _ => rfl) dX7_plus_0 (fun q1 H2 hq0q1 hq1q1 hP hD hS hF => ?_)
  refine lv_dup hx hb dX7_plus_3 rfl ?_
  refine lv_aload_n hx hb dX7_plus_4 rfl (lv_at hl 0 rfl) ?_
  refine z_get hC (k := 2) rfl in_X7 (zo hS h.1 id) (by decide) q326 (fun _ h => h) rfl dX7_plus_5 ?_
  refine lv_aload_n hx hb dX7_plus_8 rfl (lv_at hl 0 rfl) ?_
  refine z_get hC (k := 0) rfl in_X7 (zo hS h.1 id) (by decide) q322 (fun _ h => h) rfl dX7_plus_9 ?_
  refine z_go 2 19 (z_runI (As := [.ref x, .ref g]) (rest := [.ref q1]) hC hml hl.1 (m_X7_init hE H2 (hO.ext0 (zS_F hS)) x g p d n kd dv sg q1 (Nat.le_trans hO.1 hq0q1) (hA.ext0 (zS_F hS)) (hP 0 _ rfl)) q319 q92 q317 q318 rfl nd_X7_init rfl rfl (Nat.le_of_ble_eq_true rfl) ⟨Nat.le_of_ble_eq_true rfl, Nat.le_of_ble_eq_true rfl⟩ ⟨zfit (k := 1) (z := 2) rfl rfl (by omega), zfit (k := 16) (z := 19) rfl rfl (by omega)⟩ dX7_plus_12) ⟨zad (k := 1) rfl (by omega), zad (k := 16) rfl (by omega)⟩ hS (fun q z => by subst z; exact hD.2 0 _ rfl) (fun r H3 locs hp hF hS1 => ?_)
  obtain ⟨rfl, rq1, hm, hN⟩ := hp
  obtain ⟨hP, hD⟩ := zjmn hP hD hS.1 hF 0 rfl hm hN
  have hP : va_P G.1 zCl ([(q1, zOb 6 [.ref g, .ref rq1, .ref x]), (rq1, zI G n (fun _ => 0))]) H3 := hP
  have hD : va_D (zA M0 H0) ([(q1, zOb 6 [.ref g, .ref rq1, .ref x]), (rq1, zI G n (fun _ => 0))]) := hD
  have hS := hS1
  refine lv_astore_n (lv' := [(3, .ref q1), (0, .ref a), (1, .ref b), (2, .int (iI t))]) hx hb dX7_plus_15 rfl hl (by decide) rfl (fun ls hl => ?_)
  refine lv_iconst (v := iI 0) hx hb dX7_plus_16 rfl ?_
  refine lv_istore (lv' := [(4, .int (iI 0)), (3, .ref q1), (0, .ref a), (1, .ref b), (2, .int (iI t))]) hx hb dX7_plus_17 hl (by decide) rfl (fun ls hl => ?_)
  have lp4 : ∀ (dlp4 : Nat) (k : Nat) (f : Nat → Int), n - k = dlp4 → (k ≤ n) → (∀ j, j < k → f j = (plV p t v w) j) → ∀ (H5 : Heap) (locs : List Loc) (ls : Array Slot), va_P G.1 zCl ([(q1, zOb 6 [.ref g, .ref rq1, .ref x]), (rq1, zI G n f)]) H5 → va_D (zA M0 H0) ([(q1, zOb 6 [.ref g, .ref rq1, .ref x]), (rq1, zI G n f)]) → va_S (zA M0 H0) H0 H5 locs → lv_has ls 5 [(4, .int (iI ((k : Nat) : Int))), (3, .ref q1), (0, .ref a), (1, .ref b), (2, .int (iI t))] → W pp l ee rm_m_X7_plus ss mm args below meth cd H5 locs 2 19 Q (F0 mm 19 ls []) := by
    intro dlp4
    induction dlp4 using Nat.strongRecOn with
    | ind dlp4 ihlp4 =>
      intro k f hdlp4 hk hf H5 locs ls  hP hD hS hl
      refine lv_iload hx hb dX7_plus_19 (lv_at hl 0 rfl) ?_
      refine lv_aload_n hx hb dX7_plus_21 rfl (lv_at hl 2 rfl) ?_
      refine z_get hC (k := 1) rfl in_X7 (zo hS h.1 id) (by decide) q324 (fun _ h => h) rfl dX7_plus_22 ?_
      refine z_alen hC 0 (zo hS h.2 id) rfl (y := ((n : Nat) : Int)) rfl dX7_plus_25 ?_
      refine z_cge (tgt := 66) hx hb dX7_plus_26 (by decide) (by omega) (fun c6 => ?_) (fun c6 => ?_)
      · refine lv_aload_n hx hb dX7_plus_66 rfl (lv_at hl 1 rfl) ?_
        have hP : va_P G.1 zCl ([(q1, zOb 6 [.ref g, .ref rq1, .ref x]), (rq1, zI G n (plV p t v w))]) H5 := zcI hP 1 rfl (fun j hj => hf j (by omega))
        have hD : va_D (zA M0 H0) ([(q1, zOb 6 [.ref g, .ref rq1, .ref x]), (rq1, zI G n (plV p t v w))]) := hD.set (p := 1) rfl
        exact z_aret hC hrt hlk hQ hS ⟨zle (z := 2) rfl (by omega), zle (z := 19) rfl (by omega)⟩ ⟨_, rfl, _, hP, zdn hD⟩ dX7_plus_67
      · have hvk := hv k (by omega)
        have hwk := hw k (by omega)
        have hb2 : -70 ≤ t * w k ∧ t * w k ≤ 70 := zmulb ht hwk hp7
        refine lv_aload_n hx hb dX7_plus_29 rfl (lv_at hl 1 rfl) ?_
        refine z_get hC (k := 1) rfl in_X7 (hP 0 _ rfl) (by decide) q324 (fun _ h => h) rfl dX7_plus_30 ?_
        refine lv_iload hx hb dX7_plus_33 (lv_at hl 0 rfl) ?_
        refine lv_aload_n hx hb dX7_plus_35 rfl (lv_at hl 2 rfl) ?_
        refine z_get hC (k := 2) rfl in_X7 (zo hS h.1 id) (by decide) q326 (fun _ h => h) rfl dX7_plus_36 ?_
        refine lv_aload_n hx hb dX7_plus_39 rfl (lv_at hl 2 rfl) ?_
        refine z_get hC (k := 1) rfl in_X7 (zo hS h.1 id) (by decide) q324 (fun _ h => h) rfl dX7_plus_40 ?_
        refine lv_iload hx hb dX7_plus_43 (lv_at hl 0 rfl) ?_
        refine z_iald hC (zo hS h.2 id) (k := k) rfl (by omega) (y := v k) rfl dX7_plus_45 ?_
        refine lv_iload_n hx hb dX7_plus_46 rfl (lv_at hl 4 rfl) ?_
        refine lv_aload_n hx hb dX7_plus_47 rfl (lv_at hl 3 rfl) ?_
        refine z_get hC (k := 1) rfl in_X7 (zo hS h2.1 id) (by decide) q324 (fun _ h => h) rfl dX7_plus_48 ?_
        refine lv_iload hx hb dX7_plus_51 (lv_at hl 0 rfl) ?_
        refine z_iald hC (zo hS h2.2 id) (k := k) rfl (by omega) (y := w k) rfl dX7_plus_53 ?_
        refine z_mul hx hb (z := t * (w k)) dX7_plus_54 rfl ?_
        refine z_add hx hb (z := (v k) + (t * (w k))) dX7_plus_55 rfl ?_
        refine z_go 2 19 (z_runVN (As := [.int (iI ((v k) + (t * (w k))))]) (rest := [.int (iI ((k : Nat) : Int)), .ref rq1]) hC hml hl.1 (m_X1_mod hE H5 (hO.ext0 (zS_F hS)) x la le dr p kn sm (v k + t * w k) (zo hS hx0 id) hp7 (by omega)) q355 q62 q352 q354 qs5 nd_X1_mod rfl (z_rv hC (ci := 0) rfl (zo hS hx0 id) rfl) rfl (Nat.le_of_ble_eq_true rfl) ⟨Nat.le_of_ble_eq_true rfl, Nat.le_of_ble_eq_true rfl⟩ ⟨zfit (k := 0) (z := 2) rfl rfl (by omega), zfit (k := 0) (z := 19) rfl rfl (by omega)⟩ dX7_plus_56) ⟨zad (k := 0) rfl (by omega), zad (k := 0) rfl (by omega)⟩ hS (fun _ z => z.elim) (fun r H7 locs hp hF hS1 => ?_)
        obtain ⟨_, rfl, rfl⟩ := hp
        have hP := zpk hP hF
        have hP : va_P G.1 zCl ([(q1, zOb 6 [.ref g, .ref rq1, .ref x]), (rq1, zI G n f)]) H7 := hP
        have hD : va_D (zA M0 H0) ([(q1, zOb 6 [.ref g, .ref rq1, .ref x]), (rq1, zI G n f)]) := hD
        have hS := hS1
        refine z_iast hC hP hD hS 1 (k := k) rfl rfl (by omega) (ws' := [(q1, zOb 6 [.ref g, .ref rq1, .ref x]), (rq1, zI G n (va_up f k ((v k + t * w k) % p)))]) rfl dX7_plus_59 (fun H8 locs hP hD hS => ?_)
        refine z_iinc (z := ((k + 1 : Nat) : Int)) (lv' := [(4, .int (iI ((k + 1 : Nat) : Int))), (3, .ref q1), (0, .ref a), (1, .ref b), (2, .int (iI t))]) hx hb dX7_plus_60 hl (k := 0) rfl (by omega) (by decide) rfl (fun ls hl => ?_)
        refine lv_goto (tgt := 19) hx hb dX7_plus_63 (by decide) ?_
        exact W.widen (by omega) (by omega) (ihlp4 (n - (k + 1)) (by omega) (k + 1) (va_up f k ((v k + t * w k) % p)) rfl (by omega) (fun j hj => if e : j = k then by subst e; rw [va_up_self]; rfl else by rw [va_up_ne _ _ e]; exact hf j (by omega)) _ _ _  hP hD hS hl)
  exact W.widen (by omega) (by omega) (lp4 _ 0 (fun _ => 0) rfl (Nat.zero_le _) (fun j hj => absurd hj (Nat.not_lt_zero j)) _ _ _  hP hD hS hl)

