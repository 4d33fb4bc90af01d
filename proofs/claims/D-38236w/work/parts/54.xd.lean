/-! THE HOUSE: how many there are -/
set_option maxRecDepth 100000
def maV (σ : St) : Nat → Nat
  | 0 => (St_p σ).toNat
  | 1 => St_na σ
  | 2 => St_ne σ
  | 3 => suN (St_n σ) (St_na σ)
  | 4 => suN (plF σ) (St_ne σ)
  | 5 => suN (zeF σ) (St_ne σ)
  | _ => St_kn σ
abbrev rm_m_X1_manyNow_0 : Room := { frames := 0, cells := 0, slots := 0, locals := 0 }
set_option maxHeartbeats 4000000 in
theorem m_X1_manyNow_0 {l : Launch} {s0 : State} {G : zG} (hE : zE l s0 G) (H0 : Heap) (hO : zO s0 H0) (ρ : Ro → Nat) (σ : St) (hh : HC G s0 ρ σ H0) : zM l s0 yX1_manyNow cX1_manyNow 2 (some FieldType.int) rm_m_X1_manyNow_0 [.ref (ρ (0, 0, 0)), .int (iI 0)] H0 M0 (ri (fun y _ => y = (maV σ 0 : Nat))) := by
  refine z_met hE (by decide +kernel) (Nat.le_of_ble_eq_true rfl) ?_
  intro pp ee ss mm args below meth cd Q ls hC hml hrt hlk hnm hH hQ hS hl
  have hx := hC.x
  have hb := hC.b
  have hl : lv_has ls 2 [(0, .ref (ρ (0, 0, 0))), (1, .int (iI 0))] := hl
  have hP : va_P G.1 zCl [] H0 := va_nil
  have hD : va_D (zA M0 H0) [] := va_nilD
  have hH1 := hh
  obtain ⟨hp, hna, hal, hne9, hel9, hmr9⟩ := id hh.ok
  have hp7 : 0 < St_p σ ∧ St_p σ ≤ 7 := by rcases hp with h | h | h <;> rw [h] <;> decide
  obtain ⟨sm9, -⟩ := id hh.2.2.1.1
  obtain ⟨sm, hxx⟩ := id hH1.2.2.1.1
  refine lv_iload_n hx hb dX1_manyNow_0 rfl (lv_at hl 1 rfl) ?_
  refine lv_tableIn (off := 43) (tgt := 44) hx hb dX1_manyNow_1 (by decide) (by decide) rfl (by decide) ?_
  refine lv_aload_n hx hb dX1_manyNow_44 rfl (lv_at hl 0 rfl) ?_
  refine z_get hC (k := 0) rfl in_X1 hxx (by decide) q149 (fun _ h => h) rfl dX1_manyNow_45 ?_
  exact z_iret hC hrt hlk hQ hS ⟨zle (z := 0) rfl (by omega), zle (z := 0) rfl (by omega)⟩ ⟨_, rfl, by show St_p σ = (((St_p σ).toNat : Nat) : Int); omega⟩ dX1_manyNow_48

abbrev rm_m_X1_manyNow_1 : Room := { frames := 1, cells := 0, slots := 0, locals := 20 }
set_option maxHeartbeats 4000000 in
theorem m_X1_manyNow_1 {l : Launch} {s0 : State} {G : zG} (hE : zE l s0 G) (H0 : Heap) (hO : zO s0 H0) (ρ : Ro → Nat) (σ : St) (hh : HC G s0 ρ σ H0) : zM l s0 yX1_manyNow cX1_manyNow 2 (some FieldType.int) rm_m_X1_manyNow_1 [.ref (ρ (0, 0, 0)), .int (iI 1)] H0 M0 (ri (fun y _ => y = (maV σ 1 : Nat))) := by
  refine z_met hE (by decide +kernel) (Nat.le_of_ble_eq_true rfl) ?_
  intro pp ee ss mm args below meth cd Q ls hC hml hrt hlk hnm hH hQ hS hl
  have hx := hC.x
  have hb := hC.b
  have hl : lv_has ls 2 [(0, .ref (ρ (0, 0, 0))), (1, .int (iI 1))] := hl
  have hP : va_P G.1 zCl [] H0 := va_nil
  have hD : va_D (zA M0 H0) [] := va_nilD
  have hH1 := hh
  obtain ⟨hp, hna, hal, hne9, hel9, hmr9⟩ := id hh.ok
  have hp7 : 0 < St_p σ ∧ St_p σ ≤ 7 := by rcases hp with h | h | h <;> rw [h] <;> decide
  obtain ⟨sm9, -⟩ := id hh.2.2.1.1
  obtain ⟨sm, hxx⟩ := id hH1.2.2.1.1
  refine lv_iload_n hx hb dX1_manyNow_0 rfl (lv_at hl 1 rfl) ?_
  refine lv_tableIn (off := 48) (tgt := 49) hx hb dX1_manyNow_1 (by decide) (by decide) rfl (by decide) ?_
  refine lv_aload_n hx hb dX1_manyNow_49 rfl (lv_at hl 0 rfl) ?_
  refine z_get hC (k := 1) rfl in_X1 hxx (by decide) q152 (fun _ h => h) rfl dX1_manyNow_50 ?_
  obtain ⟨md9, hL9⟩ := id hH1.2.2.1.2.1
  refine z_go 0 0 (z_runV (As := []) (rest := []) hC hml hl.1 (m_J2_size hE H0 (hO.ext0 (zS_F hS)) (ρ (1, 0, 0)) (St_na σ) (fun k => ρ (6, k, 0)) (ρ (2, 0, 0)) md9 hL9) (lw_V q229 q230 q231 q65 q232) rfl nd_J2_size rfl (z_rv hC (ci := 8) rfl hL9.1 rfl) rfl (Nat.le_of_ble_eq_true rfl) ⟨Nat.le_of_ble_eq_true rfl, Nat.le_of_ble_eq_true rfl⟩ ⟨zfit (k := 0) (z := 0) rfl rfl (by omega), zfit (k := 0) (z := 0) rfl rfl (by omega)⟩ dX1_manyNow_53) ⟨zad (k := 0) rfl (by omega), zad (k := 0) rfl (by omega)⟩ hS (fun _ z => z.elim) (fun r H1 locs hp hF hS1 => ?_)
  obtain ⟨_, rfl, rfl⟩ := hp
  have hP := zpk hP hF
  have hP : va_P G.1 zCl ([]) H1 := hP
  have hD : va_D (zA M0 H0) ([]) := hD
  have hH1 : HC G s0 ρ σ H1 := hH1.ext0 hE hF
  have hS := hS1
  exact z_iret hC hrt hlk hQ hS ⟨zle (z := 0) rfl (by omega), zle (z := 0) rfl (by omega)⟩ ⟨_, rfl, rfl⟩ dX1_manyNow_56

abbrev rm_m_X1_manyNow_2 : Room := { frames := 1, cells := 0, slots := 0, locals := 20 }
set_option maxHeartbeats 4000000 in
theorem m_X1_manyNow_2 {l : Launch} {s0 : State} {G : zG} (hE : zE l s0 G) (H0 : Heap) (hO : zO s0 H0) (ρ : Ro → Nat) (σ : St) (hh : HC G s0 ρ σ H0) : zM l s0 yX1_manyNow cX1_manyNow 2 (some FieldType.int) rm_m_X1_manyNow_2 [.ref (ρ (0, 0, 0)), .int (iI 2)] H0 M0 (ri (fun y _ => y = (maV σ 2 : Nat))) := by
  refine z_met hE (by decide +kernel) (Nat.le_of_ble_eq_true rfl) ?_
  intro pp ee ss mm args below meth cd Q ls hC hml hrt hlk hnm hH hQ hS hl
  have hx := hC.x
  have hb := hC.b
  have hl : lv_has ls 2 [(0, .ref (ρ (0, 0, 0))), (1, .int (iI 2))] := hl
  have hP : va_P G.1 zCl [] H0 := va_nil
  have hD : va_D (zA M0 H0) [] := va_nilD
  have hH1 := hh
  obtain ⟨hp, hna, hal, hne9, hel9, hmr9⟩ := id hh.ok
  have hp7 : 0 < St_p σ ∧ St_p σ ≤ 7 := by rcases hp with h | h | h <;> rw [h] <;> decide
  obtain ⟨sm9, -⟩ := id hh.2.2.1.1
  obtain ⟨sm, hxx⟩ := id hH1.2.2.1.1
  refine lv_iload_n hx hb dX1_manyNow_0 rfl (lv_at hl 1 rfl) ?_
  refine lv_tableIn (off := 56) (tgt := 57) hx hb dX1_manyNow_1 (by decide) (by decide) rfl (by decide) ?_
  refine lv_aload_n hx hb dX1_manyNow_57 rfl (lv_at hl 0 rfl) ?_
  refine z_get hC (k := 2) rfl in_X1 hxx (by decide) q153 (fun _ h => h) rfl dX1_manyNow_58 ?_
  obtain ⟨md9, hL9⟩ := id hH1.2.2.1.2.2.1
  refine z_go 0 0 (z_runV (As := []) (rest := []) hC hml hl.1 (m_J2_size hE H0 (hO.ext0 (zS_F hS)) (ρ (3, 0, 0)) (St_ne σ) (fun j => ρ (13, j, 0)) (ρ (4, 0, 0)) md9 hL9) (lw_V q229 q230 q231 q65 q232) rfl nd_J2_size rfl (z_rv hC (ci := 8) rfl hL9.1 rfl) rfl (Nat.le_of_ble_eq_true rfl) ⟨Nat.le_of_ble_eq_true rfl, Nat.le_of_ble_eq_true rfl⟩ ⟨zfit (k := 0) (z := 0) rfl rfl (by omega), zfit (k := 0) (z := 0) rfl rfl (by omega)⟩ dX1_manyNow_61) ⟨zad (k := 0) rfl (by omega), zad (k := 0) rfl (by omega)⟩ hS (fun _ z => z.elim) (fun r H1 locs hp hF hS1 => ?_)
  obtain ⟨_, rfl, rfl⟩ := hp
  have hP := zpk hP hF
  have hP : va_P G.1 zCl ([]) H1 := hP
  have hD : va_D (zA M0 H0) ([]) := hD
  have hH1 : HC G s0 ρ σ H1 := hH1.ext0 hE hF
  have hS := hS1
  exact z_iret hC hrt hlk hQ hS ⟨zle (z := 0) rfl (by omega), zle (z := 0) rfl (by omega)⟩ ⟨_, rfl, rfl⟩ dX1_manyNow_64

abbrev rm_m_X1_manyNow_3 : Room := { frames := 4, cells := 1, slots := 4, locals := 84 }
set_option maxHeartbeats 4000000 in
theorem m_X1_manyNow_3 {l : Launch} {s0 : State} {G : zG} (hE : zE l s0 G) (H0 : Heap) (hO : zO s0 H0) (ρ : Ro → Nat) (σ : St) (hh : HC G s0 ρ σ H0) : zM l s0 yX1_manyNow cX1_manyNow 2 (some FieldType.int) rm_m_X1_manyNow_3 [.ref (ρ (0, 0, 0)), .int (iI 3)] H0 M0 (ri (fun y _ => y = (maV σ 3 : Nat))) := by
  refine z_met hE (by decide +kernel) (Nat.le_of_ble_eq_true rfl) ?_
  intro pp ee ss mm args below meth cd Q ls hC hml hrt hlk hnm hH hQ hS hl
  have hx := hC.x
  have hb := hC.b
  have hl : lv_has ls 2 [(0, .ref (ρ (0, 0, 0))), (1, .int (iI 3))] := hl
  have hP : va_P G.1 zCl [] H0 := va_nil
  have hD : va_D (zA M0 H0) [] := va_nilD
  have hH1 := hh
  obtain ⟨hp, hna, hal, hne9, hel9, hmr9⟩ := id hh.ok
  have hp7 : 0 < St_p σ ∧ St_p σ ≤ 7 := by rcases hp with h | h | h <;> rw [h] <;> decide
  obtain ⟨sm9, -⟩ := id hh.2.2.1.1
  obtain ⟨sm, hxx⟩ := id hH1.2.2.1.1
  refine lv_iload_n hx hb dX1_manyNow_0 rfl (lv_at hl 1 rfl) ?_
  refine lv_tableIn (off := 64) (tgt := 65) hx hb dX1_manyNow_1 (by decide) (by decide) rfl (by decide) ?_
  refine lv_aload_n hx hb dX1_manyNow_65 rfl (lv_at hl 0 rfl) ?_
  refine z_go 1 4 (z_runV (As := []) (rest := []) hC hml hl.1 (m_X1_unitsNow hE H0 (hO.ext0 (zS_F hS)) ρ σ hH1) (lw_V q292 q294 qs3 q62 q295) rfl nd_X1_unitsNow rfl (z_rv hC (ci := 0) rfl hxx rfl) rfl (Nat.le_of_ble_eq_true rfl) ⟨Nat.le_of_ble_eq_true rfl, Nat.le_of_ble_eq_true rfl⟩ ⟨zfit (k := 1) (z := 1) rfl rfl (by omega), zfit (k := 4) (z := 4) rfl rfl (by omega)⟩ dX1_manyNow_66) ⟨zad (k := 1) rfl (by omega), zad (k := 4) rfl (by omega)⟩ hS (fun _ z => z.elim) (fun r H1 locs hp hF hS1 => ?_)
  obtain ⟨_, rfl, rfl⟩ := hp
  have hP := zpk hP hF
  have hP : va_P G.1 zCl ([]) H1 := hP
  have hD : va_D (zA M0 H0) ([]) := hD
  have hH1 : HC G s0 ρ σ H1 := hH1.ext0 hE hF
  have hS := hS1
  exact z_iret hC hrt hlk hQ hS ⟨zle (z := 1) rfl (by omega), zle (z := 4) rfl (by omega)⟩ ⟨_, rfl, rfl⟩ dX1_manyNow_69

abbrev rm_m_X1_manyNow_4 : Room := { frames := 4, cells := 60, slots := 700, locals := 85 }
set_option maxHeartbeats 4000000 in
theorem m_X1_manyNow_4 {l : Launch} {s0 : State} {G : zG} (hE : zE l s0 G) (H0 : Heap) (hO : zO s0 H0) (ρ : Ro → Nat) (σ : St) (hh : HC G s0 ρ σ H0) : zM l s0 yX1_manyNow cX1_manyNow 2 (some FieldType.int) rm_m_X1_manyNow_4 [.ref (ρ (0, 0, 0)), .int (iI 4)] H0 M0 (ri (fun y _ => y = (maV σ 4 : Nat))) := by
  refine z_met hE (by decide +kernel) (Nat.le_of_ble_eq_true rfl) ?_
  intro pp ee ss mm args below meth cd Q ls hC hml hrt hlk hnm hH hQ hS hl
  have hx := hC.x
  have hb := hC.b
  have hl : lv_has ls 2 [(0, .ref (ρ (0, 0, 0))), (1, .int (iI 4))] := hl
  have hP : va_P G.1 zCl [] H0 := va_nil
  have hD : va_D (zA M0 H0) [] := va_nilD
  have hH1 := hh
  obtain ⟨hp, hna, hal, hne9, hel9, hmr9⟩ := id hh.ok
  have hp7 : 0 < St_p σ ∧ St_p σ ≤ 7 := by rcases hp with h | h | h <;> rw [h] <;> decide
  obtain ⟨sm9, -⟩ := id hh.2.2.1.1
  obtain ⟨sm, hxx⟩ := id hH1.2.2.1.1
  refine lv_iload_n hx hb dX1_manyNow_0 rfl (lv_at hl 1 rfl) ?_
  refine lv_tableIn (off := 69) (tgt := 70) hx hb dX1_manyNow_1 (by decide) (by decide) rfl (by decide) ?_
  refine lv_aload_n hx hb dX1_manyNow_70 rfl (lv_at hl 0 rfl) ?_
  refine lv_iconst (v := iI 1) hx hb dX1_manyNow_71 rfl ?_
  refine z_go 60 700 (z_runV (As := [.int (iI 1)]) (rest := []) hC hml hl.1 (m_X1_elementsNow_1 hE H0 (hO.ext0 (zS_F hS)) ρ σ hH1) (lw_V q302 q304 qs4 q62 q305) rfl nd_X1_elementsNow rfl (z_rv hC (ci := 0) rfl hxx rfl) rfl (Nat.le_of_ble_eq_true rfl) ⟨Nat.le_of_ble_eq_true rfl, Nat.le_of_ble_eq_true rfl⟩ ⟨zfit (k := 60) (z := 60) rfl rfl (by omega), zfit (k := 700) (z := 700) rfl rfl (by omega)⟩ dX1_manyNow_72) ⟨zad (k := 60) rfl (by omega), zad (k := 700) rfl (by omega)⟩ hS (fun _ z => z.elim) (fun r H1 locs hp hF hS1 => ?_)
  obtain ⟨_, rfl, rfl⟩ := hp
  have hP := zpk hP hF
  have hP : va_P G.1 zCl ([]) H1 := hP
  have hD : va_D (zA M0 H0) ([]) := hD
  have hH1 : HC G s0 ρ σ H1 := hH1.ext0 hE hF
  have hS := hS1
  exact z_iret hC hrt hlk hQ hS ⟨zle (z := 60) rfl (by omega), zle (z := 700) rfl (by omega)⟩ ⟨_, rfl, rfl⟩ dX1_manyNow_75

abbrev rm_m_X1_manyNow_5 : Room := { frames := 6, cells := 60, slots := 700, locals := 130 }
set_option maxHeartbeats 4000000 in
theorem m_X1_manyNow_5 {l : Launch} {s0 : State} {G : zG} (hE : zE l s0 G) (H0 : Heap) (hO : zO s0 H0) (ρ : Ro → Nat) (σ : St) (hh : HC G s0 ρ σ H0) : zM l s0 yX1_manyNow cX1_manyNow 2 (some FieldType.int) rm_m_X1_manyNow_5 [.ref (ρ (0, 0, 0)), .int (iI 5)] H0 M0 (ri (fun y _ => y = (maV σ 5 : Nat))) := by
  refine z_met hE (by decide +kernel) (Nat.le_of_ble_eq_true rfl) ?_
  intro pp ee ss mm args below meth cd Q ls hC hml hrt hlk hnm hH hQ hS hl
  have hx := hC.x
  have hb := hC.b
  have hl : lv_has ls 2 [(0, .ref (ρ (0, 0, 0))), (1, .int (iI 5))] := hl
  have hP : va_P G.1 zCl [] H0 := va_nil
  have hD : va_D (zA M0 H0) [] := va_nilD
  have hH1 := hh
  obtain ⟨hp, hna, hal, hne9, hel9, hmr9⟩ := id hh.ok
  have hp7 : 0 < St_p σ ∧ St_p σ ≤ 7 := by rcases hp with h | h | h <;> rw [h] <;> decide
  obtain ⟨sm9, -⟩ := id hh.2.2.1.1
  obtain ⟨sm, hxx⟩ := id hH1.2.2.1.1
  refine lv_iload_n hx hb dX1_manyNow_0 rfl (lv_at hl 1 rfl) ?_
  refine lv_tableIn (off := 75) (tgt := 76) hx hb dX1_manyNow_1 (by decide) (by decide) rfl (by decide) ?_
  refine lv_aload_n hx hb dX1_manyNow_76 rfl (lv_at hl 0 rfl) ?_
  refine lv_iconst (v := iI 0) hx hb dX1_manyNow_77 rfl ?_
  refine z_go 60 700 (z_runV (As := [.int (iI 0)]) (rest := []) hC hml hl.1 (m_X1_elementsNow_0 hE H0 (hO.ext0 (zS_F hS)) ρ σ hH1) (lw_V q302 q304 qs4 q62 q305) rfl nd_X1_elementsNow rfl (z_rv hC (ci := 0) rfl hxx rfl) rfl (Nat.le_of_ble_eq_true rfl) ⟨Nat.le_of_ble_eq_true rfl, Nat.le_of_ble_eq_true rfl⟩ ⟨zfit (k := 60) (z := 60) rfl rfl (by omega), zfit (k := 700) (z := 700) rfl rfl (by omega)⟩ dX1_manyNow_78) ⟨zad (k := 60) rfl (by omega), zad (k := 700) rfl (by omega)⟩ hS (fun _ z => z.elim) (fun r H1 locs hp hF hS1 => ?_)
  obtain ⟨_, rfl, rfl⟩ := hp
  have hP := zpk hP hF
  have hP : va_P G.1 zCl ([]) H1 := hP
  have hD : va_D (zA M0 H0) ([]) := hD
  have hH1 : HC G s0 ρ σ H1 := hH1.ext0 hE hF
  have hS := hS1
  exact z_iret hC hrt hlk hQ hS ⟨zle (z := 60) rfl (by omega), zle (z := 700) rfl (by omega)⟩ ⟨_, rfl, rfl⟩ dX1_manyNow_81

abbrev rm_m_X1_manyNow_6 : Room := { frames := 0, cells := 0, slots := 0, locals := 0 }
set_option maxHeartbeats 4000000 in
theorem m_X1_manyNow_6 {l : Launch} {s0 : State} {G : zG} (hE : zE l s0 G) (H0 : Heap) (hO : zO s0 H0) (ρ : Ro → Nat) (σ : St) (hh : HC G s0 ρ σ H0) : zM l s0 yX1_manyNow cX1_manyNow 2 (some FieldType.int) rm_m_X1_manyNow_6 [.ref (ρ (0, 0, 0)), .int (iI 6)] H0 M0 (ri (fun y _ => y = (maV σ 6 : Nat))) := by
  refine z_met hE (by decide +kernel) (Nat.le_of_ble_eq_true rfl) ?_
  intro pp ee ss mm args below meth cd Q ls hC hml hrt hlk hnm hH hQ hS hl
  have hx := hC.x
  have hb := hC.b
  have hl : lv_has ls 2 [(0, .ref (ρ (0, 0, 0))), (1, .int (iI 6))] := hl
  have hP : va_P G.1 zCl [] H0 := va_nil
  have hD : va_D (zA M0 H0) [] := va_nilD
  have hH1 := hh
  obtain ⟨hp, hna, hal, hne9, hel9, hmr9⟩ := id hh.ok
  have hp7 : 0 < St_p σ ∧ St_p σ ≤ 7 := by rcases hp with h | h | h <;> rw [h] <;> decide
  obtain ⟨sm9, -⟩ := id hh.2.2.1.1
  obtain ⟨sm, hxx⟩ := id hH1.2.2.1.1
  refine lv_iload_n hx hb dX1_manyNow_0 rfl (lv_at hl 1 rfl) ?_
  refine lv_tableIn (off := 81) (tgt := 82) hx hb dX1_manyNow_1 (by decide) (by decide) rfl (by decide) ?_
  refine lv_aload_n hx hb dX1_manyNow_82 rfl (lv_at hl 0 rfl) ?_
  refine z_get hC (k := 4) rfl in_X1 hxx (by decide) q155 (fun _ h => h) rfl dX1_manyNow_83 ?_
  exact z_iret hC hrt hlk hQ hS ⟨zle (z := 0) rfl (by omega), zle (z := 0) rfl (by omega)⟩ ⟨_, rfl, rfl⟩ dX1_manyNow_86

