/-! THE HOUSE: what one asks of an element by a number -/
set_option maxRecDepth 100000
noncomputable def oeV (σ : St) (a : Nat) : Nat → Int
  | 0 => (St_ea σ a : Nat)
  | 1 => (szV (St_ev σ a) (St_n σ (St_ea σ a)) : Nat)
  | 2 => tmV (St_p σ) (St_n σ (St_ea σ a)) (St_sg σ (St_ea σ a)) (St_ev σ a) (cjV (St_p σ) (St_kd σ (St_ea σ a)) (St_ev σ a)) 0
  | 3 => b2i (paV (St_n σ (St_ea σ a)) (St_ev σ a))
  | 4 => fst (fpP (St_p σ) (St_n σ (St_ea σ a)) (St_sg σ (St_ea σ a)) (St_ev σ a) 1) 60 1
  | 5 => fst (fpP (St_p σ) (St_n σ (St_ea σ a)) (St_sg σ (St_ea σ a)) (St_ev σ a) 0) (St_p σ).toNat 1
  | 6 => b2i (zeV (St_n σ (St_ea σ a)) (plV (St_p σ) (-1) (tmV (St_p σ) (St_n σ (St_ea σ a)) (St_sg σ (St_ea σ a)) (St_ev σ a) (St_ev σ a)) (St_ev σ a)))
  | 7 => sqV (St_p σ) (St_n σ (St_ea σ a)) (St_kd σ (St_ea σ a)) (St_sg σ (St_ea σ a)) (St_ev σ a)
  | 8 => (rkM (St_p σ) (St_n σ (St_ea σ a)) (mxV (St_p σ) (St_ev σ a) (St_sg σ (St_ea σ a)) 1) : Nat)
  | _ => (rkM (St_p σ) (St_n σ (St_ea σ a)) (mxV (St_p σ) (St_ev σ a) (St_sg σ (St_ea σ a)) 0) : Nat)
abbrev rm_m_X1_ofElementNow_0 : Room := { frames := 3, cells := 0, slots := 0, locals := 67 }
set_option maxHeartbeats 4000000 in
theorem m_X1_ofElementNow_0 {l : Launch} {s0 : State} {G : zG} (hE : zE l s0 G) (H0 : Heap) (hO : zO s0 H0) (ρ : Ro → Nat) (σ : St) (a : Nat) (hh : HC G s0 ρ σ H0) (ha : a < St_ne σ) : zM l s0 yX1_ofElementNow cX1_ofElementNow 4 (some FieldType.int) rm_m_X1_ofElementNow_0 [.ref (ρ (0, 0, 0)), .int (iI ((a : Nat) : Int)), .int (iI 0)] H0 M0 (ri (fun y _ => y = oeV σ a 0)) := by
  refine z_met hE (by decide +kernel) (Nat.le_of_ble_eq_true rfl) ?_
  intro pp ee ss mm args below meth cd Q ls hC hml hrt hlk hnm hH hQ hS hl
  have hx := hC.x
  have hb := hC.b
  have hl : lv_has ls 4 [(0, .ref (ρ (0, 0, 0))), (1, .int (iI ((a : Nat) : Int))), (2, .int (iI 0))] := hl
  have hP : va_P G.1 zCl [] H0 := va_nil
  have hD : va_D (zA M0 H0) [] := va_nilD
  have hH1 := hh
  obtain ⟨hp, hna, hal, hne9, hel9, hmr9⟩ := id hh.ok
  have hp7 : 0 < St_p σ ∧ St_p σ ≤ 7 := by rcases hp with h | h | h <;> rw [h] <;> decide
  obtain ⟨sm9, -⟩ := id hh.2.2.1.1
  obtain ⟨sm, hxx⟩ := id hH1.2.2.1.1
  refine lv_aload_n hx hb dX1_ofElementNow_0 rfl (lv_at hl 0 rfl) ?_
  refine z_get hC (k := 2) rfl in_X1 hxx (by decide) q153 (fun _ h => h) rfl dX1_ofElementNow_1 ?_
  refine lv_iload_n hx hb dX1_ofElementNow_4 rfl (lv_at hl 1 rfl) ?_
  obtain ⟨mde, hLe⟩ := id hH1.2.2.1.2.2.1
  refine z_go 0 0 (z_runV (As := [.int (iI ((a : Nat) : Int))]) (rest := []) hC hml hl.1 (m_J2_get hE H0 (hO.ext0 (zS_F hS)) (ρ (3, 0, 0)) (St_ne σ) (fun j => ρ (13, j, 0)) (ρ (4, 0, 0)) mde a hLe ha) (lw_V q372 q373 q374 q65 q375) rfl nd_J2_get rfl (z_rv hC (ci := 8) rfl hLe.1 rfl) rfl (Nat.le_of_ble_eq_true rfl) ⟨Nat.le_of_ble_eq_true rfl, Nat.le_of_ble_eq_true rfl⟩ ⟨zfit (k := 0) (z := 0) rfl rfl (by omega), zfit (k := 0) (z := 0) rfl rfl (by omega)⟩ dX1_ofElementNow_5) ⟨zad (k := 0) rfl (by omega), zad (k := 0) rfl (by omega)⟩ hS (fun _ z => z.elim) (fun r H1 locs hp hF hS1 => ?_)
  obtain ⟨_, rfl, rfl⟩ := hp
  have hP := zpk hP hF
  have hP : va_P G.1 zCl ([]) H1 := hP
  have hD : va_D (zA M0 H0) ([]) := hD
  have hH1 : HC G s0 ρ σ H1 := hH1.ext0 hE hF
  have hS := hS1
  obtain ⟨sm, hxx⟩ := id hH1.2.2.1.1
  have hva := hH1.row (j := a) (by omega)
  have hEa := hH1.el (j := a) (by omega)
  have heaa := hH1.ea (j := a) (by omega)
  obtain ⟨hn16a, -⟩ := (hH1.ag heaa).n
  refine z_cast hC (ci := 6) rfl hEa.1 rfl q220 dX1_ofElementNow_8 ?_
  refine lv_astore_n (lv' := [(3, .ref (ρ (13, a, 0))), (0, .ref (ρ (0, 0, 0))), (1, .int (iI ((a : Nat) : Int))), (2, .int (iI 0))]) hx hb dX1_ofElementNow_11 rfl hl (by decide) rfl (fun ls hl => ?_)
  refine lv_iload_n hx hb dX1_ofElementNow_12 rfl (lv_at hl 3 rfl) ?_
  refine lv_tableIn (off := 47) (tgt := 60) hx hb dX1_ofElementNow_13 (by decide) (by decide) rfl (by decide) ?_
  refine lv_aload_n hx hb dX1_ofElementNow_60 rfl (lv_at hl 1 rfl) ?_
  refine z_get hC (k := 1) rfl in_X1 hxx (by decide) q152 (fun _ h => h) rfl dX1_ofElementNow_61 ?_
  refine lv_aload_n hx hb dX1_ofElementNow_64 rfl (lv_at hl 0 rfl) ?_
  refine z_getn hC (k := 0) rfl in_X7 hEa.1 (by decide) q323 (fun _ h => h) rfl dX1_ofElementNow_65 ?_
  obtain ⟨mda, hLa⟩ := id hH1.2.2.1.2.1
  have hga := (hH1.2.2.2.1 (St_ea σ a) (hH1.ea ha)).1
  obtain ⟨sm, hxx⟩ := id hH1.2.2.1.1
  refine z_go 0 0 (z_runV (As := [.ref (ρ (6, St_ea σ a, 0))]) (rest := []) hC hml hl.1 (m_J2_indexOf hE H1 (hO.ext0 (zS_F hS)) (ρ (1, 0, 0)) (St_na σ) (fun k => ρ (6, k, 0)) (ρ (2, 0, 0)) mda (St_ea σ a) _ hLa (hH1.ea ha) (fun j hj e => by have := hh.sep.2 _ _ (domA 6 j (by omega) hj) (domA 6 _ (by omega) (hh.ea ha)) e (hh.sep.n12 hE (domA 6 j (by omega) hj) (by simp)); simpa using this) hga) (lw_V q455 q456 q457 q65 q458) rfl nd_J2_indexOf rfl (z_rv hC (ci := 8) rfl hLa.1 rfl) rfl (Nat.le_of_ble_eq_true rfl) ⟨Nat.le_of_ble_eq_true rfl, Nat.le_of_ble_eq_true rfl⟩ ⟨zfit (k := 0) (z := 0) rfl rfl (by omega), zfit (k := 0) (z := 0) rfl rfl (by omega)⟩ dX1_ofElementNow_68) ⟨zad (k := 0) rfl (by omega), zad (k := 0) rfl (by omega)⟩ hS (fun _ z => z.elim) (fun r H2 locs hp hF hS1 => ?_)
  obtain ⟨_, rfl, rfl⟩ := hp
  have hP := zpk hP hF
  have hP : va_P G.1 zCl ([]) H2 := hP
  have hD : va_D (zA M0 H0) ([]) := hD
  have hH1 : HC G s0 ρ σ H2 := hH1.ext0 hE hF
  have hS := hS1
  exact z_iret hC hrt hlk hQ hS ⟨zle (z := 0) rfl (by omega), zle (z := 0) rfl (by omega)⟩ ⟨_, rfl, rfl⟩ dX1_ofElementNow_71

abbrev rm_m_X1_ofElementNow_1 : Room := { frames := 3, cells := 0, slots := 0, locals := 64 }
set_option maxHeartbeats 4000000 in
theorem m_X1_ofElementNow_1 {l : Launch} {s0 : State} {G : zG} (hE : zE l s0 G) (H0 : Heap) (hO : zO s0 H0) (ρ : Ro → Nat) (σ : St) (a : Nat) (hh : HC G s0 ρ σ H0) (ha : a < St_ne σ) : zM l s0 yX1_ofElementNow cX1_ofElementNow 4 (some FieldType.int) rm_m_X1_ofElementNow_1 [.ref (ρ (0, 0, 0)), .int (iI ((a : Nat) : Int)), .int (iI 1)] H0 M0 (ri (fun y _ => y = oeV σ a 1)) := by
  refine z_met hE (by decide +kernel) (Nat.le_of_ble_eq_true rfl) ?_
  intro pp ee ss mm args below meth cd Q ls hC hml hrt hlk hnm hH hQ hS hl
  have hx := hC.x
  have hb := hC.b
  have hl : lv_has ls 4 [(0, .ref (ρ (0, 0, 0))), (1, .int (iI ((a : Nat) : Int))), (2, .int (iI 1))] := hl
  have hP : va_P G.1 zCl [] H0 := va_nil
  have hD : va_D (zA M0 H0) [] := va_nilD
  have hH1 := hh
  obtain ⟨hp, hna, hal, hne9, hel9, hmr9⟩ := id hh.ok
  have hp7 : 0 < St_p σ ∧ St_p σ ≤ 7 := by rcases hp with h | h | h <;> rw [h] <;> decide
  obtain ⟨sm9, -⟩ := id hh.2.2.1.1
  obtain ⟨sm, hxx⟩ := id hH1.2.2.1.1
  refine lv_aload_n hx hb dX1_ofElementNow_0 rfl (lv_at hl 0 rfl) ?_
  refine z_get hC (k := 2) rfl in_X1 hxx (by decide) q153 (fun _ h => h) rfl dX1_ofElementNow_1 ?_
  refine lv_iload_n hx hb dX1_ofElementNow_4 rfl (lv_at hl 1 rfl) ?_
  obtain ⟨mde, hLe⟩ := id hH1.2.2.1.2.2.1
  refine z_go 0 0 (z_runV (As := [.int (iI ((a : Nat) : Int))]) (rest := []) hC hml hl.1 (m_J2_get hE H0 (hO.ext0 (zS_F hS)) (ρ (3, 0, 0)) (St_ne σ) (fun j => ρ (13, j, 0)) (ρ (4, 0, 0)) mde a hLe ha) (lw_V q372 q373 q374 q65 q375) rfl nd_J2_get rfl (z_rv hC (ci := 8) rfl hLe.1 rfl) rfl (Nat.le_of_ble_eq_true rfl) ⟨Nat.le_of_ble_eq_true rfl, Nat.le_of_ble_eq_true rfl⟩ ⟨zfit (k := 0) (z := 0) rfl rfl (by omega), zfit (k := 0) (z := 0) rfl rfl (by omega)⟩ dX1_ofElementNow_5) ⟨zad (k := 0) rfl (by omega), zad (k := 0) rfl (by omega)⟩ hS (fun _ z => z.elim) (fun r H1 locs hp hF hS1 => ?_)
  obtain ⟨_, rfl, rfl⟩ := hp
  have hP := zpk hP hF
  have hP : va_P G.1 zCl ([]) H1 := hP
  have hD : va_D (zA M0 H0) ([]) := hD
  have hH1 : HC G s0 ρ σ H1 := hH1.ext0 hE hF
  have hS := hS1
  obtain ⟨sm, hxx⟩ := id hH1.2.2.1.1
  have hva := hH1.row (j := a) (by omega)
  have hEa := hH1.el (j := a) (by omega)
  have heaa := hH1.ea (j := a) (by omega)
  obtain ⟨hn16a, -⟩ := (hH1.ag heaa).n
  refine z_cast hC (ci := 6) rfl hEa.1 rfl q220 dX1_ofElementNow_8 ?_
  refine lv_astore_n (lv' := [(3, .ref (ρ (13, a, 0))), (0, .ref (ρ (0, 0, 0))), (1, .int (iI ((a : Nat) : Int))), (2, .int (iI 1))]) hx hb dX1_ofElementNow_11 rfl hl (by decide) rfl (fun ls hl => ?_)
  refine lv_iload_n hx hb dX1_ofElementNow_12 rfl (lv_at hl 3 rfl) ?_
  refine lv_tableIn (off := 59) (tgt := 72) hx hb dX1_ofElementNow_13 (by decide) (by decide) rfl (by decide) ?_
  refine lv_aload_n hx hb dX1_ofElementNow_72 rfl (lv_at hl 0 rfl) ?_
  refine z_go 0 0 (z_runV (As := []) (rest := []) hC hml hl.1 (m_X7_size hE H1 (hO.ext0 (zS_F hS)) (ρ (0, 0, 0)) (ρ (6, St_ea σ a, 0)) (St_p σ) (St_d σ (St_ea σ a)) (St_n σ (St_ea σ a)) (St_kd σ (St_ea σ a)) (St_dv σ (St_ea σ a)) (St_sg σ (St_ea σ a)) (ρ (13, a, 0)) (ρ (14, a, 0)) (St_ev σ a)  (hH1.ag (hH1.ea (j := a) (by omega))) (hH1.el (j := a) (by omega)) hva ) (lw_V q221 q222 q223 q92 q224) rfl nd_X7_size rfl (z_rv hC (ci := 6) rfl hEa.1 rfl) rfl (Nat.le_of_ble_eq_true rfl) ⟨Nat.le_of_ble_eq_true rfl, Nat.le_of_ble_eq_true rfl⟩ ⟨zfit (k := 0) (z := 0) rfl rfl (by omega), zfit (k := 0) (z := 0) rfl rfl (by omega)⟩ dX1_ofElementNow_73) ⟨zad (k := 0) rfl (by omega), zad (k := 0) rfl (by omega)⟩ hS (fun _ z => z.elim) (fun r H2 locs hp hF hS1 => ?_)
  obtain ⟨_, rfl, rfl⟩ := hp
  have hP := zpk hP hF
  have hP : va_P G.1 zCl ([]) H2 := hP
  have hD : va_D (zA M0 H0) ([]) := hD
  have hH1 : HC G s0 ρ σ H2 := hH1.ext0 hE hF
  have hS := hS1
  exact z_iret hC hrt hlk hQ hS ⟨zle (z := 0) rfl (by omega), zle (z := 0) rfl (by omega)⟩ ⟨_, rfl, rfl⟩ dX1_ofElementNow_76

abbrev rm_m_X1_ofElementNow_2 : Room := { frames := 5, cells := 4, slots := 38, locals := 106 }
set_option maxHeartbeats 4000000 in
theorem m_X1_ofElementNow_2 {l : Launch} {s0 : State} {G : zG} (hE : zE l s0 G) (H0 : Heap) (hO : zO s0 H0) (ρ : Ro → Nat) (σ : St) (a : Nat) (hh : HC G s0 ρ σ H0) (ha : a < St_ne σ) : zM l s0 yX1_ofElementNow cX1_ofElementNow 4 (some FieldType.int) rm_m_X1_ofElementNow_2 [.ref (ρ (0, 0, 0)), .int (iI ((a : Nat) : Int)), .int (iI 2)] H0 M0 (ri (fun y _ => y = oeV σ a 2)) := by
  refine z_met hE (by decide +kernel) (Nat.le_of_ble_eq_true rfl) ?_
  intro pp ee ss mm args below meth cd Q ls hC hml hrt hlk hnm hH hQ hS hl
  have hx := hC.x
  have hb := hC.b
  have hl : lv_has ls 4 [(0, .ref (ρ (0, 0, 0))), (1, .int (iI ((a : Nat) : Int))), (2, .int (iI 2))] := hl
  have hP : va_P G.1 zCl [] H0 := va_nil
  have hD : va_D (zA M0 H0) [] := va_nilD
  have hH1 := hh
  obtain ⟨hp, hna, hal, hne9, hel9, hmr9⟩ := id hh.ok
  have hp7 : 0 < St_p σ ∧ St_p σ ≤ 7 := by rcases hp with h | h | h <;> rw [h] <;> decide
  obtain ⟨sm9, -⟩ := id hh.2.2.1.1
  obtain ⟨sm, hxx⟩ := id hH1.2.2.1.1
  refine lv_aload_n hx hb dX1_ofElementNow_0 rfl (lv_at hl 0 rfl) ?_
  refine z_get hC (k := 2) rfl in_X1 hxx (by decide) q153 (fun _ h => h) rfl dX1_ofElementNow_1 ?_
  refine lv_iload_n hx hb dX1_ofElementNow_4 rfl (lv_at hl 1 rfl) ?_
  obtain ⟨mde, hLe⟩ := id hH1.2.2.1.2.2.1
  refine z_go 0 0 (z_runV (As := [.int (iI ((a : Nat) : Int))]) (rest := []) hC hml hl.1 (m_J2_get hE H0 (hO.ext0 (zS_F hS)) (ρ (3, 0, 0)) (St_ne σ) (fun j => ρ (13, j, 0)) (ρ (4, 0, 0)) mde a hLe ha) (lw_V q372 q373 q374 q65 q375) rfl nd_J2_get rfl (z_rv hC (ci := 8) rfl hLe.1 rfl) rfl (Nat.le_of_ble_eq_true rfl) ⟨Nat.le_of_ble_eq_true rfl, Nat.le_of_ble_eq_true rfl⟩ ⟨zfit (k := 0) (z := 4) rfl rfl (by omega), zfit (k := 0) (z := 38) rfl rfl (by omega)⟩ dX1_ofElementNow_5) ⟨zad (k := 0) rfl (by omega), zad (k := 0) rfl (by omega)⟩ hS (fun _ z => z.elim) (fun r H1 locs hp hF hS1 => ?_)
  obtain ⟨_, rfl, rfl⟩ := hp
  have hP := zpk hP hF
  have hP : va_P G.1 zCl ([]) H1 := hP
  have hD : va_D (zA M0 H0) ([]) := hD
  have hH1 : HC G s0 ρ σ H1 := hH1.ext0 hE hF
  have hS := hS1
  obtain ⟨sm, hxx⟩ := id hH1.2.2.1.1
  have hva := hH1.row (j := a) (by omega)
  have hEa := hH1.el (j := a) (by omega)
  have heaa := hH1.ea (j := a) (by omega)
  obtain ⟨hn16a, -⟩ := (hH1.ag heaa).n
  refine z_cast hC (ci := 6) rfl hEa.1 rfl q220 dX1_ofElementNow_8 ?_
  refine lv_astore_n (lv' := [(3, .ref (ρ (13, a, 0))), (0, .ref (ρ (0, 0, 0))), (1, .int (iI ((a : Nat) : Int))), (2, .int (iI 2))]) hx hb dX1_ofElementNow_11 rfl hl (by decide) rfl (fun ls hl => ?_)
  refine lv_iload_n hx hb dX1_ofElementNow_12 rfl (lv_at hl 3 rfl) ?_
  refine lv_tableIn (off := 64) (tgt := 77) hx hb dX1_ofElementNow_13 (by decide) (by decide) rfl (by decide) ?_
  refine lv_aload_n hx hb dX1_ofElementNow_77 rfl (lv_at hl 0 rfl) ?_
  refine z_go 4 38 (z_runV (As := []) (rest := []) hC hml hl.1 (m_X7_norm hE H1 (hO.ext0 (zS_F hS)) (ρ (0, 0, 0)) (ρ (6, St_ea σ a, 0)) (St_p σ) (St_d σ (St_ea σ a)) (St_n σ (St_ea σ a)) (St_kd σ (St_ea σ a)) (St_dv σ (St_ea σ a)) (St_sg σ (St_ea σ a)) (ρ (13, a, 0)) (ρ (14, a, 0)) (St_ev σ a)  (hH1.ag (hH1.ea (j := a) (by omega))) (hH1.el (j := a) (by omega)) hva ) (lw_V q307 q308 q309 q92 q310) rfl nd_X7_norm rfl (z_rv hC (ci := 6) rfl hEa.1 rfl) rfl (Nat.le_of_ble_eq_true rfl) ⟨Nat.le_of_ble_eq_true rfl, Nat.le_of_ble_eq_true rfl⟩ ⟨zfit (k := 4) (z := 4) rfl rfl (by omega), zfit (k := 38) (z := 38) rfl rfl (by omega)⟩ dX1_ofElementNow_78) ⟨zad (k := 4) rfl (by omega), zad (k := 38) rfl (by omega)⟩ hS (fun _ z => z.elim) (fun r H2 locs hp hF hS1 => ?_)
  obtain ⟨_, rfl, rfl⟩ := hp
  have hP := zpk hP hF
  have hP : va_P G.1 zCl ([]) H2 := hP
  have hD : va_D (zA M0 H0) ([]) := hD
  have hH1 : HC G s0 ρ σ H2 := hH1.ext0 hE hF
  have hS := hS1
  exact z_iret hC hrt hlk hQ hS ⟨zle (z := 4) rfl (by omega), zle (z := 38) rfl (by omega)⟩ ⟨_, rfl, rfl⟩ dX1_ofElementNow_81

abbrev rm_m_X1_ofElementNow_3 : Room := { frames := 3, cells := 0, slots := 0, locals := 64 }
set_option maxHeartbeats 4000000 in
theorem m_X1_ofElementNow_3 {l : Launch} {s0 : State} {G : zG} (hE : zE l s0 G) (H0 : Heap) (hO : zO s0 H0) (ρ : Ro → Nat) (σ : St) (a : Nat) (hh : HC G s0 ρ σ H0) (ha : a < St_ne σ) : zM l s0 yX1_ofElementNow cX1_ofElementNow 4 (some FieldType.int) rm_m_X1_ofElementNow_3 [.ref (ρ (0, 0, 0)), .int (iI ((a : Nat) : Int)), .int (iI 3)] H0 M0 (ri (fun y _ => y = oeV σ a 3)) := by
  refine z_met hE (by decide +kernel) (Nat.le_of_ble_eq_true rfl) ?_
  intro pp ee ss mm args below meth cd Q ls hC hml hrt hlk hnm hH hQ hS hl
  have hx := hC.x
  have hb := hC.b
  have hl : lv_has ls 4 [(0, .ref (ρ (0, 0, 0))), (1, .int (iI ((a : Nat) : Int))), (2, .int (iI 3))] := hl
  have hP : va_P G.1 zCl [] H0 := va_nil
  have hD : va_D (zA M0 H0) [] := va_nilD
  have hH1 := hh
  obtain ⟨hp, hna, hal, hne9, hel9, hmr9⟩ := id hh.ok
  have hp7 : 0 < St_p σ ∧ St_p σ ≤ 7 := by rcases hp with h | h | h <;> rw [h] <;> decide
  obtain ⟨sm9, -⟩ := id hh.2.2.1.1
  obtain ⟨sm, hxx⟩ := id hH1.2.2.1.1
  refine lv_aload_n hx hb dX1_ofElementNow_0 rfl (lv_at hl 0 rfl) ?_
  refine z_get hC (k := 2) rfl in_X1 hxx (by decide) q153 (fun _ h => h) rfl dX1_ofElementNow_1 ?_
  refine lv_iload_n hx hb dX1_ofElementNow_4 rfl (lv_at hl 1 rfl) ?_
  obtain ⟨mde, hLe⟩ := id hH1.2.2.1.2.2.1
  refine z_go 0 0 (z_runV (As := [.int (iI ((a : Nat) : Int))]) (rest := []) hC hml hl.1 (m_J2_get hE H0 (hO.ext0 (zS_F hS)) (ρ (3, 0, 0)) (St_ne σ) (fun j => ρ (13, j, 0)) (ρ (4, 0, 0)) mde a hLe ha) (lw_V q372 q373 q374 q65 q375) rfl nd_J2_get rfl (z_rv hC (ci := 8) rfl hLe.1 rfl) rfl (Nat.le_of_ble_eq_true rfl) ⟨Nat.le_of_ble_eq_true rfl, Nat.le_of_ble_eq_true rfl⟩ ⟨zfit (k := 0) (z := 0) rfl rfl (by omega), zfit (k := 0) (z := 0) rfl rfl (by omega)⟩ dX1_ofElementNow_5) ⟨zad (k := 0) rfl (by omega), zad (k := 0) rfl (by omega)⟩ hS (fun _ z => z.elim) (fun r H1 locs hp hF hS1 => ?_)
  obtain ⟨_, rfl, rfl⟩ := hp
  have hP := zpk hP hF
  have hP : va_P G.1 zCl ([]) H1 := hP
  have hD : va_D (zA M0 H0) ([]) := hD
  have hH1 : HC G s0 ρ σ H1 := hH1.ext0 hE hF
  have hS := hS1
  obtain ⟨sm, hxx⟩ := id hH1.2.2.1.1
  have hva := hH1.row (j := a) (by omega)
  have hEa := hH1.el (j := a) (by omega)
  have heaa := hH1.ea (j := a) (by omega)
  obtain ⟨hn16a, -⟩ := (hH1.ag heaa).n
  refine z_cast hC (ci := 6) rfl hEa.1 rfl q220 dX1_ofElementNow_8 ?_
  refine lv_astore_n (lv' := [(3, .ref (ρ (13, a, 0))), (0, .ref (ρ (0, 0, 0))), (1, .int (iI ((a : Nat) : Int))), (2, .int (iI 3))]) hx hb dX1_ofElementNow_11 rfl hl (by decide) rfl (fun ls hl => ?_)
  refine lv_iload_n hx hb dX1_ofElementNow_12 rfl (lv_at hl 3 rfl) ?_
  refine lv_tableIn (off := 69) (tgt := 82) hx hb dX1_ofElementNow_13 (by decide) (by decide) rfl (by decide) ?_
  refine lv_aload_n hx hb dX1_ofElementNow_82 rfl (lv_at hl 0 rfl) ?_
  refine z_go 0 0 (z_runV (As := []) (rest := []) hC hml hl.1 (m_X7_isPlain hE H1 (hO.ext0 (zS_F hS)) (ρ (0, 0, 0)) (ρ (6, St_ea σ a, 0)) (St_p σ) (St_d σ (St_ea σ a)) (St_n σ (St_ea σ a)) (St_kd σ (St_ea σ a)) (St_dv σ (St_ea σ a)) (St_sg σ (St_ea σ a)) (ρ (13, a, 0)) (ρ (14, a, 0)) (St_ev σ a)  (hH1.ag (hH1.ea (j := a) (by omega))) (hH1.el (j := a) (by omega)) hva ) (lw_V q306 q258 q259 q92 q260) rfl nd_X7_isPlain rfl (z_rv hC (ci := 6) rfl hEa.1 rfl) rfl (Nat.le_of_ble_eq_true rfl) ⟨Nat.le_of_ble_eq_true rfl, Nat.le_of_ble_eq_true rfl⟩ ⟨zfit (k := 0) (z := 0) rfl rfl (by omega), zfit (k := 0) (z := 0) rfl rfl (by omega)⟩ dX1_ofElementNow_83) ⟨zad (k := 0) rfl (by omega), zad (k := 0) rfl (by omega)⟩ hS (fun _ z => z.elim) (fun r H2 locs hp hF hS1 => ?_)
  obtain ⟨_, rfl, rfl⟩ := hp
  have hP := zpk hP hF
  have hP : va_P G.1 zCl ([]) H2 := hP
  have hD : va_D (zA M0 H0) ([]) := hD
  have hH1 : HC G s0 ρ σ H2 := hH1.ext0 hE hF
  have hS := hS1
  refine z_zeq (tgt := 93) hx hb dX1_ofElementNow_86 (by decide) (by unfold b2i; split <;> omega) (fun cz => ?_) (fun cz => ?_)
  · refine lv_iconst (v := iI 0) hx hb dX1_ofElementNow_93 rfl ?_
    exact z_iret hC hrt hlk hQ hS ⟨zle (z := 0) rfl (by omega), zle (z := 0) rfl (by omega)⟩ ⟨_, rfl, by show (0 : Int) = b2i _; rw [b2i_z cz]; rfl⟩ dX1_ofElementNow_94
  · refine lv_iconst (v := iI 1) hx hb dX1_ofElementNow_89 rfl ?_
    refine lv_goto (tgt := 94) hx hb dX1_ofElementNow_90 (by decide) ?_
    exact z_iret hC hrt hlk hQ hS ⟨zle (z := 0) rfl (by omega), zle (z := 0) rfl (by omega)⟩ ⟨_, rfl, by show (1 : Int) = b2i _; rw [b2i_nz cz]; rfl⟩ dX1_ofElementNow_94

abbrev rm_m_X1_ofElementNow_4 : Room := { frames := 5, cells := 124, slots := 1220, locals := 110 }
set_option maxHeartbeats 4000000 in
theorem m_X1_ofElementNow_4 {l : Launch} {s0 : State} {G : zG} (hE : zE l s0 G) (H0 : Heap) (hO : zO s0 H0) (ρ : Ro → Nat) (σ : St) (a : Nat) (hh : HC G s0 ρ σ H0) (ha : a < St_ne σ) : zM l s0 yX1_ofElementNow cX1_ofElementNow 4 (some FieldType.int) rm_m_X1_ofElementNow_4 [.ref (ρ (0, 0, 0)), .int (iI ((a : Nat) : Int)), .int (iI 4)] H0 M0 (ri (fun y _ => y = oeV σ a 4)) := by
  refine z_met hE (by decide +kernel) (Nat.le_of_ble_eq_true rfl) ?_
  intro pp ee ss mm args below meth cd Q ls hC hml hrt hlk hnm hH hQ hS hl
  have hx := hC.x
  have hb := hC.b
  have hl : lv_has ls 4 [(0, .ref (ρ (0, 0, 0))), (1, .int (iI ((a : Nat) : Int))), (2, .int (iI 4))] := hl
  have hP : va_P G.1 zCl [] H0 := va_nil
  have hD : va_D (zA M0 H0) [] := va_nilD
  have hH1 := hh
  obtain ⟨hp, hna, hal, hne9, hel9, hmr9⟩ := id hh.ok
  have hp7 : 0 < St_p σ ∧ St_p σ ≤ 7 := by rcases hp with h | h | h <;> rw [h] <;> decide
  obtain ⟨sm9, -⟩ := id hh.2.2.1.1
  obtain ⟨sm, hxx⟩ := id hH1.2.2.1.1
  refine lv_aload_n hx hb dX1_ofElementNow_0 rfl (lv_at hl 0 rfl) ?_
  refine z_get hC (k := 2) rfl in_X1 hxx (by decide) q153 (fun _ h => h) rfl dX1_ofElementNow_1 ?_
  refine lv_iload_n hx hb dX1_ofElementNow_4 rfl (lv_at hl 1 rfl) ?_
  obtain ⟨mde, hLe⟩ := id hH1.2.2.1.2.2.1
  refine z_go 0 0 (z_runV (As := [.int (iI ((a : Nat) : Int))]) (rest := []) hC hml hl.1 (m_J2_get hE H0 (hO.ext0 (zS_F hS)) (ρ (3, 0, 0)) (St_ne σ) (fun j => ρ (13, j, 0)) (ρ (4, 0, 0)) mde a hLe ha) (lw_V q372 q373 q374 q65 q375) rfl nd_J2_get rfl (z_rv hC (ci := 8) rfl hLe.1 rfl) rfl (Nat.le_of_ble_eq_true rfl) ⟨Nat.le_of_ble_eq_true rfl, Nat.le_of_ble_eq_true rfl⟩ ⟨zfit (k := 0) (z := 124) rfl rfl (by omega), zfit (k := 0) (z := 1220) rfl rfl (by omega)⟩ dX1_ofElementNow_5) ⟨zad (k := 0) rfl (by omega), zad (k := 0) rfl (by omega)⟩ hS (fun _ z => z.elim) (fun r H1 locs hp hF hS1 => ?_)
  obtain ⟨_, rfl, rfl⟩ := hp
  have hP := zpk hP hF
  have hP : va_P G.1 zCl ([]) H1 := hP
  have hD : va_D (zA M0 H0) ([]) := hD
  have hH1 : HC G s0 ρ σ H1 := hH1.ext0 hE hF
  have hS := hS1
  obtain ⟨sm, hxx⟩ := id hH1.2.2.1.1
  have hva := hH1.row (j := a) (by omega)
  have hEa := hH1.el (j := a) (by omega)
  have heaa := hH1.ea (j := a) (by omega)
  obtain ⟨hn16a, -⟩ := (hH1.ag heaa).n
  refine z_cast hC (ci := 6) rfl hEa.1 rfl q220 dX1_ofElementNow_8 ?_
  refine lv_astore_n (lv' := [(3, .ref (ρ (13, a, 0))), (0, .ref (ρ (0, 0, 0))), (1, .int (iI ((a : Nat) : Int))), (2, .int (iI 4))]) hx hb dX1_ofElementNow_11 rfl hl (by decide) rfl (fun ls hl => ?_)
  refine lv_iload_n hx hb dX1_ofElementNow_12 rfl (lv_at hl 3 rfl) ?_
  refine lv_tableIn (off := 82) (tgt := 95) hx hb dX1_ofElementNow_13 (by decide) (by decide) rfl (by decide) ?_
  refine lv_aload_n hx hb dX1_ofElementNow_95 rfl (lv_at hl 0 rfl) ?_
  refine lv_bipush (v := iI 60) hx hb dX1_ofElementNow_96 (by decide) ?_
  refine lv_iconst (v := iI 1) hx hb dX1_ofElementNow_98 rfl ?_
  refine z_go 124 1220 (z_runV (As := [.int (iI 60), .int (iI 1)]) (rest := []) hC hml hl.1 (m_X7_firstPower hE H1 (hO.ext0 (zS_F hS)) (ρ (0, 0, 0)) (ρ (6, St_ea σ a, 0)) (St_p σ) (St_d σ (St_ea σ a)) (St_n σ (St_ea σ a)) (St_kd σ (St_ea σ a)) (St_dv σ (St_ea σ a)) (St_sg σ (St_ea σ a)) (ρ (13, a, 0)) (ρ (14, a, 0)) (St_ev σ a) 60 1 (hH1.ag (hH1.ea (j := a) (by omega))) (hH1.el (j := a) (by omega)) hva (by decide) (by decide)) (lw_V q500 q501 q502 q92 q503) rfl nd_X7_firstPower rfl (z_rv hC (ci := 6) rfl hEa.1 rfl) rfl (Nat.le_of_ble_eq_true rfl) ⟨Nat.le_of_ble_eq_true rfl, Nat.le_of_ble_eq_true rfl⟩ ⟨zfit (k := 124) (z := 124) rfl rfl (by omega), zfit (k := 1220) (z := 1220) rfl rfl (by omega)⟩ dX1_ofElementNow_99) ⟨zad (k := 124) rfl (by omega), zad (k := 1220) rfl (by omega)⟩ hS (fun _ z => z.elim) (fun r H2 locs hp hF hS1 => ?_)
  obtain ⟨_, rfl, rfl⟩ := hp
  have hP := zpk hP hF
  have hP : va_P G.1 zCl ([]) H2 := hP
  have hD : va_D (zA M0 H0) ([]) := hD
  have hH1 : HC G s0 ρ σ H2 := hH1.ext0 hE hF
  have hS := hS1
  exact z_iret hC hrt hlk hQ hS ⟨zle (z := 124) rfl (by omega), zle (z := 1220) rfl (by omega)⟩ ⟨_, rfl, rfl⟩ dX1_ofElementNow_102

abbrev rm_m_X1_ofElementNow_5 : Room := { frames := 5, cells := 124, slots := 1220, locals := 110 }
set_option maxHeartbeats 4000000 in
theorem m_X1_ofElementNow_5 {l : Launch} {s0 : State} {G : zG} (hE : zE l s0 G) (H0 : Heap) (hO : zO s0 H0) (ρ : Ro → Nat) (σ : St) (a : Nat) (hh : HC G s0 ρ σ H0) (ha : a < St_ne σ) : zM l s0 yX1_ofElementNow cX1_ofElementNow 4 (some FieldType.int) rm_m_X1_ofElementNow_5 [.ref (ρ (0, 0, 0)), .int (iI ((a : Nat) : Int)), .int (iI 5)] H0 M0 (ri (fun y _ => y = oeV σ a 5)) := by
  refine z_met hE (by decide +kernel) (Nat.le_of_ble_eq_true rfl) ?_
  intro pp ee ss mm args below meth cd Q ls hC hml hrt hlk hnm hH hQ hS hl
  have hx := hC.x
  have hb := hC.b
  have hl : lv_has ls 4 [(0, .ref (ρ (0, 0, 0))), (1, .int (iI ((a : Nat) : Int))), (2, .int (iI 5))] := hl
  have hP : va_P G.1 zCl [] H0 := va_nil
  have hD : va_D (zA M0 H0) [] := va_nilD
  have hH1 := hh
  obtain ⟨hp, hna, hal, hne9, hel9, hmr9⟩ := id hh.ok
  have hp7 : 0 < St_p σ ∧ St_p σ ≤ 7 := by rcases hp with h | h | h <;> rw [h] <;> decide
  obtain ⟨sm9, -⟩ := id hh.2.2.1.1
  obtain ⟨sm, hxx⟩ := id hH1.2.2.1.1
  refine lv_aload_n hx hb dX1_ofElementNow_0 rfl (lv_at hl 0 rfl) ?_
  refine z_get hC (k := 2) rfl in_X1 hxx (by decide) q153 (fun _ h => h) rfl dX1_ofElementNow_1 ?_
  refine lv_iload_n hx hb dX1_ofElementNow_4 rfl (lv_at hl 1 rfl) ?_
  obtain ⟨mde, hLe⟩ := id hH1.2.2.1.2.2.1
  refine z_go 0 0 (z_runV (As := [.int (iI ((a : Nat) : Int))]) (rest := []) hC hml hl.1 (m_J2_get hE H0 (hO.ext0 (zS_F hS)) (ρ (3, 0, 0)) (St_ne σ) (fun j => ρ (13, j, 0)) (ρ (4, 0, 0)) mde a hLe ha) (lw_V q372 q373 q374 q65 q375) rfl nd_J2_get rfl (z_rv hC (ci := 8) rfl hLe.1 rfl) rfl (Nat.le_of_ble_eq_true rfl) ⟨Nat.le_of_ble_eq_true rfl, Nat.le_of_ble_eq_true rfl⟩ ⟨zfit (k := 0) (z := 124) rfl rfl (by omega), zfit (k := 0) (z := 1220) rfl rfl (by omega)⟩ dX1_ofElementNow_5) ⟨zad (k := 0) rfl (by omega), zad (k := 0) rfl (by omega)⟩ hS (fun _ z => z.elim) (fun r H1 locs hp hF hS1 => ?_)
  obtain ⟨_, rfl, rfl⟩ := hp
  have hP := zpk hP hF
  have hP : va_P G.1 zCl ([]) H1 := hP
  have hD : va_D (zA M0 H0) ([]) := hD
  have hH1 : HC G s0 ρ σ H1 := hH1.ext0 hE hF
  have hS := hS1
  obtain ⟨sm, hxx⟩ := id hH1.2.2.1.1
  have hva := hH1.row (j := a) (by omega)
  have hEa := hH1.el (j := a) (by omega)
  have heaa := hH1.ea (j := a) (by omega)
  obtain ⟨hn16a, -⟩ := (hH1.ag heaa).n
  refine z_cast hC (ci := 6) rfl hEa.1 rfl q220 dX1_ofElementNow_8 ?_
  refine lv_astore_n (lv' := [(3, .ref (ρ (13, a, 0))), (0, .ref (ρ (0, 0, 0))), (1, .int (iI ((a : Nat) : Int))), (2, .int (iI 5))]) hx hb dX1_ofElementNow_11 rfl hl (by decide) rfl (fun ls hl => ?_)
  refine lv_iload_n hx hb dX1_ofElementNow_12 rfl (lv_at hl 3 rfl) ?_
  refine lv_tableIn (off := 90) (tgt := 103) hx hb dX1_ofElementNow_13 (by decide) (by decide) rfl (by decide) ?_
  refine lv_aload_n hx hb dX1_ofElementNow_103 rfl (lv_at hl 0 rfl) ?_
  refine lv_aload_n hx hb dX1_ofElementNow_104 rfl (lv_at hl 1 rfl) ?_
  refine z_get hC (k := 0) rfl in_X1 hxx (by decide) q149 (fun _ h => h) rfl dX1_ofElementNow_105 ?_
  refine z_top (b := (((St_p σ).toNat : Nat) : Int)) (by omega) ?_
  refine lv_iconst (v := iI 0) hx hb dX1_ofElementNow_108 rfl ?_
  refine z_go 124 1220 (z_runV (As := [.int (iI (((St_p σ).toNat : Nat) : Int)), .int (iI 0)]) (rest := []) hC hml hl.1 (m_X7_firstPower hE H1 (hO.ext0 (zS_F hS)) (ρ (0, 0, 0)) (ρ (6, St_ea σ a, 0)) (St_p σ) (St_d σ (St_ea σ a)) (St_n σ (St_ea σ a)) (St_kd σ (St_ea σ a)) (St_dv σ (St_ea σ a)) (St_sg σ (St_ea σ a)) (ρ (13, a, 0)) (ρ (14, a, 0)) (St_ev σ a) (St_p σ).toNat 0 (hH1.ag (hH1.ea (j := a) (by omega))) (hH1.el (j := a) (by omega)) hva (by omega) (by decide)) (lw_V q500 q501 q502 q92 q503) rfl nd_X7_firstPower rfl (z_rv hC (ci := 6) rfl hEa.1 rfl) rfl (Nat.le_of_ble_eq_true rfl) ⟨Nat.le_of_ble_eq_true rfl, Nat.le_of_ble_eq_true rfl⟩ ⟨zfit (k := 124) (z := 124) rfl rfl (by omega), zfit (k := 1220) (z := 1220) rfl rfl (by omega)⟩ dX1_ofElementNow_109) ⟨zad (k := 124) rfl (by omega), zad (k := 1220) rfl (by omega)⟩ hS (fun _ z => z.elim) (fun r H2 locs hp hF hS1 => ?_)
  obtain ⟨_, rfl, rfl⟩ := hp
  have hP := zpk hP hF
  have hP : va_P G.1 zCl ([]) H2 := hP
  have hD : va_D (zA M0 H0) ([]) := hD
  have hH1 : HC G s0 ρ σ H2 := hH1.ext0 hE hF
  have hS := hS1
  exact z_iret hC hrt hlk hQ hS ⟨zle (z := 124) rfl (by omega), zle (z := 1220) rfl (by omega)⟩ ⟨_, rfl, rfl⟩ dX1_ofElementNow_112

abbrev rm_m_X1_ofElementNow_6 : Room := { frames := 5, cells := 4, slots := 38, locals := 107 }
set_option maxHeartbeats 4000000 in
theorem m_X1_ofElementNow_6 {l : Launch} {s0 : State} {G : zG} (hE : zE l s0 G) (H0 : Heap) (hO : zO s0 H0) (ρ : Ro → Nat) (σ : St) (a : Nat) (hh : HC G s0 ρ σ H0) (ha : a < St_ne σ) : zM l s0 yX1_ofElementNow cX1_ofElementNow 4 (some FieldType.int) rm_m_X1_ofElementNow_6 [.ref (ρ (0, 0, 0)), .int (iI ((a : Nat) : Int)), .int (iI 6)] H0 M0 (ri (fun y _ => y = oeV σ a 6)) := by
  refine z_met hE (by decide +kernel) (Nat.le_of_ble_eq_true rfl) ?_
  intro pp ee ss mm args below meth cd Q ls hC hml hrt hlk hnm hH hQ hS hl
  have hx := hC.x
  have hb := hC.b
  have hl : lv_has ls 4 [(0, .ref (ρ (0, 0, 0))), (1, .int (iI ((a : Nat) : Int))), (2, .int (iI 6))] := hl
  have hP : va_P G.1 zCl [] H0 := va_nil
  have hD : va_D (zA M0 H0) [] := va_nilD
  have hH1 := hh
  obtain ⟨hp, hna, hal, hne9, hel9, hmr9⟩ := id hh.ok
  have hp7 : 0 < St_p σ ∧ St_p σ ≤ 7 := by rcases hp with h | h | h <;> rw [h] <;> decide
  obtain ⟨sm9, -⟩ := id hh.2.2.1.1
  obtain ⟨sm, hxx⟩ := id hH1.2.2.1.1
  refine lv_aload_n hx hb dX1_ofElementNow_0 rfl (lv_at hl 0 rfl) ?_
  refine z_get hC (k := 2) rfl in_X1 hxx (by decide) q153 (fun _ h => h) rfl dX1_ofElementNow_1 ?_
  refine lv_iload_n hx hb dX1_ofElementNow_4 rfl (lv_at hl 1 rfl) ?_
  obtain ⟨mde, hLe⟩ := id hH1.2.2.1.2.2.1
  refine z_go 0 0 (z_runV (As := [.int (iI ((a : Nat) : Int))]) (rest := []) hC hml hl.1 (m_J2_get hE H0 (hO.ext0 (zS_F hS)) (ρ (3, 0, 0)) (St_ne σ) (fun j => ρ (13, j, 0)) (ρ (4, 0, 0)) mde a hLe ha) (lw_V q372 q373 q374 q65 q375) rfl nd_J2_get rfl (z_rv hC (ci := 8) rfl hLe.1 rfl) rfl (Nat.le_of_ble_eq_true rfl) ⟨Nat.le_of_ble_eq_true rfl, Nat.le_of_ble_eq_true rfl⟩ ⟨zfit (k := 0) (z := 4) rfl rfl (by omega), zfit (k := 0) (z := 38) rfl rfl (by omega)⟩ dX1_ofElementNow_5) ⟨zad (k := 0) rfl (by omega), zad (k := 0) rfl (by omega)⟩ hS (fun _ z => z.elim) (fun r H1 locs hp hF hS1 => ?_)
  obtain ⟨_, rfl, rfl⟩ := hp
  have hP := zpk hP hF
  have hP : va_P G.1 zCl ([]) H1 := hP
  have hD : va_D (zA M0 H0) ([]) := hD
  have hH1 : HC G s0 ρ σ H1 := hH1.ext0 hE hF
  have hS := hS1
  obtain ⟨sm, hxx⟩ := id hH1.2.2.1.1
  have hva := hH1.row (j := a) (by omega)
  have hEa := hH1.el (j := a) (by omega)
  have heaa := hH1.ea (j := a) (by omega)
  obtain ⟨hn16a, -⟩ := (hH1.ag heaa).n
  refine z_cast hC (ci := 6) rfl hEa.1 rfl q220 dX1_ofElementNow_8 ?_
  refine lv_astore_n (lv' := [(3, .ref (ρ (13, a, 0))), (0, .ref (ρ (0, 0, 0))), (1, .int (iI ((a : Nat) : Int))), (2, .int (iI 6))]) hx hb dX1_ofElementNow_11 rfl hl (by decide) rfl (fun ls hl => ?_)
  refine lv_iload_n hx hb dX1_ofElementNow_12 rfl (lv_at hl 3 rfl) ?_
  refine lv_tableIn (off := 100) (tgt := 113) hx hb dX1_ofElementNow_13 (by decide) (by decide) rfl (by decide) ?_
  refine lv_aload_n hx hb dX1_ofElementNow_113 rfl (lv_at hl 0 rfl) ?_
  refine lv_aload_n hx hb dX1_ofElementNow_114 rfl (lv_at hl 0 rfl) ?_
  have hsz9 : H0.size ≤ H1.size := hS.1
  refine z_go 2 19 (z_runV (As := [.ref (ρ (13, a, 0))]) (rest := []) hC hml hl.1 (m_X7_times hE H1 (hO.ext0 (zS_F hS)) (ρ (0, 0, 0)) (ρ (6, St_ea σ a, 0)) (St_p σ) (St_d σ (St_ea σ a)) (St_n σ (St_ea σ a)) (St_kd σ (St_ea σ a)) (St_dv σ (St_ea σ a)) (St_sg σ (St_ea σ a)) (ρ (13, a, 0)) (ρ (14, a, 0)) (St_ev σ a) (ρ (13, a, 0)) (ρ (14, a, 0)) (St_ev σ a)  (hH1.ag (k := St_ea σ a) (by omega)) hEa hva hEa hva ) (lw_V q512 q360 q361 q92 q362) rfl nd_X7_times rfl (z_rv hC (ci := 6) rfl hEa.1 rfl) rfl (Nat.le_of_ble_eq_true rfl) ⟨Nat.le_of_ble_eq_true rfl, Nat.le_of_ble_eq_true rfl⟩ ⟨zfit (k := 2) (z := 4) rfl rfl (by omega), zfit (k := 19) (z := 38) rfl rfl (by omega)⟩ dX1_ofElementNow_115) ⟨zad (k := 2) rfl (by omega), zad (k := 19) rfl (by omega)⟩ hS (fun _ z => z.elim) (fun r H4 locs hp hF hS1 => ?_)
  obtain ⟨qe2, rfl, re3, hN⟩ := hp
  obtain ⟨hP, hD⟩ := zjn hP hD hS.1 hF hN
  have hP : va_P G.1 zCl ([(qe2, zOb 6 [.ref (ρ (6, St_ea σ a, 0)), .ref re3, .ref (ρ (0, 0, 0))]), (re3, zI G (St_n σ (St_ea σ a)) (tmV (St_p σ) (St_n σ (St_ea σ a)) (St_sg σ (St_ea σ a)) (St_ev σ a) (St_ev σ a)))]) H4 := hP
  have hD : va_D (zA M0 H0) ([(qe2, zOb 6 [.ref (ρ (6, St_ea σ a, 0)), .ref re3, .ref (ρ (0, 0, 0))]), (re3, zI G (St_n σ (St_ea σ a)) (tmV (St_p σ) (St_n σ (St_ea σ a)) (St_sg σ (St_ea σ a)) (St_ev σ a) (St_ev σ a)))]) := hD
  have hH1 : HC G s0 ρ σ H4 := hH1.ext0 hE hF
  have hS := hS1
  have hva := hH1.row (j := a) (by omega)
  have hEa := hH1.el (j := a) (by omega)
  have heaa := hH1.ea (j := a) (by omega)
  obtain ⟨hn16a, -⟩ := (hH1.ag heaa).n
  refine lv_aload_n hx hb dX1_ofElementNow_118 rfl (lv_at hl 0 rfl) ?_
  refine z_go 4 38 (z_runV (As := [.ref (ρ (13, a, 0))]) (rest := []) hC hml hl.1 (m_X7_isSame hE H4 (hO.ext0 (zS_F hS)) (ρ (0, 0, 0)) (ρ (6, St_ea σ a, 0)) (St_p σ) (St_d σ (St_ea σ a)) (St_n σ (St_ea σ a)) (St_kd σ (St_ea σ a)) (St_dv σ (St_ea σ a)) (St_sg σ (St_ea σ a)) qe2 re3 (tmV (St_p σ) (St_n σ (St_ea σ a)) (St_sg σ (St_ea σ a)) (St_ev σ a) (St_ev σ a)) (ρ (13, a, 0)) (ρ (14, a, 0)) (St_ev σ a) (hH1.ag (hH1.ea ha)) ⟨hP 0 _ rfl, hP 1 _ rfl⟩ (tmV_ok hp _ _ _ _) hEa hva) (lw_V q513 q514 q515 q92 q516) rfl nd_X7_isSame rfl (z_rv hC (ci := 6) rfl (hP 0 _ rfl) rfl) rfl (Nat.le_of_ble_eq_true rfl) ⟨Nat.le_of_ble_eq_true rfl, Nat.le_of_ble_eq_true rfl⟩ ⟨zfit (k := 2) (z := 4) rfl rfl (by omega), zfit (k := 19) (z := 38) rfl rfl (by omega)⟩ dX1_ofElementNow_119) ⟨zad (k := 2) rfl (by omega), zad (k := 19) rfl (by omega)⟩ hS (fun _ z => z.elim) (fun r H5 locs hp hF hS1 => ?_)
  obtain ⟨_, rfl, rfl⟩ := hp
  have hP := zpk hP hF
  have hP : va_P G.1 zCl ([(qe2, zOb 6 [.ref (ρ (6, St_ea σ a, 0)), .ref re3, .ref (ρ (0, 0, 0))]), (re3, zI G (St_n σ (St_ea σ a)) (tmV (St_p σ) (St_n σ (St_ea σ a)) (St_sg σ (St_ea σ a)) (St_ev σ a) (St_ev σ a)))]) H5 := hP
  have hD : va_D (zA M0 H0) ([(qe2, zOb 6 [.ref (ρ (6, St_ea σ a, 0)), .ref re3, .ref (ρ (0, 0, 0))]), (re3, zI G (St_n σ (St_ea σ a)) (tmV (St_p σ) (St_n σ (St_ea σ a)) (St_sg σ (St_ea σ a)) (St_ev σ a) (St_ev σ a)))]) := hD
  have hH1 : HC G s0 ρ σ H5 := hH1.ext0 hE hF
  have hS := hS1
  refine z_zeq (tgt := 129) hx hb dX1_ofElementNow_122 (by decide) (by unfold b2i; split <;> omega) (fun cz => ?_) (fun cz => ?_)
  · refine lv_iconst (v := iI 0) hx hb dX1_ofElementNow_129 rfl ?_
    exact z_iret hC hrt hlk hQ hS ⟨zle (z := 4) rfl (by omega), zle (z := 38) rfl (by omega)⟩ ⟨_, rfl, by show (0 : Int) = b2i _; rw [b2i_z cz]; rfl⟩ dX1_ofElementNow_130
  · refine lv_iconst (v := iI 1) hx hb dX1_ofElementNow_125 rfl ?_
    refine lv_goto (tgt := 130) hx hb dX1_ofElementNow_126 (by decide) ?_
    exact z_iret hC hrt hlk hQ hS ⟨zle (z := 4) rfl (by omega), zle (z := 38) rfl (by omega)⟩ ⟨_, rfl, by show (1 : Int) = b2i _; rw [b2i_nz cz]; rfl⟩ dX1_ofElementNow_130

abbrev rm_m_X1_ofElementNow_7 : Room := { frames := 5, cells := 2, slots := 19, locals := 107 }
set_option maxHeartbeats 4000000 in
theorem m_X1_ofElementNow_7 {l : Launch} {s0 : State} {G : zG} (hE : zE l s0 G) (H0 : Heap) (hO : zO s0 H0) (ρ : Ro → Nat) (σ : St) (a : Nat) (hh : HC G s0 ρ σ H0) (ha : a < St_ne σ) : zM l s0 yX1_ofElementNow cX1_ofElementNow 4 (some FieldType.int) rm_m_X1_ofElementNow_7 [.ref (ρ (0, 0, 0)), .int (iI ((a : Nat) : Int)), .int (iI 7)] H0 M0 (ri (fun y _ => y = oeV σ a 7)) := by
  refine z_met hE (by decide +kernel) (Nat.le_of_ble_eq_true rfl) ?_
  intro pp ee ss mm args below meth cd Q ls hC hml hrt hlk hnm hH hQ hS hl
  have hx := hC.x
  have hb := hC.b
  have hl : lv_has ls 4 [(0, .ref (ρ (0, 0, 0))), (1, .int (iI ((a : Nat) : Int))), (2, .int (iI 7))] := hl
  have hP : va_P G.1 zCl [] H0 := va_nil
  have hD : va_D (zA M0 H0) [] := va_nilD
  have hH1 := hh
  obtain ⟨hp, hna, hal, hne9, hel9, hmr9⟩ := id hh.ok
  have hp7 : 0 < St_p σ ∧ St_p σ ≤ 7 := by rcases hp with h | h | h <;> rw [h] <;> decide
  obtain ⟨sm9, -⟩ := id hh.2.2.1.1
  obtain ⟨sm, hxx⟩ := id hH1.2.2.1.1
  refine lv_aload_n hx hb dX1_ofElementNow_0 rfl (lv_at hl 0 rfl) ?_
  refine z_get hC (k := 2) rfl in_X1 hxx (by decide) q153 (fun _ h => h) rfl dX1_ofElementNow_1 ?_
  refine lv_iload_n hx hb dX1_ofElementNow_4 rfl (lv_at hl 1 rfl) ?_
  obtain ⟨mde, hLe⟩ := id hH1.2.2.1.2.2.1
  refine z_go 0 0 (z_runV (As := [.int (iI ((a : Nat) : Int))]) (rest := []) hC hml hl.1 (m_J2_get hE H0 (hO.ext0 (zS_F hS)) (ρ (3, 0, 0)) (St_ne σ) (fun j => ρ (13, j, 0)) (ρ (4, 0, 0)) mde a hLe ha) (lw_V q372 q373 q374 q65 q375) rfl nd_J2_get rfl (z_rv hC (ci := 8) rfl hLe.1 rfl) rfl (Nat.le_of_ble_eq_true rfl) ⟨Nat.le_of_ble_eq_true rfl, Nat.le_of_ble_eq_true rfl⟩ ⟨zfit (k := 0) (z := 2) rfl rfl (by omega), zfit (k := 0) (z := 19) rfl rfl (by omega)⟩ dX1_ofElementNow_5) ⟨zad (k := 0) rfl (by omega), zad (k := 0) rfl (by omega)⟩ hS (fun _ z => z.elim) (fun r H1 locs hp hF hS1 => ?_)
  obtain ⟨_, rfl, rfl⟩ := hp
  have hP := zpk hP hF
  have hP : va_P G.1 zCl ([]) H1 := hP
  have hD : va_D (zA M0 H0) ([]) := hD
  have hH1 : HC G s0 ρ σ H1 := hH1.ext0 hE hF
  have hS := hS1
  obtain ⟨sm, hxx⟩ := id hH1.2.2.1.1
  have hva := hH1.row (j := a) (by omega)
  have hEa := hH1.el (j := a) (by omega)
  have heaa := hH1.ea (j := a) (by omega)
  obtain ⟨hn16a, -⟩ := (hH1.ag heaa).n
  refine z_cast hC (ci := 6) rfl hEa.1 rfl q220 dX1_ofElementNow_8 ?_
  refine lv_astore_n (lv' := [(3, .ref (ρ (13, a, 0))), (0, .ref (ρ (0, 0, 0))), (1, .int (iI ((a : Nat) : Int))), (2, .int (iI 7))]) hx hb dX1_ofElementNow_11 rfl hl (by decide) rfl (fun ls hl => ?_)
  refine lv_iload_n hx hb dX1_ofElementNow_12 rfl (lv_at hl 3 rfl) ?_
  refine lv_tableIn (off := 118) (tgt := 131) hx hb dX1_ofElementNow_13 (by decide) (by decide) rfl (by decide) ?_
  refine lv_aload_n hx hb dX1_ofElementNow_131 rfl (lv_at hl 0 rfl) ?_
  refine z_go 2 19 (z_runV (As := []) (rest := []) hC hml hl.1 (m_X7_square hE H1 (hO.ext0 (zS_F hS)) (ρ (0, 0, 0)) (ρ (6, St_ea σ a, 0)) (St_p σ) (St_d σ (St_ea σ a)) (St_n σ (St_ea σ a)) (St_kd σ (St_ea σ a)) (St_dv σ (St_ea σ a)) (St_sg σ (St_ea σ a)) (ρ (13, a, 0)) (ρ (14, a, 0)) (St_ev σ a)  (hH1.ag (hH1.ea (j := a) (by omega))) (hH1.el (j := a) (by omega)) hva ) (lw_V q521 q522 q523 q92 q524) rfl nd_X7_square rfl (z_rv hC (ci := 6) rfl hEa.1 rfl) rfl (Nat.le_of_ble_eq_true rfl) ⟨Nat.le_of_ble_eq_true rfl, Nat.le_of_ble_eq_true rfl⟩ ⟨zfit (k := 2) (z := 2) rfl rfl (by omega), zfit (k := 19) (z := 19) rfl rfl (by omega)⟩ dX1_ofElementNow_132) ⟨zad (k := 2) rfl (by omega), zad (k := 19) rfl (by omega)⟩ hS (fun _ z => z.elim) (fun r H2 locs hp hF hS1 => ?_)
  obtain ⟨_, rfl, rfl⟩ := hp
  have hP := zpk hP hF
  have hP : va_P G.1 zCl ([]) H2 := hP
  have hD : va_D (zA M0 H0) ([]) := hD
  have hH1 : HC G s0 ρ σ H2 := hH1.ext0 hE hF
  have hS := hS1
  exact z_iret hC hrt hlk hQ hS ⟨zle (z := 2) rfl (by omega), zle (z := 19) rfl (by omega)⟩ ⟨_, rfl, rfl⟩ dX1_ofElementNow_135

abbrev rm_m_X1_ofElementNow_8 : Room := { frames := 5, cells := 18, slots := 288, locals := 122 }
set_option maxHeartbeats 4000000 in
theorem m_X1_ofElementNow_8 {l : Launch} {s0 : State} {G : zG} (hE : zE l s0 G) (H0 : Heap) (hO : zO s0 H0) (ρ : Ro → Nat) (σ : St) (a : Nat) (hh : HC G s0 ρ σ H0) (ha : a < St_ne σ) : zM l s0 yX1_ofElementNow cX1_ofElementNow 4 (some FieldType.int) rm_m_X1_ofElementNow_8 [.ref (ρ (0, 0, 0)), .int (iI ((a : Nat) : Int)), .int (iI 8)] H0 M0 (ri (fun y _ => y = oeV σ a 8)) := by
  refine z_met hE (by decide +kernel) (Nat.le_of_ble_eq_true rfl) ?_
  intro pp ee ss mm args below meth cd Q ls hC hml hrt hlk hnm hH hQ hS hl
  have hx := hC.x
  have hb := hC.b
  have hl : lv_has ls 4 [(0, .ref (ρ (0, 0, 0))), (1, .int (iI ((a : Nat) : Int))), (2, .int (iI 8))] := hl
  have hP : va_P G.1 zCl [] H0 := va_nil
  have hD : va_D (zA M0 H0) [] := va_nilD
  have hH1 := hh
  obtain ⟨hp, hna, hal, hne9, hel9, hmr9⟩ := id hh.ok
  have hp7 : 0 < St_p σ ∧ St_p σ ≤ 7 := by rcases hp with h | h | h <;> rw [h] <;> decide
  obtain ⟨sm9, -⟩ := id hh.2.2.1.1
  obtain ⟨sm, hxx⟩ := id hH1.2.2.1.1
  refine lv_aload_n hx hb dX1_ofElementNow_0 rfl (lv_at hl 0 rfl) ?_
  refine z_get hC (k := 2) rfl in_X1 hxx (by decide) q153 (fun _ h => h) rfl dX1_ofElementNow_1 ?_
  refine lv_iload_n hx hb dX1_ofElementNow_4 rfl (lv_at hl 1 rfl) ?_
  obtain ⟨mde, hLe⟩ := id hH1.2.2.1.2.2.1
  refine z_go 0 0 (z_runV (As := [.int (iI ((a : Nat) : Int))]) (rest := []) hC hml hl.1 (m_J2_get hE H0 (hO.ext0 (zS_F hS)) (ρ (3, 0, 0)) (St_ne σ) (fun j => ρ (13, j, 0)) (ρ (4, 0, 0)) mde a hLe ha) (lw_V q372 q373 q374 q65 q375) rfl nd_J2_get rfl (z_rv hC (ci := 8) rfl hLe.1 rfl) rfl (Nat.le_of_ble_eq_true rfl) ⟨Nat.le_of_ble_eq_true rfl, Nat.le_of_ble_eq_true rfl⟩ ⟨zfit (k := 0) (z := 18) rfl rfl (by omega), zfit (k := 0) (z := 288) rfl rfl (by omega)⟩ dX1_ofElementNow_5) ⟨zad (k := 0) rfl (by omega), zad (k := 0) rfl (by omega)⟩ hS (fun _ z => z.elim) (fun r H1 locs hp hF hS1 => ?_)
  obtain ⟨_, rfl, rfl⟩ := hp
  have hP := zpk hP hF
  have hP : va_P G.1 zCl ([]) H1 := hP
  have hD : va_D (zA M0 H0) ([]) := hD
  have hH1 : HC G s0 ρ σ H1 := hH1.ext0 hE hF
  have hS := hS1
  obtain ⟨sm, hxx⟩ := id hH1.2.2.1.1
  have hva := hH1.row (j := a) (by omega)
  have hEa := hH1.el (j := a) (by omega)
  have heaa := hH1.ea (j := a) (by omega)
  obtain ⟨hn16a, -⟩ := (hH1.ag heaa).n
  refine z_cast hC (ci := 6) rfl hEa.1 rfl q220 dX1_ofElementNow_8 ?_
  refine lv_astore_n (lv' := [(3, .ref (ρ (13, a, 0))), (0, .ref (ρ (0, 0, 0))), (1, .int (iI ((a : Nat) : Int))), (2, .int (iI 8))]) hx hb dX1_ofElementNow_11 rfl hl (by decide) rfl (fun ls hl => ?_)
  refine lv_iload_n hx hb dX1_ofElementNow_12 rfl (lv_at hl 3 rfl) ?_
  refine lv_tableOut (tgt := 136) hx hb dX1_ofElementNow_13 (by decide) (by decide) ?_
  refine lv_aload_n hx hb dX1_ofElementNow_136 rfl (lv_at hl 0 rfl) ?_
  refine lv_iload_n hx hb dX1_ofElementNow_137 rfl (lv_at hl 3 rfl) ?_
  refine lv_bipush (v := iI 8) hx hb dX1_ofElementNow_138 (by decide) ?_
  refine z_cne (tgt := 147) hx hb dX1_ofElementNow_140 (by decide) (by omega) (fun c2 => ?_) (fun c2 => ?_)
  · omega
  · refine lv_iconst (v := iI 1) hx hb dX1_ofElementNow_143 rfl ?_
    refine lv_goto (tgt := 148) hx hb dX1_ofElementNow_144 (by decide) ?_
    refine z_go 18 288 (z_runV (As := [.int (iI 1)]) (rest := []) hC hml hl.1 (m_X7_rank hE H1 (hO.ext0 (zS_F hS)) (ρ (0, 0, 0)) (ρ (6, St_ea σ a, 0)) (St_p σ) (St_d σ (St_ea σ a)) (St_n σ (St_ea σ a)) (St_kd σ (St_ea σ a)) (St_dv σ (St_ea σ a)) (St_sg σ (St_ea σ a)) (ρ (13, a, 0)) (ρ (14, a, 0)) (St_ev σ a) 1 (hH1.ag (hH1.ea (j := a) (by omega))) (hH1.el (j := a) (by omega)) hva (by decide)) (lw_V q527 q528 q529 q92 q530) rfl nd_X7_rank rfl (z_rv hC (ci := 6) rfl hEa.1 rfl) rfl (Nat.le_of_ble_eq_true rfl) ⟨Nat.le_of_ble_eq_true rfl, Nat.le_of_ble_eq_true rfl⟩ ⟨zfit (k := 18) (z := 18) rfl rfl (by omega), zfit (k := 288) (z := 288) rfl rfl (by omega)⟩ dX1_ofElementNow_148) ⟨zad (k := 18) rfl (by omega), zad (k := 288) rfl (by omega)⟩ hS (fun _ z => z.elim) (fun r H3 locs hp hF hS1 => ?_)
    obtain ⟨_, rfl, rfl⟩ := hp
    have hP := zpk hP hF
    have hP : va_P G.1 zCl ([]) H3 := hP
    have hD : va_D (zA M0 H0) ([]) := hD
    have hH1 : HC G s0 ρ σ H3 := hH1.ext0 hE hF
    have hS := hS1
    exact z_iret hC hrt hlk hQ hS ⟨zle (z := 18) rfl (by omega), zle (z := 288) rfl (by omega)⟩ ⟨_, rfl, rfl⟩ dX1_ofElementNow_151

abbrev rm_m_X1_ofElementNow_9 : Room := { frames := 5, cells := 18, slots := 288, locals := 122 }
set_option maxHeartbeats 4000000 in
theorem m_X1_ofElementNow_9 {l : Launch} {s0 : State} {G : zG} (hE : zE l s0 G) (H0 : Heap) (hO : zO s0 H0) (ρ : Ro → Nat) (σ : St) (a : Nat) (hh : HC G s0 ρ σ H0) (ha : a < St_ne σ) : zM l s0 yX1_ofElementNow cX1_ofElementNow 4 (some FieldType.int) rm_m_X1_ofElementNow_9 [.ref (ρ (0, 0, 0)), .int (iI ((a : Nat) : Int)), .int (iI 9)] H0 M0 (ri (fun y _ => y = oeV σ a 9)) := by
  refine z_met hE (by decide +kernel) (Nat.le_of_ble_eq_true rfl) ?_
  intro pp ee ss mm args below meth cd Q ls hC hml hrt hlk hnm hH hQ hS hl
  have hx := hC.x
  have hb := hC.b
  have hl : lv_has ls 4 [(0, .ref (ρ (0, 0, 0))), (1, .int (iI ((a : Nat) : Int))), (2, .int (iI 9))] := hl
  have hP : va_P G.1 zCl [] H0 := va_nil
  have hD : va_D (zA M0 H0) [] := va_nilD
  have hH1 := hh
  obtain ⟨hp, hna, hal, hne9, hel9, hmr9⟩ := id hh.ok
  have hp7 : 0 < St_p σ ∧ St_p σ ≤ 7 := by rcases hp with h | h | h <;> rw [h] <;> decide
  obtain ⟨sm9, -⟩ := id hh.2.2.1.1
  obtain ⟨sm, hxx⟩ := id hH1.2.2.1.1
  refine lv_aload_n hx hb dX1_ofElementNow_0 rfl (lv_at hl 0 rfl) ?_
  refine z_get hC (k := 2) rfl in_X1 hxx (by decide) q153 (fun _ h => h) rfl dX1_ofElementNow_1 ?_
  refine lv_iload_n hx hb dX1_ofElementNow_4 rfl (lv_at hl 1 rfl) ?_
  obtain ⟨mde, hLe⟩ := id hH1.2.2.1.2.2.1
  refine z_go 0 0 (z_runV (As := [.int (iI ((a : Nat) : Int))]) (rest := []) hC hml hl.1 (m_J2_get hE H0 (hO.ext0 (zS_F hS)) (ρ (3, 0, 0)) (St_ne σ) (fun j => ρ (13, j, 0)) (ρ (4, 0, 0)) mde a hLe ha) (lw_V q372 q373 q374 q65 q375) rfl nd_J2_get rfl (z_rv hC (ci := 8) rfl hLe.1 rfl) rfl (Nat.le_of_ble_eq_true rfl) ⟨Nat.le_of_ble_eq_true rfl, Nat.le_of_ble_eq_true rfl⟩ ⟨zfit (k := 0) (z := 18) rfl rfl (by omega), zfit (k := 0) (z := 288) rfl rfl (by omega)⟩ dX1_ofElementNow_5) ⟨zad (k := 0) rfl (by omega), zad (k := 0) rfl (by omega)⟩ hS (fun _ z => z.elim) (fun r H1 locs hp hF hS1 => ?_)
  obtain ⟨_, rfl, rfl⟩ := hp
  have hP := zpk hP hF
  have hP : va_P G.1 zCl ([]) H1 := hP
  have hD : va_D (zA M0 H0) ([]) := hD
  have hH1 : HC G s0 ρ σ H1 := hH1.ext0 hE hF
  have hS := hS1
  obtain ⟨sm, hxx⟩ := id hH1.2.2.1.1
  have hva := hH1.row (j := a) (by omega)
  have hEa := hH1.el (j := a) (by omega)
  have heaa := hH1.ea (j := a) (by omega)
  obtain ⟨hn16a, -⟩ := (hH1.ag heaa).n
  refine z_cast hC (ci := 6) rfl hEa.1 rfl q220 dX1_ofElementNow_8 ?_
  refine lv_astore_n (lv' := [(3, .ref (ρ (13, a, 0))), (0, .ref (ρ (0, 0, 0))), (1, .int (iI ((a : Nat) : Int))), (2, .int (iI 9))]) hx hb dX1_ofElementNow_11 rfl hl (by decide) rfl (fun ls hl => ?_)
  refine lv_iload_n hx hb dX1_ofElementNow_12 rfl (lv_at hl 3 rfl) ?_
  refine lv_tableOut (tgt := 136) hx hb dX1_ofElementNow_13 (by decide) (by decide) ?_
  refine lv_aload_n hx hb dX1_ofElementNow_136 rfl (lv_at hl 0 rfl) ?_
  refine lv_iload_n hx hb dX1_ofElementNow_137 rfl (lv_at hl 3 rfl) ?_
  refine lv_bipush (v := iI 8) hx hb dX1_ofElementNow_138 (by decide) ?_
  refine z_cne (tgt := 147) hx hb dX1_ofElementNow_140 (by decide) (by omega) (fun c2 => ?_) (fun c2 => ?_)
  · refine lv_iconst (v := iI 0) hx hb dX1_ofElementNow_147 rfl ?_
    refine z_go 18 288 (z_runV (As := [.int (iI 0)]) (rest := []) hC hml hl.1 (m_X7_rank hE H1 (hO.ext0 (zS_F hS)) (ρ (0, 0, 0)) (ρ (6, St_ea σ a, 0)) (St_p σ) (St_d σ (St_ea σ a)) (St_n σ (St_ea σ a)) (St_kd σ (St_ea σ a)) (St_dv σ (St_ea σ a)) (St_sg σ (St_ea σ a)) (ρ (13, a, 0)) (ρ (14, a, 0)) (St_ev σ a) 0 (hH1.ag (hH1.ea (j := a) (by omega))) (hH1.el (j := a) (by omega)) hva (by decide)) (lw_V q527 q528 q529 q92 q530) rfl nd_X7_rank rfl (z_rv hC (ci := 6) rfl hEa.1 rfl) rfl (Nat.le_of_ble_eq_true rfl) ⟨Nat.le_of_ble_eq_true rfl, Nat.le_of_ble_eq_true rfl⟩ ⟨zfit (k := 18) (z := 18) rfl rfl (by omega), zfit (k := 288) (z := 288) rfl rfl (by omega)⟩ dX1_ofElementNow_148) ⟨zad (k := 18) rfl (by omega), zad (k := 288) rfl (by omega)⟩ hS (fun _ z => z.elim) (fun r H3 locs hp hF hS1 => ?_)
    obtain ⟨_, rfl, rfl⟩ := hp
    have hP := zpk hP hF
    have hP : va_P G.1 zCl ([]) H3 := hP
    have hD : va_D (zA M0 H0) ([]) := hD
    have hH1 : HC G s0 ρ σ H3 := hH1.ext0 hE hF
    have hS := hS1
    exact z_iret hC hrt hlk hQ hS ⟨zle (z := 18) rfl (by omega), zle (z := 288) rfl (by omega)⟩ ⟨_, rfl, rfl⟩ dX1_ofElementNow_151
  · omega

abbrev rm_m_X1_ofElement : Room := { frames := 8, cells := 126, slots := 1232, locals := 145 }
set_option maxHeartbeats 4000000 in
theorem m_X1_ofElement {l : Launch} {s0 : State} {G : zG} (hE : zE l s0 G) (H0 : Heap) (hO : zO s0 H0) (ρ : Ro → Nat) (σ : St) (i w : Int) (hh : HC G s0 ρ σ H0) (hi : zi i ∧ zi w) : zMX l s0 yX1_ofElement cX1_ofElement 3 (some FieldType.int) rm_m_X1_ofElement [.ref (ρ (0, 0, 0)), .int (iI i), .int (iI w)] H0 M0 (ri (fun y _ => ∃ a t : Nat, (i = a ∧ a < St_ne σ) ∧ (w = t ∧ t ≤ 9) ∧ y = oeV σ a t)) (fun E _ => X1ea σ i (0 ≤ w ∧ w ≤ 9) E) := by
  refine z_metX hE (by decide +kernel) (Nat.le_of_ble_eq_true rfl) ?_
  intro pp ee ss mm args below meth cd Q ls hC hml hrt hlk hnm hH hQ hno hX hS hl
  have hx := hC.x
  have hb := hC.b
  have hl : lv_has ls 3 [(0, .ref (ρ (0, 0, 0))), (1, .int (iI i)), (2, .int (iI w))] := hl
  have hP : va_P G.1 zCl [] H0 := va_nil
  have hD : va_D (zA M0 H0) [] := va_nilD
  have hH1 := hh
  obtain ⟨hp, hna, hal, hne9, hel9, hmr9⟩ := id hh.ok
  have hp7 : 0 < St_p σ ∧ St_p σ ≤ 7 := by rcases hp with h | h | h <;> rw [h] <;> decide
  obtain ⟨sm9, -⟩ := id hh.2.2.1.1
  refine lv_aload_n hx hb dX1_ofElement_0 rfl (lv_at hl 0 rfl) ?_
  refine lv_iload_n hx hb dX1_ofElement_1 rfl (lv_at hl 1 rfl) ?_
  obtain ⟨sm, hxx⟩ := id hH1.2.2.1.1
  refine z_goX 1 6 (z_runVx (As := [.int (iI i)]) (rest := []) hC hml hl.1 (m_X1_elementAt hE H0 (hO.ext0 (zS_F hS)) ρ σ i hH1 hi.1) (lw_V q1139 q1141 qs25 q62 q1142) rfl nd_X1_elementAt rfl (z_rv hC (ci := 0) rfl hxx rfl) rfl (Nat.le_of_ble_eq_true rfl) ⟨Nat.le_of_ble_eq_true rfl, Nat.le_of_ble_eq_true rfl⟩ ⟨zfit (k := 1) (z := 126) rfl rfl (by omega), zfit (k := 6) (z := 1232) rfl rfl (by omega)⟩ dX1_ofElement_2) ⟨zad (k := 1) rfl (by omega), zad (k := 6) rfl (by omega)⟩ hS (fun _ z => z.elim) (fun E ce q9 Hx1 locs hp hF hS1 hce hcv hcl => ?_) (fun r H2 locs hp hF hS1 => ?_)
  · exact z_out hno hlk hX hS1 ⟨zle (z := 126) rfl (by omega), zle (z := 1232) rfl (by omega)⟩ hce hcv hcl (Or.inl ⟨hp.1, hp.2⟩)
  obtain ⟨_, rfl, a, ea9, ha9, rfl⟩ := hp
  have hP := zpk hP hF
  have hP : va_P G.1 zCl ([]) H2 := hP
  have hD : va_D (zA M0 H0) ([]) := hD
  have hH1 : HC G s0 ρ σ H2 := hH1.ext0 hE hF
  have hS := hS1
  have iE : inE σ i := by unfold inE; omega
  refine lv_pop hx hb dX1_ofElement_5 rfl ?_
  refine lv_iconst (v := iI 0) hx hb dX1_ofElement_6 rfl ?_
  refine lv_bipush (v := iI 9) hx hb dX1_ofElement_7 (by decide) ?_
  refine lv_iload_n hx hb dX1_ofElement_9 rfl (lv_at hl 2 rfl) ?_
  refine z_go 1 6 (z_runS (As := [.int (iI 0), .int (iI 9), .int (iI w)]) (rest := []) hC hml hl.1 (m_X1_isFrom hE H2 (hO.ext0 (zS_F hS)) 0 9 w ⟨by decide, by decide, hi.2⟩) (lw_S q944 q350 q62 q351) nd_X1_isFrom rfl rfl (Nat.le_of_ble_eq_true rfl) ⟨Nat.le_of_ble_eq_true rfl, Nat.le_of_ble_eq_true rfl⟩ ⟨zfit (k := 0) (z := 126) rfl rfl (by omega), zfit (k := 0) (z := 1232) rfl rfl (by omega)⟩ dX1_ofElement_10) ⟨zad (k := 0) rfl (by omega), zad (k := 0) rfl (by omega)⟩ hS (fun _ z => z.elim) (fun r H3 locs hp hF hS1 => ?_)
  obtain ⟨_, rfl, rfl⟩ := hp
  have hP := zpk hP hF
  have hP : va_P G.1 zCl ([]) H3 := hP
  have hD : va_D (zA M0 H0) ([]) := hD
  have hH1 : HC G s0 ρ σ H3 := hH1.ext0 hE hF
  have hS := hS1
  obtain ⟨fl, hfl, hfl2⟩ : ∃ fl : Nat, fl ≤ 1 ∧ (if 0 ≤ w ∧ w ≤ 9 then (1 : Int) else 0) = fl ∧ (fl = 1 ↔ 0 ≤ w ∧ w ≤ 9) := by by_cases h : 0 ≤ w ∧ w ≤ 9; exact ⟨1, by decide, by rw [if_pos h]; rfl, by simp [h]⟩; exact ⟨0, by decide, by rw [if_neg h]; rfl, by simp [h]⟩
  refine z_top (b := ((fl : Nat) : Int)) (hfl2.1) ?_
  refine z_goX 2 12 (z_runSx (As := [.int (iI ((fl : Nat) : Int))]) (rest := []) hC hml hl.1 (m_X1_require hE H3 (hO.ext0 (zS_F hS)) fl hfl) (lw_S q905 q906 q62 q907) nd_X1_require rfl rfl (Nat.le_of_ble_eq_true rfl) ⟨Nat.le_of_ble_eq_true rfl, Nat.le_of_ble_eq_true rfl⟩ ⟨zfit (k := 1) (z := 126) rfl rfl (by omega), zfit (k := 6) (z := 1232) rfl rfl (by omega)⟩ dX1_ofElement_13) ⟨zad (k := 1) rfl (by omega), zad (k := 6) rfl (by omega)⟩ hS (fun _ z => z.elim) (fun E ce q9 Hx4 locs hp hF hS1 hce hcv hcl => ?_) (fun r H5 locs hp hF hS1 => ?_)
  · exact z_out hno hlk hX hS1 ⟨zle (z := 126) rfl (by omega), zle (z := 1232) rfl (by omega)⟩ hce hcv hcl (Or.inr ⟨hp.1, iE, fun z => by have := hfl2.2.mpr z; have := hp.2; omega⟩)
  obtain ⟨rfl, hfl1⟩ := hp
  have hP := zpk hP hF
  have hP : va_P G.1 zCl ([]) H5 := hP
  have hD : va_D (zA M0 H0) ([]) := hD
  have hH1 : HC G s0 ρ σ H5 := hH1.ext0 hE hF
  have hS := hS1
  have htp := hfl2.2.mp hfl1
  rw [ea9] at hl
  obtain ⟨sm, hxx⟩ := id hH1.2.2.1.1
  refine lv_aload_n hx hb dX1_ofElement_16 rfl (lv_at hl 0 rfl) ?_
  refine lv_iload_n hx hb dX1_ofElement_17 rfl (lv_at hl 1 rfl) ?_
  refine lv_iload_n hx hb dX1_ofElement_18 rfl (lv_at hl 2 rfl) ?_
  rcases (show w ≤ 4 ∨ 5 ≤ w from by omega) with hw9 | hw9
  · rcases (show w ≤ 2 ∨ 3 ≤ w from by omega) with hw9 | hw9
    · rcases (show w ≤ 1 ∨ 2 ≤ w from by omega) with hw9 | hw9
      · rcases (show w ≤ 0 ∨ 1 ≤ w from by omega) with hw9 | hw9
        · have ew9 : w = 0 := by omega
          refine z_top (b := 0) (ew9) ?_
          refine z_go 2 12 (z_runV (As := [.int (iI ((a : Nat) : Int)), .int (iI 0)]) (rest := []) hC hml hl.1 (m_X1_ofElementNow_0 hE H5 (hO.ext0 (zS_F hS)) ρ σ a hH1 (by omega)) (lw_V q451 q453 qs14 q62 q454) rfl nd_X1_ofElementNow rfl (z_rv hC (ci := 0) rfl hxx rfl) rfl (Nat.le_of_ble_eq_true rfl) ⟨Nat.le_of_ble_eq_true rfl, Nat.le_of_ble_eq_true rfl⟩ ⟨zfit (k := 0) (z := 126) rfl rfl (by omega), zfit (k := 0) (z := 1232) rfl rfl (by omega)⟩ dX1_ofElement_19) ⟨zad (k := 0) rfl (by omega), zad (k := 0) rfl (by omega)⟩ hS (fun _ z => z.elim) (fun r H6 locs hp hF hS1 => ?_)
          obtain ⟨_, rfl, rfl⟩ := hp
          have hP := zpk hP hF
          have hP : va_P G.1 zCl ([]) H6 := hP
          have hD : va_D (zA M0 H0) ([]) := hD
          have hH1 : HC G s0 ρ σ H6 := hH1.ext0 hE hF
          have hS := hS1
          exact z_iret hC hrt hlk hQ hS ⟨zle (z := 126) rfl (by omega), zle (z := 1232) rfl (by omega)⟩ ⟨_, rfl, a, 0, ⟨by omega, by omega⟩, ⟨by omega, by decide⟩, rfl⟩ dX1_ofElement_22
        · have ew9 : w = 1 := by omega
          refine z_top (b := 1) (ew9) ?_
          refine z_go 2 12 (z_runV (As := [.int (iI ((a : Nat) : Int)), .int (iI 1)]) (rest := []) hC hml hl.1 (m_X1_ofElementNow_1 hE H5 (hO.ext0 (zS_F hS)) ρ σ a hH1 (by omega)) (lw_V q451 q453 qs14 q62 q454) rfl nd_X1_ofElementNow rfl (z_rv hC (ci := 0) rfl hxx rfl) rfl (Nat.le_of_ble_eq_true rfl) ⟨Nat.le_of_ble_eq_true rfl, Nat.le_of_ble_eq_true rfl⟩ ⟨zfit (k := 0) (z := 126) rfl rfl (by omega), zfit (k := 0) (z := 1232) rfl rfl (by omega)⟩ dX1_ofElement_19) ⟨zad (k := 0) rfl (by omega), zad (k := 0) rfl (by omega)⟩ hS (fun _ z => z.elim) (fun r H7 locs hp hF hS1 => ?_)
          obtain ⟨_, rfl, rfl⟩ := hp
          have hP := zpk hP hF
          have hP : va_P G.1 zCl ([]) H7 := hP
          have hD : va_D (zA M0 H0) ([]) := hD
          have hH1 : HC G s0 ρ σ H7 := hH1.ext0 hE hF
          have hS := hS1
          exact z_iret hC hrt hlk hQ hS ⟨zle (z := 126) rfl (by omega), zle (z := 1232) rfl (by omega)⟩ ⟨_, rfl, a, 1, ⟨by omega, by omega⟩, ⟨by omega, by decide⟩, rfl⟩ dX1_ofElement_22
      · have ew9 : w = 2 := by omega
        refine z_top (b := 2) (ew9) ?_
        refine z_go 6 50 (z_runV (As := [.int (iI ((a : Nat) : Int)), .int (iI 2)]) (rest := []) hC hml hl.1 (m_X1_ofElementNow_2 hE H5 (hO.ext0 (zS_F hS)) ρ σ a hH1 (by omega)) (lw_V q451 q453 qs14 q62 q454) rfl nd_X1_ofElementNow rfl (z_rv hC (ci := 0) rfl hxx rfl) rfl (Nat.le_of_ble_eq_true rfl) ⟨Nat.le_of_ble_eq_true rfl, Nat.le_of_ble_eq_true rfl⟩ ⟨zfit (k := 4) (z := 126) rfl rfl (by omega), zfit (k := 38) (z := 1232) rfl rfl (by omega)⟩ dX1_ofElement_19) ⟨zad (k := 4) rfl (by omega), zad (k := 38) rfl (by omega)⟩ hS (fun _ z => z.elim) (fun r H8 locs hp hF hS1 => ?_)
        obtain ⟨_, rfl, rfl⟩ := hp
        have hP := zpk hP hF
        have hP : va_P G.1 zCl ([]) H8 := hP
        have hD : va_D (zA M0 H0) ([]) := hD
        have hH1 : HC G s0 ρ σ H8 := hH1.ext0 hE hF
        have hS := hS1
        exact z_iret hC hrt hlk hQ hS ⟨zle (z := 126) rfl (by omega), zle (z := 1232) rfl (by omega)⟩ ⟨_, rfl, a, 2, ⟨by omega, by omega⟩, ⟨by omega, by decide⟩, rfl⟩ dX1_ofElement_22
    · rcases (show w ≤ 3 ∨ 4 ≤ w from by omega) with hw9 | hw9
      · have ew9 : w = 3 := by omega
        refine z_top (b := 3) (ew9) ?_
        refine z_go 2 12 (z_runV (As := [.int (iI ((a : Nat) : Int)), .int (iI 3)]) (rest := []) hC hml hl.1 (m_X1_ofElementNow_3 hE H5 (hO.ext0 (zS_F hS)) ρ σ a hH1 (by omega)) (lw_V q451 q453 qs14 q62 q454) rfl nd_X1_ofElementNow rfl (z_rv hC (ci := 0) rfl hxx rfl) rfl (Nat.le_of_ble_eq_true rfl) ⟨Nat.le_of_ble_eq_true rfl, Nat.le_of_ble_eq_true rfl⟩ ⟨zfit (k := 0) (z := 126) rfl rfl (by omega), zfit (k := 0) (z := 1232) rfl rfl (by omega)⟩ dX1_ofElement_19) ⟨zad (k := 0) rfl (by omega), zad (k := 0) rfl (by omega)⟩ hS (fun _ z => z.elim) (fun r H9 locs hp hF hS1 => ?_)
        obtain ⟨_, rfl, rfl⟩ := hp
        have hP := zpk hP hF
        have hP : va_P G.1 zCl ([]) H9 := hP
        have hD : va_D (zA M0 H0) ([]) := hD
        have hH1 : HC G s0 ρ σ H9 := hH1.ext0 hE hF
        have hS := hS1
        exact z_iret hC hrt hlk hQ hS ⟨zle (z := 126) rfl (by omega), zle (z := 1232) rfl (by omega)⟩ ⟨_, rfl, a, 3, ⟨by omega, by omega⟩, ⟨by omega, by decide⟩, rfl⟩ dX1_ofElement_22
      · have ew9 : w = 4 := by omega
        refine z_top (b := 4) (ew9) ?_
        refine z_go 126 1232 (z_runV (As := [.int (iI ((a : Nat) : Int)), .int (iI 4)]) (rest := []) hC hml hl.1 (m_X1_ofElementNow_4 hE H5 (hO.ext0 (zS_F hS)) ρ σ a hH1 (by omega)) (lw_V q451 q453 qs14 q62 q454) rfl nd_X1_ofElementNow rfl (z_rv hC (ci := 0) rfl hxx rfl) rfl (Nat.le_of_ble_eq_true rfl) ⟨Nat.le_of_ble_eq_true rfl, Nat.le_of_ble_eq_true rfl⟩ ⟨zfit (k := 124) (z := 126) rfl rfl (by omega), zfit (k := 1220) (z := 1232) rfl rfl (by omega)⟩ dX1_ofElement_19) ⟨zad (k := 124) rfl (by omega), zad (k := 1220) rfl (by omega)⟩ hS (fun _ z => z.elim) (fun r H10 locs hp hF hS1 => ?_)
        obtain ⟨_, rfl, rfl⟩ := hp
        have hP := zpk hP hF
        have hP : va_P G.1 zCl ([]) H10 := hP
        have hD : va_D (zA M0 H0) ([]) := hD
        have hH1 : HC G s0 ρ σ H10 := hH1.ext0 hE hF
        have hS := hS1
        exact z_iret hC hrt hlk hQ hS ⟨zle (z := 126) rfl (by omega), zle (z := 1232) rfl (by omega)⟩ ⟨_, rfl, a, 4, ⟨by omega, by omega⟩, ⟨by omega, by decide⟩, rfl⟩ dX1_ofElement_22
  · rcases (show w ≤ 7 ∨ 8 ≤ w from by omega) with hw9 | hw9
    · rcases (show w ≤ 6 ∨ 7 ≤ w from by omega) with hw9 | hw9
      · rcases (show w ≤ 5 ∨ 6 ≤ w from by omega) with hw9 | hw9
        · have ew9 : w = 5 := by omega
          refine z_top (b := 5) (ew9) ?_
          refine z_go 126 1232 (z_runV (As := [.int (iI ((a : Nat) : Int)), .int (iI 5)]) (rest := []) hC hml hl.1 (m_X1_ofElementNow_5 hE H5 (hO.ext0 (zS_F hS)) ρ σ a hH1 (by omega)) (lw_V q451 q453 qs14 q62 q454) rfl nd_X1_ofElementNow rfl (z_rv hC (ci := 0) rfl hxx rfl) rfl (Nat.le_of_ble_eq_true rfl) ⟨Nat.le_of_ble_eq_true rfl, Nat.le_of_ble_eq_true rfl⟩ ⟨zfit (k := 124) (z := 126) rfl rfl (by omega), zfit (k := 1220) (z := 1232) rfl rfl (by omega)⟩ dX1_ofElement_19) ⟨zad (k := 124) rfl (by omega), zad (k := 1220) rfl (by omega)⟩ hS (fun _ z => z.elim) (fun r H11 locs hp hF hS1 => ?_)
          obtain ⟨_, rfl, rfl⟩ := hp
          have hP := zpk hP hF
          have hP : va_P G.1 zCl ([]) H11 := hP
          have hD : va_D (zA M0 H0) ([]) := hD
          have hH1 : HC G s0 ρ σ H11 := hH1.ext0 hE hF
          have hS := hS1
          exact z_iret hC hrt hlk hQ hS ⟨zle (z := 126) rfl (by omega), zle (z := 1232) rfl (by omega)⟩ ⟨_, rfl, a, 5, ⟨by omega, by omega⟩, ⟨by omega, by decide⟩, rfl⟩ dX1_ofElement_22
        · have ew9 : w = 6 := by omega
          refine z_top (b := 6) (ew9) ?_
          refine z_go 6 50 (z_runV (As := [.int (iI ((a : Nat) : Int)), .int (iI 6)]) (rest := []) hC hml hl.1 (m_X1_ofElementNow_6 hE H5 (hO.ext0 (zS_F hS)) ρ σ a hH1 (by omega)) (lw_V q451 q453 qs14 q62 q454) rfl nd_X1_ofElementNow rfl (z_rv hC (ci := 0) rfl hxx rfl) rfl (Nat.le_of_ble_eq_true rfl) ⟨Nat.le_of_ble_eq_true rfl, Nat.le_of_ble_eq_true rfl⟩ ⟨zfit (k := 4) (z := 126) rfl rfl (by omega), zfit (k := 38) (z := 1232) rfl rfl (by omega)⟩ dX1_ofElement_19) ⟨zad (k := 4) rfl (by omega), zad (k := 38) rfl (by omega)⟩ hS (fun _ z => z.elim) (fun r H12 locs hp hF hS1 => ?_)
          obtain ⟨_, rfl, rfl⟩ := hp
          have hP := zpk hP hF
          have hP : va_P G.1 zCl ([]) H12 := hP
          have hD : va_D (zA M0 H0) ([]) := hD
          have hH1 : HC G s0 ρ σ H12 := hH1.ext0 hE hF
          have hS := hS1
          exact z_iret hC hrt hlk hQ hS ⟨zle (z := 126) rfl (by omega), zle (z := 1232) rfl (by omega)⟩ ⟨_, rfl, a, 6, ⟨by omega, by omega⟩, ⟨by omega, by decide⟩, rfl⟩ dX1_ofElement_22
      · have ew9 : w = 7 := by omega
        refine z_top (b := 7) (ew9) ?_
        refine z_go 4 31 (z_runV (As := [.int (iI ((a : Nat) : Int)), .int (iI 7)]) (rest := []) hC hml hl.1 (m_X1_ofElementNow_7 hE H5 (hO.ext0 (zS_F hS)) ρ σ a hH1 (by omega)) (lw_V q451 q453 qs14 q62 q454) rfl nd_X1_ofElementNow rfl (z_rv hC (ci := 0) rfl hxx rfl) rfl (Nat.le_of_ble_eq_true rfl) ⟨Nat.le_of_ble_eq_true rfl, Nat.le_of_ble_eq_true rfl⟩ ⟨zfit (k := 2) (z := 126) rfl rfl (by omega), zfit (k := 19) (z := 1232) rfl rfl (by omega)⟩ dX1_ofElement_19) ⟨zad (k := 2) rfl (by omega), zad (k := 19) rfl (by omega)⟩ hS (fun _ z => z.elim) (fun r H13 locs hp hF hS1 => ?_)
        obtain ⟨_, rfl, rfl⟩ := hp
        have hP := zpk hP hF
        have hP : va_P G.1 zCl ([]) H13 := hP
        have hD : va_D (zA M0 H0) ([]) := hD
        have hH1 : HC G s0 ρ σ H13 := hH1.ext0 hE hF
        have hS := hS1
        exact z_iret hC hrt hlk hQ hS ⟨zle (z := 126) rfl (by omega), zle (z := 1232) rfl (by omega)⟩ ⟨_, rfl, a, 7, ⟨by omega, by omega⟩, ⟨by omega, by decide⟩, rfl⟩ dX1_ofElement_22
    · rcases (show w ≤ 8 ∨ 9 ≤ w from by omega) with hw9 | hw9
      · have ew9 : w = 8 := by omega
        refine z_top (b := 8) (ew9) ?_
        refine z_go 20 300 (z_runV (As := [.int (iI ((a : Nat) : Int)), .int (iI 8)]) (rest := []) hC hml hl.1 (m_X1_ofElementNow_8 hE H5 (hO.ext0 (zS_F hS)) ρ σ a hH1 (by omega)) (lw_V q451 q453 qs14 q62 q454) rfl nd_X1_ofElementNow rfl (z_rv hC (ci := 0) rfl hxx rfl) rfl (Nat.le_of_ble_eq_true rfl) ⟨Nat.le_of_ble_eq_true rfl, Nat.le_of_ble_eq_true rfl⟩ ⟨zfit (k := 18) (z := 126) rfl rfl (by omega), zfit (k := 288) (z := 1232) rfl rfl (by omega)⟩ dX1_ofElement_19) ⟨zad (k := 18) rfl (by omega), zad (k := 288) rfl (by omega)⟩ hS (fun _ z => z.elim) (fun r H14 locs hp hF hS1 => ?_)
        obtain ⟨_, rfl, rfl⟩ := hp
        have hP := zpk hP hF
        have hP : va_P G.1 zCl ([]) H14 := hP
        have hD : va_D (zA M0 H0) ([]) := hD
        have hH1 : HC G s0 ρ σ H14 := hH1.ext0 hE hF
        have hS := hS1
        exact z_iret hC hrt hlk hQ hS ⟨zle (z := 126) rfl (by omega), zle (z := 1232) rfl (by omega)⟩ ⟨_, rfl, a, 8, ⟨by omega, by omega⟩, ⟨by omega, by decide⟩, rfl⟩ dX1_ofElement_22
      · have ew9 : w = 9 := by omega
        refine z_top (b := 9) (ew9) ?_
        refine z_go 20 300 (z_runV (As := [.int (iI ((a : Nat) : Int)), .int (iI 9)]) (rest := []) hC hml hl.1 (m_X1_ofElementNow_9 hE H5 (hO.ext0 (zS_F hS)) ρ σ a hH1 (by omega)) (lw_V q451 q453 qs14 q62 q454) rfl nd_X1_ofElementNow rfl (z_rv hC (ci := 0) rfl hxx rfl) rfl (Nat.le_of_ble_eq_true rfl) ⟨Nat.le_of_ble_eq_true rfl, Nat.le_of_ble_eq_true rfl⟩ ⟨zfit (k := 18) (z := 126) rfl rfl (by omega), zfit (k := 288) (z := 1232) rfl rfl (by omega)⟩ dX1_ofElement_19) ⟨zad (k := 18) rfl (by omega), zad (k := 288) rfl (by omega)⟩ hS (fun _ z => z.elim) (fun r H15 locs hp hF hS1 => ?_)
        obtain ⟨_, rfl, rfl⟩ := hp
        have hP := zpk hP hF
        have hP : va_P G.1 zCl ([]) H15 := hP
        have hD : va_D (zA M0 H0) ([]) := hD
        have hH1 : HC G s0 ρ σ H15 := hH1.ext0 hE hF
        have hS := hS1
        exact z_iret hC hrt hlk hQ hS ⟨zle (z := 126) rfl (by omega), zle (z := 1232) rfl (by omega)⟩ ⟨_, rfl, a, 9, ⟨by omega, by omega⟩, ⟨by omega, by decide⟩, rfl⟩ dX1_ofElement_22

