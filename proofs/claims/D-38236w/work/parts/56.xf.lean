/-! THE HOUSE: many -/
set_option maxRecDepth 100000
def leS (σ : St) : Int := suZ (leF σ) (St_ne σ)
theorem leS_in {σ : St} (h : St_ne σ ≤ 10) : -310 ≤ leS σ ∧ leS σ ≤ 310 := by
  have := suZ_in (f := leF σ) (B := 31) (n := St_ne σ) (fun j hj => lnV_in _ _ _)
  unfold leS; omega
def myV (σ : St) (w : Nat) : Int := if w = 7 then Int.tdiv (leS σ) 4 else (maV σ w : Nat)
abbrev rm_m_X1_manyNow_7 : Room := { frames := 4, cells := 1, slots := 4, locals := 90 }
set_option maxHeartbeats 4000000 in
theorem m_X1_manyNow_7 {l : Launch} {s0 : State} {G : zG} (hE : zE l s0 G) (H0 : Heap) (hO : zO s0 H0) (ρ : Ro → Nat) (σ : St) (hh : HC G s0 ρ σ H0) : zM l s0 yX1_manyNow cX1_manyNow 2 (some FieldType.int) rm_m_X1_manyNow_7 [.ref (ρ (0, 0, 0)), .int (iI 7)] H0 M0 (ri (fun y _ => y = Int.tdiv (leS σ) 4)) := by
  refine z_met hE (by decide +kernel) (Nat.le_of_ble_eq_true rfl) ?_
  intro pp ee ss mm args below meth cd Q ls hC hml hrt hlk hnm hH hQ hS hl
  have hx := hC.x
  have hb := hC.b
  have hl : lv_has ls 2 [(0, .ref (ρ (0, 0, 0))), (1, .int (iI 7))] := hl
  have hP : va_P G.1 zCl [] H0 := va_nil
  have hD : va_D (zA M0 H0) [] := va_nilD
  have hH1 := hh
  obtain ⟨hp, hna, hal, hne9, hel9, hmr9⟩ := id hh.ok
  have hp7 : 0 < St_p σ ∧ St_p σ ≤ 7 := by rcases hp with h | h | h <;> rw [h] <;> decide
  obtain ⟨sm9, -⟩ := id hh.2.2.1.1
  obtain ⟨sm, hxx⟩ := id hH1.2.2.1.1
  refine lv_iload_n hx hb dX1_manyNow_0 rfl (lv_at hl 1 rfl) ?_
  refine lv_tableOut (tgt := 87) hx hb dX1_manyNow_1 (by decide) (by decide) ?_
  refine lv_aload_n hx hb dX1_manyNow_87 rfl (lv_at hl 0 rfl) ?_
  refine z_go 1 4 (z_runV (As := []) (rest := []) hC hml hl.1 (m_X1_leans hE H0 (hO.ext0 (zS_F hS)) ρ σ hH1) (lw_V q237 q239 qs0 q62 q240) rfl nd_X1_leans rfl (z_rv hC (ci := 0) rfl hxx rfl) rfl (Nat.le_of_ble_eq_true rfl) ⟨Nat.le_of_ble_eq_true rfl, Nat.le_of_ble_eq_true rfl⟩ ⟨zfit (k := 1) (z := 1) rfl rfl (by omega), zfit (k := 4) (z := 4) rfl rfl (by omega)⟩ dX1_manyNow_88) ⟨zad (k := 1) rfl (by omega), zad (k := 4) rfl (by omega)⟩ hS (fun _ z => z.elim) (fun r H1 locs hp hF hS1 => ?_)
  obtain ⟨_, rfl, rfl⟩ := hp
  have hP := zpk hP hF
  have hP : va_P G.1 zCl ([]) H1 := hP
  have hD : va_D (zA M0 H0) ([]) := hD
  have hH1 : HC G s0 ρ σ H1 := hH1.ext0 hE hF
  have hS := hS1
  have hls := leS_in hne9
  refine z_f2l hx hb dX1_manyNow_91 ?_
  refine lv_l2i hx hb dX1_manyNow_92 (fq_L (z := leS σ) (by omega)) ?_
  exact z_iret hC hrt hlk hQ hS ⟨zle (z := 1) rfl (by omega), zle (z := 4) rfl (by omega)⟩ ⟨_, rfl, rfl⟩ dX1_manyNow_93

abbrev rm_m_X1_many : Room := { frames := 7, cells := 61, slots := 706, locals := 151 }
set_option maxHeartbeats 4000000 in
theorem m_X1_many {l : Launch} {s0 : State} {G : zG} (hE : zE l s0 G) (H0 : Heap) (hO : zO s0 H0) (ρ : Ro → Nat) (σ : St) (w : Int) (hh : HC G s0 ρ σ H0) (hi : zi w) : zMX l s0 yX1_many cX1_many 2 (some FieldType.int) rm_m_X1_many [.ref (ρ (0, 0, 0)), .int (iI w)] H0 M0 (ri (fun y _ => ∃ t : Nat, (w = t ∧ t ≤ 7) ∧ y = myV σ t)) (fun E _ => E = "java/lang/IllegalArgumentException" ∧ ¬ (0 ≤ w ∧ w ≤ 7)) := by
  refine z_metX hE (by decide +kernel) (Nat.le_of_ble_eq_true rfl) ?_
  intro pp ee ss mm args below meth cd Q ls hC hml hrt hlk hnm hH hQ hno hX hS hl
  have hx := hC.x
  have hb := hC.b
  have hl : lv_has ls 2 [(0, .ref (ρ (0, 0, 0))), (1, .int (iI w))] := hl
  have hP : va_P G.1 zCl [] H0 := va_nil
  have hD : va_D (zA M0 H0) [] := va_nilD
  have hH1 := hh
  obtain ⟨hp, hna, hal, hne9, hel9, hmr9⟩ := id hh.ok
  have hp7 : 0 < St_p σ ∧ St_p σ ≤ 7 := by rcases hp with h | h | h <;> rw [h] <;> decide
  obtain ⟨sm9, -⟩ := id hh.2.2.1.1
  refine lv_iconst (v := iI 0) hx hb dX1_many_0 rfl ?_
  refine lv_bipush (v := iI 7) hx hb dX1_many_1 (by decide) ?_
  refine lv_iload_n hx hb dX1_many_3 rfl (lv_at hl 1 rfl) ?_
  refine z_go 0 0 (z_runS (As := [.int (iI 0), .int (iI 7), .int (iI w)]) (rest := []) hC hml hl.1 (m_X1_isFrom hE H0 (hO.ext0 (zS_F hS)) 0 7 w ⟨by decide, by decide, hi⟩) (lw_S q944 q350 q62 q351) nd_X1_isFrom rfl rfl (Nat.le_of_ble_eq_true rfl) ⟨Nat.le_of_ble_eq_true rfl, Nat.le_of_ble_eq_true rfl⟩ ⟨zfit (k := 0) (z := 61) rfl rfl (by omega), zfit (k := 0) (z := 706) rfl rfl (by omega)⟩ dX1_many_4) ⟨zad (k := 0) rfl (by omega), zad (k := 0) rfl (by omega)⟩ hS (fun _ z => z.elim) (fun r H1 locs hp hF hS1 => ?_)
  obtain ⟨_, rfl, rfl⟩ := hp
  have hP := zpk hP hF
  have hP : va_P G.1 zCl ([]) H1 := hP
  have hD : va_D (zA M0 H0) ([]) := hD
  have hH1 : HC G s0 ρ σ H1 := hH1.ext0 hE hF
  have hS := hS1
  obtain ⟨fl, hfl, hfl2⟩ : ∃ fl : Nat, fl ≤ 1 ∧ (if 0 ≤ w ∧ w ≤ 7 then (1 : Int) else 0) = fl ∧ (fl = 1 ↔ 0 ≤ w ∧ w ≤ 7) := by by_cases h : 0 ≤ w ∧ w ≤ 7; exact ⟨1, by decide, by rw [if_pos h]; rfl, by simp [h]⟩; exact ⟨0, by decide, by rw [if_neg h]; rfl, by simp [h]⟩
  refine z_top (b := ((fl : Nat) : Int)) (hfl2.1) ?_
  refine z_goX 1 6 (z_runSx (As := [.int (iI ((fl : Nat) : Int))]) (rest := []) hC hml hl.1 (m_X1_require hE H1 (hO.ext0 (zS_F hS)) fl hfl) (lw_S q905 q906 q62 q907) nd_X1_require rfl rfl (Nat.le_of_ble_eq_true rfl) ⟨Nat.le_of_ble_eq_true rfl, Nat.le_of_ble_eq_true rfl⟩ ⟨zfit (k := 1) (z := 61) rfl rfl (by omega), zfit (k := 6) (z := 706) rfl rfl (by omega)⟩ dX1_many_7) ⟨zad (k := 1) rfl (by omega), zad (k := 6) rfl (by omega)⟩ hS (fun _ z => z.elim) (fun E ce q9 Hx2 locs hp hF hS1 hce hcv hcl => ?_) (fun r H3 locs hp hF hS1 => ?_)
  · exact z_out hno hlk hX hS1 ⟨zle (z := 61) rfl (by omega), zle (z := 706) rfl (by omega)⟩ hce hcv hcl (⟨hp.1, fun z => by have := hfl2.2.mpr z; have := hp.2; omega⟩)
  obtain ⟨rfl, hfl1⟩ := hp
  have hP := zpk hP hF
  have hP : va_P G.1 zCl ([]) H3 := hP
  have hD : va_D (zA M0 H0) ([]) := hD
  have hH1 : HC G s0 ρ σ H3 := hH1.ext0 hE hF
  have hS := hS1
  have htp := hfl2.2.mp hfl1
  obtain ⟨sm, hxx⟩ := id hH1.2.2.1.1
  refine lv_aload_n hx hb dX1_many_10 rfl (lv_at hl 0 rfl) ?_
  refine lv_iload_n hx hb dX1_many_11 rfl (lv_at hl 1 rfl) ?_
  rcases (show w ≤ 3 ∨ 4 ≤ w from by omega) with hw9 | hw9
  · rcases (show w ≤ 1 ∨ 2 ≤ w from by omega) with hw9 | hw9
    · rcases (show w ≤ 0 ∨ 1 ≤ w from by omega) with hw9 | hw9
      · have ew9 : w = 0 := by omega
        refine z_top (b := 0) (ew9) ?_
        refine z_go 1 6 (z_runV (As := [.int (iI 0)]) (rest := []) hC hml hl.1 (m_X1_manyNow_0 hE H3 (hO.ext0 (zS_F hS)) ρ σ hH1) (lw_V q288 q290 qs2 q62 q291) rfl nd_X1_manyNow rfl (z_rv hC (ci := 0) rfl hxx rfl) rfl (Nat.le_of_ble_eq_true rfl) ⟨Nat.le_of_ble_eq_true rfl, Nat.le_of_ble_eq_true rfl⟩ ⟨zfit (k := 0) (z := 61) rfl rfl (by omega), zfit (k := 0) (z := 706) rfl rfl (by omega)⟩ dX1_many_12) ⟨zad (k := 0) rfl (by omega), zad (k := 0) rfl (by omega)⟩ hS (fun _ z => z.elim) (fun r H4 locs hp hF hS1 => ?_)
        obtain ⟨_, rfl, rfl⟩ := hp
        have hP := zpk hP hF
        have hP : va_P G.1 zCl ([]) H4 := hP
        have hD : va_D (zA M0 H0) ([]) := hD
        have hH1 : HC G s0 ρ σ H4 := hH1.ext0 hE hF
        have hS := hS1
        exact z_iret hC hrt hlk hQ hS ⟨zle (z := 61) rfl (by omega), zle (z := 706) rfl (by omega)⟩ ⟨_, rfl, 0, ⟨by omega, by omega⟩, rfl⟩ dX1_many_15
      · have ew9 : w = 1 := by omega
        refine z_top (b := 1) (ew9) ?_
        refine z_go 1 6 (z_runV (As := [.int (iI 1)]) (rest := []) hC hml hl.1 (m_X1_manyNow_1 hE H3 (hO.ext0 (zS_F hS)) ρ σ hH1) (lw_V q288 q290 qs2 q62 q291) rfl nd_X1_manyNow rfl (z_rv hC (ci := 0) rfl hxx rfl) rfl (Nat.le_of_ble_eq_true rfl) ⟨Nat.le_of_ble_eq_true rfl, Nat.le_of_ble_eq_true rfl⟩ ⟨zfit (k := 0) (z := 61) rfl rfl (by omega), zfit (k := 0) (z := 706) rfl rfl (by omega)⟩ dX1_many_12) ⟨zad (k := 0) rfl (by omega), zad (k := 0) rfl (by omega)⟩ hS (fun _ z => z.elim) (fun r H5 locs hp hF hS1 => ?_)
        obtain ⟨_, rfl, rfl⟩ := hp
        have hP := zpk hP hF
        have hP : va_P G.1 zCl ([]) H5 := hP
        have hD : va_D (zA M0 H0) ([]) := hD
        have hH1 : HC G s0 ρ σ H5 := hH1.ext0 hE hF
        have hS := hS1
        exact z_iret hC hrt hlk hQ hS ⟨zle (z := 61) rfl (by omega), zle (z := 706) rfl (by omega)⟩ ⟨_, rfl, 1, ⟨by omega, by omega⟩, rfl⟩ dX1_many_15
    · rcases (show w ≤ 2 ∨ 3 ≤ w from by omega) with hw9 | hw9
      · have ew9 : w = 2 := by omega
        refine z_top (b := 2) (ew9) ?_
        refine z_go 1 6 (z_runV (As := [.int (iI 2)]) (rest := []) hC hml hl.1 (m_X1_manyNow_2 hE H3 (hO.ext0 (zS_F hS)) ρ σ hH1) (lw_V q288 q290 qs2 q62 q291) rfl nd_X1_manyNow rfl (z_rv hC (ci := 0) rfl hxx rfl) rfl (Nat.le_of_ble_eq_true rfl) ⟨Nat.le_of_ble_eq_true rfl, Nat.le_of_ble_eq_true rfl⟩ ⟨zfit (k := 0) (z := 61) rfl rfl (by omega), zfit (k := 0) (z := 706) rfl rfl (by omega)⟩ dX1_many_12) ⟨zad (k := 0) rfl (by omega), zad (k := 0) rfl (by omega)⟩ hS (fun _ z => z.elim) (fun r H6 locs hp hF hS1 => ?_)
        obtain ⟨_, rfl, rfl⟩ := hp
        have hP := zpk hP hF
        have hP : va_P G.1 zCl ([]) H6 := hP
        have hD : va_D (zA M0 H0) ([]) := hD
        have hH1 : HC G s0 ρ σ H6 := hH1.ext0 hE hF
        have hS := hS1
        exact z_iret hC hrt hlk hQ hS ⟨zle (z := 61) rfl (by omega), zle (z := 706) rfl (by omega)⟩ ⟨_, rfl, 2, ⟨by omega, by omega⟩, rfl⟩ dX1_many_15
      · have ew9 : w = 3 := by omega
        refine z_top (b := 3) (ew9) ?_
        refine z_go 2 10 (z_runV (As := [.int (iI 3)]) (rest := []) hC hml hl.1 (m_X1_manyNow_3 hE H3 (hO.ext0 (zS_F hS)) ρ σ hH1) (lw_V q288 q290 qs2 q62 q291) rfl nd_X1_manyNow rfl (z_rv hC (ci := 0) rfl hxx rfl) rfl (Nat.le_of_ble_eq_true rfl) ⟨Nat.le_of_ble_eq_true rfl, Nat.le_of_ble_eq_true rfl⟩ ⟨zfit (k := 1) (z := 61) rfl rfl (by omega), zfit (k := 4) (z := 706) rfl rfl (by omega)⟩ dX1_many_12) ⟨zad (k := 1) rfl (by omega), zad (k := 4) rfl (by omega)⟩ hS (fun _ z => z.elim) (fun r H7 locs hp hF hS1 => ?_)
        obtain ⟨_, rfl, rfl⟩ := hp
        have hP := zpk hP hF
        have hP : va_P G.1 zCl ([]) H7 := hP
        have hD : va_D (zA M0 H0) ([]) := hD
        have hH1 : HC G s0 ρ σ H7 := hH1.ext0 hE hF
        have hS := hS1
        exact z_iret hC hrt hlk hQ hS ⟨zle (z := 61) rfl (by omega), zle (z := 706) rfl (by omega)⟩ ⟨_, rfl, 3, ⟨by omega, by omega⟩, rfl⟩ dX1_many_15
  · rcases (show w ≤ 5 ∨ 6 ≤ w from by omega) with hw9 | hw9
    · rcases (show w ≤ 4 ∨ 5 ≤ w from by omega) with hw9 | hw9
      · have ew9 : w = 4 := by omega
        refine z_top (b := 4) (ew9) ?_
        refine z_go 61 706 (z_runV (As := [.int (iI 4)]) (rest := []) hC hml hl.1 (m_X1_manyNow_4 hE H3 (hO.ext0 (zS_F hS)) ρ σ hH1) (lw_V q288 q290 qs2 q62 q291) rfl nd_X1_manyNow rfl (z_rv hC (ci := 0) rfl hxx rfl) rfl (Nat.le_of_ble_eq_true rfl) ⟨Nat.le_of_ble_eq_true rfl, Nat.le_of_ble_eq_true rfl⟩ ⟨zfit (k := 60) (z := 61) rfl rfl (by omega), zfit (k := 700) (z := 706) rfl rfl (by omega)⟩ dX1_many_12) ⟨zad (k := 60) rfl (by omega), zad (k := 700) rfl (by omega)⟩ hS (fun _ z => z.elim) (fun r H8 locs hp hF hS1 => ?_)
        obtain ⟨_, rfl, rfl⟩ := hp
        have hP := zpk hP hF
        have hP : va_P G.1 zCl ([]) H8 := hP
        have hD : va_D (zA M0 H0) ([]) := hD
        have hH1 : HC G s0 ρ σ H8 := hH1.ext0 hE hF
        have hS := hS1
        exact z_iret hC hrt hlk hQ hS ⟨zle (z := 61) rfl (by omega), zle (z := 706) rfl (by omega)⟩ ⟨_, rfl, 4, ⟨by omega, by omega⟩, rfl⟩ dX1_many_15
      · have ew9 : w = 5 := by omega
        refine z_top (b := 5) (ew9) ?_
        refine z_go 61 706 (z_runV (As := [.int (iI 5)]) (rest := []) hC hml hl.1 (m_X1_manyNow_5 hE H3 (hO.ext0 (zS_F hS)) ρ σ hH1) (lw_V q288 q290 qs2 q62 q291) rfl nd_X1_manyNow rfl (z_rv hC (ci := 0) rfl hxx rfl) rfl (Nat.le_of_ble_eq_true rfl) ⟨Nat.le_of_ble_eq_true rfl, Nat.le_of_ble_eq_true rfl⟩ ⟨zfit (k := 60) (z := 61) rfl rfl (by omega), zfit (k := 700) (z := 706) rfl rfl (by omega)⟩ dX1_many_12) ⟨zad (k := 60) rfl (by omega), zad (k := 700) rfl (by omega)⟩ hS (fun _ z => z.elim) (fun r H9 locs hp hF hS1 => ?_)
        obtain ⟨_, rfl, rfl⟩ := hp
        have hP := zpk hP hF
        have hP : va_P G.1 zCl ([]) H9 := hP
        have hD : va_D (zA M0 H0) ([]) := hD
        have hH1 : HC G s0 ρ σ H9 := hH1.ext0 hE hF
        have hS := hS1
        exact z_iret hC hrt hlk hQ hS ⟨zle (z := 61) rfl (by omega), zle (z := 706) rfl (by omega)⟩ ⟨_, rfl, 5, ⟨by omega, by omega⟩, rfl⟩ dX1_many_15
    · rcases (show w ≤ 6 ∨ 7 ≤ w from by omega) with hw9 | hw9
      · have ew9 : w = 6 := by omega
        refine z_top (b := 6) (ew9) ?_
        refine z_go 1 6 (z_runV (As := [.int (iI 6)]) (rest := []) hC hml hl.1 (m_X1_manyNow_6 hE H3 (hO.ext0 (zS_F hS)) ρ σ hH1) (lw_V q288 q290 qs2 q62 q291) rfl nd_X1_manyNow rfl (z_rv hC (ci := 0) rfl hxx rfl) rfl (Nat.le_of_ble_eq_true rfl) ⟨Nat.le_of_ble_eq_true rfl, Nat.le_of_ble_eq_true rfl⟩ ⟨zfit (k := 0) (z := 61) rfl rfl (by omega), zfit (k := 0) (z := 706) rfl rfl (by omega)⟩ dX1_many_12) ⟨zad (k := 0) rfl (by omega), zad (k := 0) rfl (by omega)⟩ hS (fun _ z => z.elim) (fun r H10 locs hp hF hS1 => ?_)
        obtain ⟨_, rfl, rfl⟩ := hp
        have hP := zpk hP hF
        have hP : va_P G.1 zCl ([]) H10 := hP
        have hD : va_D (zA M0 H0) ([]) := hD
        have hH1 : HC G s0 ρ σ H10 := hH1.ext0 hE hF
        have hS := hS1
        exact z_iret hC hrt hlk hQ hS ⟨zle (z := 61) rfl (by omega), zle (z := 706) rfl (by omega)⟩ ⟨_, rfl, 6, ⟨by omega, by omega⟩, rfl⟩ dX1_many_15
      · have ew9 : w = 7 := by omega
        refine z_top (b := 7) (ew9) ?_
        refine z_go 2 10 (z_runV (As := [.int (iI 7)]) (rest := []) hC hml hl.1 (m_X1_manyNow_7 hE H3 (hO.ext0 (zS_F hS)) ρ σ hH1) (lw_V q288 q290 qs2 q62 q291) rfl nd_X1_manyNow rfl (z_rv hC (ci := 0) rfl hxx rfl) rfl (Nat.le_of_ble_eq_true rfl) ⟨Nat.le_of_ble_eq_true rfl, Nat.le_of_ble_eq_true rfl⟩ ⟨zfit (k := 1) (z := 61) rfl rfl (by omega), zfit (k := 4) (z := 706) rfl rfl (by omega)⟩ dX1_many_12) ⟨zad (k := 1) rfl (by omega), zad (k := 4) rfl (by omega)⟩ hS (fun _ z => z.elim) (fun r H11 locs hp hF hS1 => ?_)
        obtain ⟨_, rfl, rfl⟩ := hp
        have hP := zpk hP hF
        have hP : va_P G.1 zCl ([]) H11 := hP
        have hD : va_D (zA M0 H0) ([]) := hD
        have hH1 : HC G s0 ρ σ H11 := hH1.ext0 hE hF
        have hS := hS1
        exact z_iret hC hrt hlk hQ hS ⟨zle (z := 61) rfl (by omega), zle (z := 706) rfl (by omega)⟩ ⟨_, rfl, 7, ⟨by omega, by omega⟩, rfl⟩ dX1_many_15

