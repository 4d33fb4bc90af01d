/-! THE HOUSE: sums over what it holds -/
set_option maxRecDepth 100000
abbrev rm_m_J8_ordinal : Room := { frames := 0, cells := 0, slots := 0, locals := 0 }
set_option maxHeartbeats 4000000 in
theorem m_J8_ordinal {l : Launch} {s0 : State} {G : zG} (hE : zE l s0 G) (H0 : Heap) (hO : zO s0 H0) (kd : Nat) (hk : kd = 0 ∨ kd = 1) : zM l s0 yJ8_ordinal cJ8_ordinal 1 (some FieldType.int) rm_m_J8_ordinal [.ref (G.2 (10 + kd))] H0 M0 (ri (fun y _ => y = (kd : Nat))) := by
  refine z_met hE (by decide +kernel) (Nat.le_of_ble_eq_true rfl) ?_
  intro pp ee ss mm args below meth cd Q ls hC hml hrt hlk hnm hH hQ hS hl
  have hx := hC.x
  have hb := hC.b
  have hl : lv_has ls 1 [(0, .ref (G.2 (10 + kd)))] := hl
  have hP : va_P G.1 zCl [] H0 := va_nil
  have hD : va_D (zA M0 H0) [] := va_nilD
  refine lv_aload_n hx hb dJ8_ordinal_0 rfl (lv_at hl 0 rfl) ?_
  rcases hk with rfl | rfl
  · refine z_getOF hC (hO.ext0 (zS_F hS)) hE.2.2.2.1.1.2.2.2.2.1 q1996 dJ8_ordinal_1 ?_
    exact z_iret hC hrt hlk hQ hS ⟨zle (z := 0) rfl (by omega), zle (z := 0) rfl (by omega)⟩ ⟨_, rfl, rfl⟩ dJ8_ordinal_4
  · refine z_getOF hC (hO.ext0 (zS_F hS)) hE.2.2.2.1.1.2.2.2.2.2.1 q1996 dJ8_ordinal_1 ?_
    exact z_iret hC hrt hlk hQ hS ⟨zle (z := 0) rfl (by omega), zle (z := 0) rfl (by omega)⟩ ⟨_, rfl, rfl⟩ dJ8_ordinal_4

abbrev rm_m_X1_ofAlgebraNow_0 : Room := { frames := 3, cells := 0, slots := 0, locals := 64 }
set_option maxHeartbeats 4000000 in
theorem m_X1_ofAlgebraNow_0 {l : Launch} {s0 : State} {G : zG} (hE : zE l s0 G) (H0 : Heap) (hO : zO s0 H0) (ρ : Ro → Nat) (σ : St) (k : Nat) (hh : HC G s0 ρ σ H0) (hk : k < St_na σ) : zM l s0 yX1_ofAlgebraNow cX1_ofAlgebraNow 4 (some FieldType.int) rm_m_X1_ofAlgebraNow_0 [.ref (ρ (0, 0, 0)), .int (iI ((k : Nat) : Int)), .int (iI 0)] H0 M0 (ri (fun y _ => y = oaV σ k 0)) := by
  refine z_met hE (by decide +kernel) (Nat.le_of_ble_eq_true rfl) ?_
  intro pp ee ss mm args below meth cd Q ls hC hml hrt hlk hnm hH hQ hS hl
  have hx := hC.x
  have hb := hC.b
  have hl : lv_has ls 4 [(0, .ref (ρ (0, 0, 0))), (1, .int (iI ((k : Nat) : Int))), (2, .int (iI 0))] := hl
  have hP : va_P G.1 zCl [] H0 := va_nil
  have hD : va_D (zA M0 H0) [] := va_nilD
  have hH1 := hh
  obtain ⟨hp, hna, hal, hne9, hel9, hmr9⟩ := id hh.ok
  have hp7 : 0 < St_p σ ∧ St_p σ ≤ 7 := by rcases hp with h | h | h <;> rw [h] <;> decide
  obtain ⟨sm9, -⟩ := id hh.2.2.1.1
  obtain ⟨sm, hxx⟩ := id hH1.2.2.1.1
  refine lv_aload_n hx hb dX1_ofAlgebraNow_0 rfl (lv_at hl 0 rfl) ?_
  refine z_get hC (k := 1) rfl in_X1 hxx (by decide) q152 (fun _ h => h) rfl dX1_ofAlgebraNow_1 ?_
  refine lv_iload_n hx hb dX1_ofAlgebraNow_4 rfl (lv_at hl 1 rfl) ?_
  obtain ⟨mda, hLa⟩ := id hH1.2.2.1.2.1
  refine z_go 0 0 (z_runV (As := [.int (iI ((k : Nat) : Int))]) (rest := []) hC hml hl.1 (m_J2_get hE H0 (hO.ext0 (zS_F hS)) (ρ (1, 0, 0)) (St_na σ) (fun k => ρ (6, k, 0)) (ρ (2, 0, 0)) mda k hLa hk) (lw_V q372 q373 q374 q65 q375) rfl nd_J2_get rfl (z_rv hC (ci := 8) rfl hLa.1 rfl) rfl (Nat.le_of_ble_eq_true rfl) ⟨Nat.le_of_ble_eq_true rfl, Nat.le_of_ble_eq_true rfl⟩ ⟨zfit (k := 0) (z := 0) rfl rfl (by omega), zfit (k := 0) (z := 0) rfl rfl (by omega)⟩ dX1_ofAlgebraNow_5) ⟨zad (k := 0) rfl (by omega), zad (k := 0) rfl (by omega)⟩ hS (fun _ z => z.elim) (fun r H1 locs hp hF hS1 => ?_)
  obtain ⟨_, rfl, rfl⟩ := hp
  have hP := zpk hP hF
  have hP : va_P G.1 zCl ([]) H1 := hP
  have hD : va_D (zA M0 H0) ([]) := hD
  have hH1 : HC G s0 ρ σ H1 := hH1.ext0 hE hF
  have hS := hS1
  have hkk := hH1.2.2.2.1 k (by omega)
  have hAk := hH1.ag (k := k) (by omega)
  obtain ⟨hn16k, -⟩ := hAk.n
  have halk := hal k (by omega)
  refine z_cast hC (ci := 4) rfl hkk.1 rfl q296 dX1_ofAlgebraNow_8 ?_
  refine lv_astore_n (lv' := [(3, .ref (ρ (6, k, 0))), (0, .ref (ρ (0, 0, 0))), (1, .int (iI ((k : Nat) : Int))), (2, .int (iI 0))]) hx hb dX1_ofAlgebraNow_11 rfl hl (by decide) rfl (fun ls hl => ?_)
  refine lv_iload_n hx hb dX1_ofAlgebraNow_12 rfl (lv_at hl 3 rfl) ?_
  refine lv_tableIn (off := 35) (tgt := 48) hx hb dX1_ofAlgebraNow_13 (by decide) (by decide) rfl (by decide) ?_
  refine lv_aload_n hx hb dX1_ofAlgebraNow_48 rfl (lv_at hl 0 rfl) ?_
  refine z_getn hC (k := 0) rfl in_X5 hkk.1 (by decide) q957 (fun _ h => h) rfl dX1_ofAlgebraNow_49 ?_
  rcases (show St_kd σ k = 0 ∨ St_kd σ k = 1 from by omega) with ekd | ekd
  · refine z_go 0 0 (z_runA (n := 0) (As := []) (rest := []) hC hml hl.1 (m_J8_ordinal hE H1 (hO.ext0 (zS_F hS)) (St_kd σ k) (by omega)) q392 q386 q387 q389 q391 q75 q388 ⟨by decide +kernel, by decide +kernel, by decide +kernel⟩ rfl (z_k1 hE hC.w (hO.ext0 (zS_F hS)) ekd) rfl (Nat.le_of_ble_eq_true rfl) ⟨Nat.le_of_ble_eq_true rfl, Nat.le_of_ble_eq_true rfl⟩ ⟨zfit (k := 0) (z := 0) rfl rfl (by omega), zfit (k := 0) (z := 0) rfl rfl (by omega)⟩ dX1_ofAlgebraNow_52) ⟨zad (k := 0) rfl (by omega), zad (k := 0) rfl (by omega)⟩ hS (fun _ z => z.elim) (fun r H2 locs hp hF hS1 => ?_)
    obtain ⟨_, rfl, rfl⟩ := hp
    have hP := zpk hP hF
    have hP : va_P G.1 zCl ([]) H2 := hP
    have hD : va_D (zA M0 H0) ([]) := hD
    have hH1 : HC G s0 ρ σ H2 := hH1.ext0 hE hF
    have hS := hS1
    exact z_iret hC hrt hlk hQ hS ⟨zle (z := 0) rfl (by omega), zle (z := 0) rfl (by omega)⟩ ⟨_, rfl, rfl⟩ dX1_ofAlgebraNow_55
  · refine z_go 0 0 (z_runA (n := 0) (As := []) (rest := []) hC hml hl.1 (m_J8_ordinal hE H1 (hO.ext0 (zS_F hS)) (St_kd σ k) (by omega)) q392 q386 q387 q390 q391 q75 q388 ⟨by decide +kernel, by decide +kernel, by decide +kernel⟩ rfl (z_k2 hE hC.w (hO.ext0 (zS_F hS)) ekd) rfl (Nat.le_of_ble_eq_true rfl) ⟨Nat.le_of_ble_eq_true rfl, Nat.le_of_ble_eq_true rfl⟩ ⟨zfit (k := 0) (z := 0) rfl rfl (by omega), zfit (k := 0) (z := 0) rfl rfl (by omega)⟩ dX1_ofAlgebraNow_52) ⟨zad (k := 0) rfl (by omega), zad (k := 0) rfl (by omega)⟩ hS (fun _ z => z.elim) (fun r H3 locs hp hF hS1 => ?_)
    obtain ⟨_, rfl, rfl⟩ := hp
    have hP := zpk hP hF
    have hP : va_P G.1 zCl ([]) H3 := hP
    have hD : va_D (zA M0 H0) ([]) := hD
    have hH1 : HC G s0 ρ σ H3 := hH1.ext0 hE hF
    have hS := hS1
    exact z_iret hC hrt hlk hQ hS ⟨zle (z := 0) rfl (by omega), zle (z := 0) rfl (by omega)⟩ ⟨_, rfl, rfl⟩ dX1_ofAlgebraNow_55

abbrev rm_m_X1_ofAlgebra : Room := { frames := 8, cells := 3, slots := 16, locals := 132 }
set_option maxHeartbeats 4000000 in
theorem m_X1_ofAlgebra {l : Launch} {s0 : State} {G : zG} (hE : zE l s0 G) (H0 : Heap) (hO : zO s0 H0) (ρ : Ro → Nat) (σ : St) (i w : Int) (hh : HC G s0 ρ σ H0) (hi : zi i ∧ zi w) : zMX l s0 yX1_ofAlgebra cX1_ofAlgebra 3 (some FieldType.int) rm_m_X1_ofAlgebra [.ref (ρ (0, 0, 0)), .int (iI i), .int (iI w)] H0 M0 (ri (fun y _ => ∃ k t : Nat, (i = k ∧ k < St_na σ) ∧ (w = t ∧ t ≤ 5) ∧ y = oaV σ k t)) (fun E _ => X1aa σ i (0 ≤ w ∧ w ≤ 5) E) := by
  refine z_metX hE (by decide +kernel) (Nat.le_of_ble_eq_true rfl) ?_
  intro pp ee ss mm args below meth cd Q ls hC hml hrt hlk hnm hH hQ hno hX hS hl
  have hx := hC.x
  have hb := hC.b
  have hl : lv_has ls 3 [(0, .ref (ρ (0, 0, 0))), (1, .int (iI i)), (2, .int (iI w))] := hl
  have hP : va_P G.1 zCl [] H0 := va_nil
  have hD : va_D (zA M0 H0) [] := va_nilD
  have hH1 := hh
  obtain ⟨hp, hna, hal, hne9, hel9, hmr9⟩ := id hh.ok
  have hp7 : 0 < St_p σ ∧ St_p σ ≤ 7 := by rcases hp with h | h | h <;> rw [h] <;> decide
  obtain ⟨sm9, -⟩ := id hh.2.2.1.1
  refine lv_aload_n hx hb dX1_ofAlgebra_0 rfl (lv_at hl 0 rfl) ?_
  refine lv_iload_n hx hb dX1_ofAlgebra_1 rfl (lv_at hl 1 rfl) ?_
  obtain ⟨sm, hxx⟩ := id hH1.2.2.1.1
  refine z_goX 1 6 (z_runVx (As := [.int (iI i)]) (rest := []) hC hml hl.1 (m_X1_algebraAt hE H0 (hO.ext0 (zS_F hS)) ρ σ i hH1 hi.1) (lw_V q1056 q1058 qs23 q62 q1059) rfl nd_X1_algebraAt rfl (z_rv hC (ci := 0) rfl hxx rfl) rfl (Nat.le_of_ble_eq_true rfl) ⟨Nat.le_of_ble_eq_true rfl, Nat.le_of_ble_eq_true rfl⟩ ⟨zfit (k := 1) (z := 3) rfl rfl (by omega), zfit (k := 6) (z := 16) rfl rfl (by omega)⟩ dX1_ofAlgebra_2) ⟨zad (k := 1) rfl (by omega), zad (k := 6) rfl (by omega)⟩ hS (fun _ z => z.elim) (fun E ce q9 Hx1 locs hp hF hS1 hce hcv hcl => ?_) (fun r H2 locs hp hF hS1 => ?_)
  · exact z_out hno hlk hX hS1 ⟨zle (z := 3) rfl (by omega), zle (z := 16) rfl (by omega)⟩ hce hcv hcl (Or.inl ⟨hp.1, hp.2⟩)
  obtain ⟨_, rfl, k, ek9, hk9, rfl⟩ := hp
  have hP := zpk hP hF
  have hP : va_P G.1 zCl ([]) H2 := hP
  have hD : va_D (zA M0 H0) ([]) := hD
  have hH1 : HC G s0 ρ σ H2 := hH1.ext0 hE hF
  have hS := hS1
  have iA : inA σ i := by unfold inA; omega
  refine lv_pop hx hb dX1_ofAlgebra_5 rfl ?_
  refine lv_iconst (v := iI 0) hx hb dX1_ofAlgebra_6 rfl ?_
  refine lv_iconst (v := iI 5) hx hb dX1_ofAlgebra_7 rfl ?_
  refine lv_iload_n hx hb dX1_ofAlgebra_8 rfl (lv_at hl 2 rfl) ?_
  refine z_go 1 6 (z_runS (As := [.int (iI 0), .int (iI 5), .int (iI w)]) (rest := []) hC hml hl.1 (m_X1_isFrom hE H2 (hO.ext0 (zS_F hS)) 0 5 w ⟨by decide, by decide, hi.2⟩) (lw_S q944 q350 q62 q351) nd_X1_isFrom rfl rfl (Nat.le_of_ble_eq_true rfl) ⟨Nat.le_of_ble_eq_true rfl, Nat.le_of_ble_eq_true rfl⟩ ⟨zfit (k := 0) (z := 3) rfl rfl (by omega), zfit (k := 0) (z := 16) rfl rfl (by omega)⟩ dX1_ofAlgebra_9) ⟨zad (k := 0) rfl (by omega), zad (k := 0) rfl (by omega)⟩ hS (fun _ z => z.elim) (fun r H3 locs hp hF hS1 => ?_)
  obtain ⟨_, rfl, rfl⟩ := hp
  have hP := zpk hP hF
  have hP : va_P G.1 zCl ([]) H3 := hP
  have hD : va_D (zA M0 H0) ([]) := hD
  have hH1 : HC G s0 ρ σ H3 := hH1.ext0 hE hF
  have hS := hS1
  obtain ⟨fl, hfl, hfl2⟩ : ∃ fl : Nat, fl ≤ 1 ∧ (if 0 ≤ w ∧ w ≤ 5 then (1 : Int) else 0) = fl ∧ (fl = 1 ↔ 0 ≤ w ∧ w ≤ 5) := by by_cases h : 0 ≤ w ∧ w ≤ 5; exact ⟨1, by decide, by rw [if_pos h]; rfl, by simp [h]⟩; exact ⟨0, by decide, by rw [if_neg h]; rfl, by simp [h]⟩
  refine z_top (b := ((fl : Nat) : Int)) (hfl2.1) ?_
  refine z_goX 2 12 (z_runSx (As := [.int (iI ((fl : Nat) : Int))]) (rest := []) hC hml hl.1 (m_X1_require hE H3 (hO.ext0 (zS_F hS)) fl hfl) (lw_S q905 q906 q62 q907) nd_X1_require rfl rfl (Nat.le_of_ble_eq_true rfl) ⟨Nat.le_of_ble_eq_true rfl, Nat.le_of_ble_eq_true rfl⟩ ⟨zfit (k := 1) (z := 3) rfl rfl (by omega), zfit (k := 6) (z := 16) rfl rfl (by omega)⟩ dX1_ofAlgebra_12) ⟨zad (k := 1) rfl (by omega), zad (k := 6) rfl (by omega)⟩ hS (fun _ z => z.elim) (fun E ce q9 Hx4 locs hp hF hS1 hce hcv hcl => ?_) (fun r H5 locs hp hF hS1 => ?_)
  · exact z_out hno hlk hX hS1 ⟨zle (z := 3) rfl (by omega), zle (z := 16) rfl (by omega)⟩ hce hcv hcl (Or.inr ⟨hp.1, iA, fun z => by have := hfl2.2.mpr z; have := hp.2; omega⟩)
  obtain ⟨rfl, hfl1⟩ := hp
  have hP := zpk hP hF
  have hP : va_P G.1 zCl ([]) H5 := hP
  have hD : va_D (zA M0 H0) ([]) := hD
  have hH1 : HC G s0 ρ σ H5 := hH1.ext0 hE hF
  have hS := hS1
  have htp := hfl2.2.mp hfl1
  rw [ek9] at hl
  obtain ⟨sm, hxx⟩ := id hH1.2.2.1.1
  refine lv_aload_n hx hb dX1_ofAlgebra_15 rfl (lv_at hl 0 rfl) ?_
  refine lv_iload_n hx hb dX1_ofAlgebra_16 rfl (lv_at hl 1 rfl) ?_
  refine lv_iload_n hx hb dX1_ofAlgebra_17 rfl (lv_at hl 2 rfl) ?_
  rcases (show w ≤ 2 ∨ 3 ≤ w from by omega) with hw9 | hw9
  · rcases (show w ≤ 1 ∨ 2 ≤ w from by omega) with hw9 | hw9
    · rcases (show w ≤ 0 ∨ 1 ≤ w from by omega) with hw9 | hw9
      · have ew9 : w = 0 := by omega
        refine z_top (b := 0) (ew9) ?_
        refine z_go 2 12 (z_runV (As := [.int (iI ((k : Nat) : Int)), .int (iI 0)]) (rest := []) hC hml hl.1 (m_X1_ofAlgebraNow_0 hE H5 (hO.ext0 (zS_F hS)) ρ σ k hH1 (by omega)) (lw_V q368 q370 qs7 q62 q371) rfl nd_X1_ofAlgebraNow rfl (z_rv hC (ci := 0) rfl hxx rfl) rfl (Nat.le_of_ble_eq_true rfl) ⟨Nat.le_of_ble_eq_true rfl, Nat.le_of_ble_eq_true rfl⟩ ⟨zfit (k := 0) (z := 3) rfl rfl (by omega), zfit (k := 0) (z := 16) rfl rfl (by omega)⟩ dX1_ofAlgebra_18) ⟨zad (k := 0) rfl (by omega), zad (k := 0) rfl (by omega)⟩ hS (fun _ z => z.elim) (fun r H6 locs hp hF hS1 => ?_)
        obtain ⟨_, rfl, rfl⟩ := hp
        have hP := zpk hP hF
        have hP : va_P G.1 zCl ([]) H6 := hP
        have hD : va_D (zA M0 H0) ([]) := hD
        have hH1 : HC G s0 ρ σ H6 := hH1.ext0 hE hF
        have hS := hS1
        exact z_iret hC hrt hlk hQ hS ⟨zle (z := 3) rfl (by omega), zle (z := 16) rfl (by omega)⟩ ⟨_, rfl, k, 0, ⟨by omega, by omega⟩, ⟨by omega, by decide⟩, rfl⟩ dX1_ofAlgebra_21
      · have ew9 : w = 1 := by omega
        refine z_top (b := 1) (ew9) ?_
        refine z_go 2 12 (z_runV (As := [.int (iI ((k : Nat) : Int)), .int (iI 1)]) (rest := []) hC hml hl.1 (m_X1_ofAlgebraNow_1 hE H5 (hO.ext0 (zS_F hS)) ρ σ k hH1 (by omega)) (lw_V q368 q370 qs7 q62 q371) rfl nd_X1_ofAlgebraNow rfl (z_rv hC (ci := 0) rfl hxx rfl) rfl (Nat.le_of_ble_eq_true rfl) ⟨Nat.le_of_ble_eq_true rfl, Nat.le_of_ble_eq_true rfl⟩ ⟨zfit (k := 0) (z := 3) rfl rfl (by omega), zfit (k := 0) (z := 16) rfl rfl (by omega)⟩ dX1_ofAlgebra_18) ⟨zad (k := 0) rfl (by omega), zad (k := 0) rfl (by omega)⟩ hS (fun _ z => z.elim) (fun r H7 locs hp hF hS1 => ?_)
        obtain ⟨_, rfl, rfl⟩ := hp
        have hP := zpk hP hF
        have hP : va_P G.1 zCl ([]) H7 := hP
        have hD : va_D (zA M0 H0) ([]) := hD
        have hH1 : HC G s0 ρ σ H7 := hH1.ext0 hE hF
        have hS := hS1
        exact z_iret hC hrt hlk hQ hS ⟨zle (z := 3) rfl (by omega), zle (z := 16) rfl (by omega)⟩ ⟨_, rfl, k, 1, ⟨by omega, by omega⟩, ⟨by omega, by decide⟩, rfl⟩ dX1_ofAlgebra_21
    · have ew9 : w = 2 := by omega
      refine z_top (b := 2) (ew9) ?_
      refine z_go 2 12 (z_runV (As := [.int (iI ((k : Nat) : Int)), .int (iI 2)]) (rest := []) hC hml hl.1 (m_X1_ofAlgebraNow_2 hE H5 (hO.ext0 (zS_F hS)) ρ σ k hH1 (by omega)) (lw_V q368 q370 qs7 q62 q371) rfl nd_X1_ofAlgebraNow rfl (z_rv hC (ci := 0) rfl hxx rfl) rfl (Nat.le_of_ble_eq_true rfl) ⟨Nat.le_of_ble_eq_true rfl, Nat.le_of_ble_eq_true rfl⟩ ⟨zfit (k := 0) (z := 3) rfl rfl (by omega), zfit (k := 0) (z := 16) rfl rfl (by omega)⟩ dX1_ofAlgebra_18) ⟨zad (k := 0) rfl (by omega), zad (k := 0) rfl (by omega)⟩ hS (fun _ z => z.elim) (fun r H8 locs hp hF hS1 => ?_)
      obtain ⟨_, rfl, rfl⟩ := hp
      have hP := zpk hP hF
      have hP : va_P G.1 zCl ([]) H8 := hP
      have hD : va_D (zA M0 H0) ([]) := hD
      have hH1 : HC G s0 ρ σ H8 := hH1.ext0 hE hF
      have hS := hS1
      exact z_iret hC hrt hlk hQ hS ⟨zle (z := 3) rfl (by omega), zle (z := 16) rfl (by omega)⟩ ⟨_, rfl, k, 2, ⟨by omega, by omega⟩, ⟨by omega, by decide⟩, rfl⟩ dX1_ofAlgebra_21
  · rcases (show w ≤ 4 ∨ 5 ≤ w from by omega) with hw9 | hw9
    · rcases (show w ≤ 3 ∨ 4 ≤ w from by omega) with hw9 | hw9
      · have ew9 : w = 3 := by omega
        refine z_top (b := 3) (ew9) ?_
        refine z_go 3 16 (z_runV (As := [.int (iI ((k : Nat) : Int)), .int (iI 3)]) (rest := []) hC hml hl.1 (m_X1_ofAlgebraNow_3 hE H5 (hO.ext0 (zS_F hS)) ρ σ k hH1 (by omega)) (lw_V q368 q370 qs7 q62 q371) rfl nd_X1_ofAlgebraNow rfl (z_rv hC (ci := 0) rfl hxx rfl) rfl (Nat.le_of_ble_eq_true rfl) ⟨Nat.le_of_ble_eq_true rfl, Nat.le_of_ble_eq_true rfl⟩ ⟨zfit (k := 1) (z := 3) rfl rfl (by omega), zfit (k := 4) (z := 16) rfl rfl (by omega)⟩ dX1_ofAlgebra_18) ⟨zad (k := 1) rfl (by omega), zad (k := 4) rfl (by omega)⟩ hS (fun _ z => z.elim) (fun r H9 locs hp hF hS1 => ?_)
        obtain ⟨_, rfl, rfl⟩ := hp
        have hP := zpk hP hF
        have hP : va_P G.1 zCl ([]) H9 := hP
        have hD : va_D (zA M0 H0) ([]) := hD
        have hH1 : HC G s0 ρ σ H9 := hH1.ext0 hE hF
        have hS := hS1
        exact z_iret hC hrt hlk hQ hS ⟨zle (z := 3) rfl (by omega), zle (z := 16) rfl (by omega)⟩ ⟨_, rfl, k, 3, ⟨by omega, by omega⟩, ⟨by omega, by decide⟩, rfl⟩ dX1_ofAlgebra_21
      · have ew9 : w = 4 := by omega
        refine z_top (b := 4) (ew9) ?_
        refine z_go 2 12 (z_runV (As := [.int (iI ((k : Nat) : Int)), .int (iI 4)]) (rest := []) hC hml hl.1 (m_X1_ofAlgebraNow_4 hE H5 (hO.ext0 (zS_F hS)) ρ σ k hH1 (by omega)) (lw_V q368 q370 qs7 q62 q371) rfl nd_X1_ofAlgebraNow rfl (z_rv hC (ci := 0) rfl hxx rfl) rfl (Nat.le_of_ble_eq_true rfl) ⟨Nat.le_of_ble_eq_true rfl, Nat.le_of_ble_eq_true rfl⟩ ⟨zfit (k := 0) (z := 3) rfl rfl (by omega), zfit (k := 0) (z := 16) rfl rfl (by omega)⟩ dX1_ofAlgebra_18) ⟨zad (k := 0) rfl (by omega), zad (k := 0) rfl (by omega)⟩ hS (fun _ z => z.elim) (fun r H10 locs hp hF hS1 => ?_)
        obtain ⟨_, rfl, rfl⟩ := hp
        have hP := zpk hP hF
        have hP : va_P G.1 zCl ([]) H10 := hP
        have hD : va_D (zA M0 H0) ([]) := hD
        have hH1 : HC G s0 ρ σ H10 := hH1.ext0 hE hF
        have hS := hS1
        exact z_iret hC hrt hlk hQ hS ⟨zle (z := 3) rfl (by omega), zle (z := 16) rfl (by omega)⟩ ⟨_, rfl, k, 4, ⟨by omega, by omega⟩, ⟨by omega, by decide⟩, rfl⟩ dX1_ofAlgebra_21
    · have ew9 : w = 5 := by omega
      refine z_top (b := 5) (ew9) ?_
      refine z_go 2 12 (z_runV (As := [.int (iI ((k : Nat) : Int)), .int (iI 5)]) (rest := []) hC hml hl.1 (m_X1_ofAlgebraNow_5 hE H5 (hO.ext0 (zS_F hS)) ρ σ k hH1 (by omega)) (lw_V q368 q370 qs7 q62 q371) rfl nd_X1_ofAlgebraNow rfl (z_rv hC (ci := 0) rfl hxx rfl) rfl (Nat.le_of_ble_eq_true rfl) ⟨Nat.le_of_ble_eq_true rfl, Nat.le_of_ble_eq_true rfl⟩ ⟨zfit (k := 0) (z := 3) rfl rfl (by omega), zfit (k := 0) (z := 16) rfl rfl (by omega)⟩ dX1_ofAlgebra_18) ⟨zad (k := 0) rfl (by omega), zad (k := 0) rfl (by omega)⟩ hS (fun _ z => z.elim) (fun r H11 locs hp hF hS1 => ?_)
      obtain ⟨_, rfl, rfl⟩ := hp
      have hP := zpk hP hF
      have hP : va_P G.1 zCl ([]) H11 := hP
      have hD : va_D (zA M0 H0) ([]) := hD
      have hH1 : HC G s0 ρ σ H11 := hH1.ext0 hE hF
      have hS := hS1
      exact z_iret hC hrt hlk hQ hS ⟨zle (z := 3) rfl (by omega), zle (z := 16) rfl (by omega)⟩ ⟨_, rfl, k, 5, ⟨by omega, by omega⟩, ⟨by omega, by decide⟩, rfl⟩ dX1_ofAlgebra_21

abbrev rm_m_X1_unitsNow : Room := { frames := 3, cells := 1, slots := 4, locals := 61 }
set_option maxHeartbeats 4000000 in
theorem m_X1_unitsNow {l : Launch} {s0 : State} {G : zG} (hE : zE l s0 G) (H0 : Heap) (hO : zO s0 H0) (ρ : Ro → Nat) (σ : St) (hh : HC G s0 ρ σ H0) : zM l s0 yX1_unitsNow cX1_unitsNow 4 (some FieldType.int) rm_m_X1_unitsNow [.ref (ρ (0, 0, 0))] H0 M0 (ri (fun y _ => y = (suN (St_n σ) (St_na σ) : Nat))) := by
  refine z_met hE (by decide +kernel) (Nat.le_of_ble_eq_true rfl) ?_
  intro pp ee ss mm args below meth cd Q ls hC hml hrt hlk hnm hH hQ hS hl
  have hx := hC.x
  have hb := hC.b
  have hl : lv_has ls 4 [(0, .ref (ρ (0, 0, 0)))] := hl
  have hP : va_P G.1 zCl [] H0 := va_nil
  have hD : va_D (zA M0 H0) [] := va_nilD
  have hH1 := hh
  obtain ⟨hp, hna, hal, hne9, hel9, hmr9⟩ := id hh.ok
  have hp7 : 0 < St_p σ ∧ St_p σ ≤ 7 := by rcases hp with h | h | h <;> rw [h] <;> decide
  obtain ⟨sm9, -⟩ := id hh.2.2.1.1
  obtain ⟨sm, hxx⟩ := id hH1.2.2.1.1
  refine lv_iconst (v := iI 0) hx hb dX1_unitsNow_0 rfl ?_
  refine lv_istore_n (lv' := [(1, .int (iI 0)), (0, .ref (ρ (0, 0, 0)))]) hx hb dX1_unitsNow_1 rfl hl (by decide) rfl (fun ls hl => ?_)
  refine lv_aload_n hx hb dX1_unitsNow_2 rfl (lv_at hl 1 rfl) ?_
  refine z_get hC (k := 1) rfl in_X1 hxx (by decide) q152 (fun _ h => h) rfl dX1_unitsNow_3 ?_
  obtain ⟨mdl, LL1⟩ := id hH1.2.2.1.2.1
  have hszi : H0.size ≤ H0.size := hS.1
  refine z_go 1 4 (z_runV (As := []) (rest := []) hC hml hl.1 (m_J2_iterator hE H0 (hO.ext0 (zS_F hS)) (ρ (1, 0, 0)) (St_na σ) (fun k => ρ (6, k, 0)) (ρ (2, 0, 0)) mdl LL1) (lw_V q174 q175 q176 q65 q177) rfl nd_J2_iterator rfl (z_rv hC (ci := 8) rfl LL1.1 rfl) rfl (Nat.le_of_ble_eq_true rfl) ⟨Nat.le_of_ble_eq_true rfl, Nat.le_of_ble_eq_true rfl⟩ ⟨zfit (k := 1) (z := 1) rfl rfl (by omega), zfit (k := 4) (z := 4) rfl rfl (by omega)⟩ dX1_unitsNow_6) ⟨zad (k := 1) rfl (by omega), zad (k := 4) rfl (by omega)⟩ hS (fun _ z => z.elim) (fun r H2 locs hp hF hS1 => ?_)
  obtain ⟨it1, rfl, hN⟩ := hp
  obtain ⟨hP, hD⟩ := zjn hP hD hS.1 hF hN
  have hP : va_P G.1 zCl ([(it1, zOb 9 [.int (iI 0), .int (iI (-1)), .int (iI mdl), .ref (ρ (1, 0, 0))])]) H2 := hP
  have hD : va_D (zA M0 H0) ([(it1, zOb 9 [.int (iI 0), .int (iI (-1)), .int (iI mdl), .ref (ρ (1, 0, 0))])]) := hD
  have hH1 : HC G s0 ρ σ H2 := hH1.ext0 hE hF
  have LL1 : zLs G (ρ (1, 0, 0)) (St_na σ) (fun k => ρ (6, k, 0)) (ρ (2, 0, 0)) mdl H2 := LL1.ext0 hF
  have hS := hS1
  have hiq : H0.size ≤ it1 := Nat.le_trans hszi (hN.2.2 0 _ rfl)
  refine lv_astore_n (lv' := [(2, .ref it1), (1, .int (iI 0)), (0, .ref (ρ (0, 0, 0)))]) hx hb dX1_unitsNow_9 rfl hl (by decide) rfl (fun ls hl => ?_)
  have lp3 : ∀ (dlp3 : Nat) (i : Nat) (c : Nat) (rl : Int), St_na σ - i = dlp3 → (i ≤ St_na σ) → (c = suN (St_n σ) i) → ∀ (H4 : Heap) (locs : List Loc) (ls : Array Slot), (HC G s0 ρ σ H4) → (zLs G (ρ (1, 0, 0)) (St_na σ) (fun k => ρ (6, k, 0)) (ρ (2, 0, 0)) mdl H4) → va_P G.1 zCl ([(it1, zOb 9 [.int (iI ((i : Nat) : Int)), .int (iI rl), .int (iI mdl), .ref (ρ (1, 0, 0))])]) H4 → va_D (zA M0 H0) ([(it1, zOb 9 [.int (iI ((i : Nat) : Int)), .int (iI rl), .int (iI mdl), .ref (ρ (1, 0, 0))])]) → va_S (zA M0 H0) H0 H4 locs → lv_has ls 4 [(1, .int (iI ((c : Nat) : Int))), (2, .ref it1), (0, .ref (ρ (0, 0, 0)))] → W pp l ee rm_m_X1_unitsNow ss mm args below meth cd H4 locs 1 4 Q (F0 mm 10 ls []) := by
    intro dlp3
    induction dlp3 using Nat.strongRecOn with
    | ind dlp3 ihlp3 =>
      intro i c rl hdlp3 hi9 hc H4 locs ls hH1 LL1 hP hD hS hl
      refine lv_aload_n hx hb dX1_unitsNow_10 rfl (lv_at hl 1 rfl) ?_
      refine z_go5 1 4 (z_runF (n := 0) (As := []) (rest := []) (ci := 9) hC hml hl.1 (m_J17_hasNext hE H4 (hO.ext0 (zS_F hS)) (ρ (1, 0, 0)) (St_na σ) (fun k => ρ (6, k, 0)) (ρ (2, 0, 0)) mdl it1 i rl LL1 (hP 0 _ rfl) (by omega)) q206 q198 q202 q204 q88 q200 q199 q205 q203 q201 ⟨by decide +kernel, by decide +kernel, by decide +kernel⟩ rfl rfl rfl (z_rv hC (ci := 9) rfl (hP 0 _ rfl) rfl) rfl (Nat.le_of_ble_eq_true rfl) ⟨Nat.le_of_ble_eq_true rfl, Nat.le_of_ble_eq_true rfl⟩ ⟨zfit (k := 0) (z := 1) rfl rfl (by omega), zfit (k := 0) (z := 4) rfl rfl (by omega)⟩ dX1_unitsNow_11) ⟨zad (k := 0) rfl (by omega), zad (k := 0) rfl (by omega)⟩ hS (fun _ z => z.elim) (fun r H5 locs hp hF hS1 => ?_)
      obtain ⟨_, rfl, rfl⟩ := hp
      have hP := zpk hP hF
      have hP : va_P G.1 zCl ([(it1, zOb 9 [.int (iI ((i : Nat) : Int)), .int (iI rl), .int (iI mdl), .ref (ρ (1, 0, 0))])]) H5 := hP
      have hD : va_D (zA M0 H0) ([(it1, zOb 9 [.int (iI ((i : Nat) : Int)), .int (iI rl), .int (iI mdl), .ref (ρ (1, 0, 0))])]) := hD
      have hH1 : HC G s0 ρ σ H5 := hH1.ext0 hE hF
      have LL1 : zLs G (ρ (1, 0, 0)) (St_na σ) (fun k => ρ (6, k, 0)) (ρ (2, 0, 0)) mdl H5 := LL1.ext0 hF
      have hS := hS1
      refine z_zeq (tgt := 39) hx hb dX1_unitsNow_16 (by decide) (by split <;> omega) (fun c1 => ?_) (fun c1 => ?_)
      · have ei : i = St_na σ := by split at c1 <;> omega
        refine lv_iload_n hx hb dX1_unitsNow_39 rfl (lv_at hl 0 rfl) ?_
        exact z_iret hC hrt hlk hQ hS ⟨zle (z := 1) rfl (by omega), zle (z := 4) rfl (by omega)⟩ ⟨_, rfl, by rw [hc, ei]⟩ dX1_unitsNow_40
      · have hin : i < St_na σ := by split at c1; assumption; omega
        refine lv_aload_n hx hb dX1_unitsNow_19 rfl (lv_at hl 1 rfl) ?_
        refine z_go5 1 4 (z_runF (n := 0) (As := []) (rest := []) (ci := 9) hC hml hl.1 (m_J17_next hE H5 (hO.ext0 (zS_F hS)) (ρ (1, 0, 0)) (St_na σ) (fun k => ρ (6, k, 0)) (ρ (2, 0, 0)) mdl it1 i rl (Nat.le_trans hO.1 hiq) ⟨fun z => by have := hh.lt hE hO (1, 0, 0) (dom0 _ (by omega)); omega, fun z => by have := hh.lt hE hO (2, 0, 0) (dom0 _ (by omega)); omega⟩ LL1 (hP 0 _ rfl) (by omega)) q215 q208 q211 q213 q88 q210 q209 q214 q212 q201 ⟨by decide +kernel, by decide +kernel, by decide +kernel⟩ rfl rfl rfl (z_rv hC (ci := 9) rfl (hP 0 _ rfl) rfl) rfl (Nat.le_of_ble_eq_true rfl) ⟨Nat.le_of_ble_eq_true rfl, Nat.le_of_ble_eq_true rfl⟩ ⟨zfit (k := 0) (z := 1) rfl rfl (by omega), zfit (k := 0) (z := 4) rfl rfl (by omega)⟩ dX1_unitsNow_20) ⟨zad (k := 0) rfl (by omega), zad (k := 0) rfl (by omega)⟩ hS (fun q z => by subst z; exact hD.2 0 _ rfl) (fun r H6 locs hp hF hS1 => ?_)
        obtain ⟨_, rfl, rfl, hm⟩ := hp
        obtain ⟨hP, hD⟩ := zjm hP hD hF 0 rfl hm
        have hP : va_P G.1 zCl ([(it1, zOb 9 [.int (iI ((i + 1 : Nat) : Int)), .int (iI ((i : Nat) : Int)), .int (iI mdl), .ref (ρ (1, 0, 0))])]) H6 := hP
        have hD : va_D (zA M0 H0) ([(it1, zOb 9 [.int (iI ((i + 1 : Nat) : Int)), .int (iI ((i : Nat) : Int)), .int (iI mdl), .ref (ρ (1, 0, 0))])]) := hD
        have hH1 : HC G s0 ρ σ H6 := hH1.ext hE hF (fun a9 ha9 _ z => by have := hh.lt hE hO a9 ha9; omega)
        have LL1 : zLs G (ρ (1, 0, 0)) (St_na σ) (fun k => ρ (6, k, 0)) (ρ (2, 0, 0)) mdl H6 := LL1.ext hF (fun z => by have := hh.lt hE hO (1, 0, 0) (dom0 _ (by omega)); omega) (fun _ z => by have := hh.lt hE hO (2, 0, 0) (dom0 _ (by omega)); omega)
        have hS := hS1
        have hki := hH1.2.2.2.1 i (by omega)
        have hAi := hH1.ag (k := i) (by omega)
        obtain ⟨hn16i, -⟩ := hAi.n
        have hali := hal i (by omega)
        refine z_cast hC (ci := 4) rfl hki.1 rfl q296 dX1_unitsNow_25 ?_
        refine lv_astore_n (lv' := [(3, .ref (ρ (6, i, 0))), (1, .int (iI ((c : Nat) : Int))), (2, .ref it1), (0, .ref (ρ (0, 0, 0)))]) hx hb dX1_unitsNow_28 rfl hl (by decide) rfl (fun ls hl => ?_)
        refine lv_iload_n hx hb dX1_unitsNow_29 rfl (lv_at hl 1 rfl) ?_
        refine lv_aload_n hx hb dX1_unitsNow_30 rfl (lv_at hl 0 rfl) ?_
        refine z_go 1 4 (z_runV (As := []) (rest := [.int (iI ((c : Nat) : Int))]) hC hml hl.1 (m_X5_units hE H6 (hO.ext0 (zS_F hS)) (ρ (0, 0, 0)) (ρ (6, i, 0)) (St_p σ) (St_d σ i) (St_n σ i) (St_kd σ i) (St_dv σ i) (St_sg σ i)  (hH1.ag (k := i) (by omega)) ) (lw_V q297 q298 q299 q74 q300) rfl nd_X5_units rfl (z_rv hC (ci := 4) rfl hki.1 rfl) rfl (Nat.le_of_ble_eq_true rfl) ⟨Nat.le_of_ble_eq_true rfl, Nat.le_of_ble_eq_true rfl⟩ ⟨zfit (k := 0) (z := 1) rfl rfl (by omega), zfit (k := 0) (z := 4) rfl rfl (by omega)⟩ dX1_unitsNow_31) ⟨zad (k := 0) rfl (by omega), zad (k := 0) rfl (by omega)⟩ hS (fun _ z => z.elim) (fun r H7 locs hp hF hS1 => ?_)
        obtain ⟨_, rfl, rfl⟩ := hp
        have hP := zpk hP hF
        have hP : va_P G.1 zCl ([(it1, zOb 9 [.int (iI ((i + 1 : Nat) : Int)), .int (iI ((i : Nat) : Int)), .int (iI mdl), .ref (ρ (1, 0, 0))])]) H7 := hP
        have hD : va_D (zA M0 H0) ([(it1, zOb 9 [.int (iI ((i + 1 : Nat) : Int)), .int (iI ((i : Nat) : Int)), .int (iI mdl), .ref (ρ (1, 0, 0))])]) := hD
        have hH1 : HC G s0 ρ σ H7 := hH1.ext0 hE hF
        have LL1 : zLs G (ρ (1, 0, 0)) (St_na σ) (fun k => ρ (6, k, 0)) (ρ (2, 0, 0)) mdl H7 := LL1.ext0 hF
        have hS := hS1
        have hcl := suN_le (f := St_n σ) (B := 16) (n := i) (fun j hj => (p2_16 (hal j (by omega)).2.1 rfl).2)
        refine z_add hx hb (z := ((c : Nat) : Int) + ((St_n σ i : Nat) : Int)) dX1_unitsNow_34 rfl ?_
        refine z_top (b := ((c + St_n σ i : Nat) : Int)) (by omega) ?_
        refine lv_istore_n (lv' := [(1, .int (iI ((c + St_n σ i : Nat) : Int))), (3, .ref (ρ (6, i, 0))), (2, .ref it1), (0, .ref (ρ (0, 0, 0)))]) hx hb dX1_unitsNow_35 rfl hl (by decide) rfl (fun ls hl => ?_)
        refine lv_goto (tgt := 10) hx hb dX1_unitsNow_36 (by decide) ?_
        exact W.widen (by omega) (by omega) (ihlp3 (St_na σ - (i + 1)) (by omega) (i + 1) (c + St_n σ i) (i : Int) rfl (by omega) (by rw [hc]; rfl) _ _ _ hH1 LL1 hP hD hS (lv_sub hl [0, 2, 3] rfl))
  exact W.widen (by omega) (by omega) (lp3 _ 0 0 (-1) rfl (Nat.zero_le _) rfl _ _ _ hH1 LL1 hP hD hS (lv_sub hl [1, 0, 2] rfl))

def plF (σ : St) (j : Nat) : Nat := if paV (St_n σ (St_ea σ j)) (St_ev σ j) = true then 1 else 0
def zeF (σ : St) (j : Nat) : Nat := if tmV (St_p σ) (St_n σ (St_ea σ j)) (St_sg σ (St_ea σ j)) (St_ev σ j) (cjV (St_p σ) (St_kd σ (St_ea σ j)) (St_ev σ j)) 0 = 0 then 1 else 0
abbrev rm_m_X1_elementsNow_1 : Room := { frames := 3, cells := 60, slots := 700, locals := 61 }
set_option maxHeartbeats 4000000 in
theorem m_X1_elementsNow_1 {l : Launch} {s0 : State} {G : zG} (hE : zE l s0 G) (H0 : Heap) (hO : zO s0 H0) (ρ : Ro → Nat) (σ : St) (hh : HC G s0 ρ σ H0) : zM l s0 yX1_elementsNow cX1_elementsNow 5 (some FieldType.int) rm_m_X1_elementsNow_1 [.ref (ρ (0, 0, 0)), .int (iI 1)] H0 M0 (ri (fun y _ => y = (suN (plF σ) (St_ne σ) : Nat))) := by
  refine z_met hE (by decide +kernel) (Nat.le_of_ble_eq_true rfl) ?_
  intro pp ee ss mm args below meth cd Q ls hC hml hrt hlk hnm hH hQ hS hl
  have hx := hC.x
  have hb := hC.b
  have hl : lv_has ls 5 [(0, .ref (ρ (0, 0, 0))), (1, .int (iI 1))] := hl
  have hP : va_P G.1 zCl [] H0 := va_nil
  have hD : va_D (zA M0 H0) [] := va_nilD
  have hH1 := hh
  obtain ⟨hp, hna, hal, hne9, hel9, hmr9⟩ := id hh.ok
  have hp7 : 0 < St_p σ ∧ St_p σ ≤ 7 := by rcases hp with h | h | h <;> rw [h] <;> decide
  obtain ⟨sm9, -⟩ := id hh.2.2.1.1
  obtain ⟨sm, hxx⟩ := id hH1.2.2.1.1
  refine lv_iconst (v := iI 0) hx hb dX1_elementsNow_0 rfl ?_
  refine lv_istore_n (lv' := [(2, .int (iI 0)), (0, .ref (ρ (0, 0, 0))), (1, .int (iI 1))]) hx hb dX1_elementsNow_1 rfl hl (by decide) rfl (fun ls hl => ?_)
  refine lv_aload_n hx hb dX1_elementsNow_2 rfl (lv_at hl 1 rfl) ?_
  refine z_get hC (k := 2) rfl in_X1 hxx (by decide) q153 (fun _ h => h) rfl dX1_elementsNow_3 ?_
  obtain ⟨mdl, LL1⟩ := id hH1.2.2.1.2.2.1
  have hszi : H0.size ≤ H0.size := hS.1
  refine z_go 1 4 (z_runV (As := []) (rest := []) hC hml hl.1 (m_J2_iterator hE H0 (hO.ext0 (zS_F hS)) (ρ (3, 0, 0)) (St_ne σ) (fun j => ρ (13, j, 0)) (ρ (4, 0, 0)) mdl LL1) (lw_V q174 q175 q176 q65 q177) rfl nd_J2_iterator rfl (z_rv hC (ci := 8) rfl LL1.1 rfl) rfl (Nat.le_of_ble_eq_true rfl) ⟨Nat.le_of_ble_eq_true rfl, Nat.le_of_ble_eq_true rfl⟩ ⟨zfit (k := 1) (z := 60) rfl rfl (by omega), zfit (k := 4) (z := 700) rfl rfl (by omega)⟩ dX1_elementsNow_6) ⟨zad (k := 1) rfl (by omega), zad (k := 4) rfl (by omega)⟩ hS (fun _ z => z.elim) (fun r H2 locs hp hF hS1 => ?_)
  obtain ⟨it1, rfl, hN⟩ := hp
  obtain ⟨hP, hD⟩ := zjn hP hD hS.1 hF hN
  have hP : va_P G.1 zCl ([(it1, zOb 9 [.int (iI 0), .int (iI (-1)), .int (iI mdl), .ref (ρ (3, 0, 0))])]) H2 := hP
  have hD : va_D (zA M0 H0) ([(it1, zOb 9 [.int (iI 0), .int (iI (-1)), .int (iI mdl), .ref (ρ (3, 0, 0))])]) := hD
  have hH1 : HC G s0 ρ σ H2 := hH1.ext0 hE hF
  have LL1 : zLs G (ρ (3, 0, 0)) (St_ne σ) (fun j => ρ (13, j, 0)) (ρ (4, 0, 0)) mdl H2 := LL1.ext0 hF
  have hS := hS1
  have hiq : H0.size ≤ it1 := Nat.le_trans hszi (hN.2.2 0 _ rfl)
  refine lv_astore_n (lv' := [(3, .ref it1), (2, .int (iI 0)), (0, .ref (ρ (0, 0, 0))), (1, .int (iI 1))]) hx hb dX1_elementsNow_9 rfl hl (by decide) rfl (fun ls hl => ?_)
  have lp3 : ∀ (dlp3 : Nat) (i : Nat) (c : Nat) (rl : Int), St_ne σ - i = dlp3 → (i ≤ St_ne σ) → (c = suN (plF σ) i) → ∀ (H4 : Heap) (locs : List Loc) (ls : Array Slot), (HC G s0 ρ σ H4) → (zLs G (ρ (3, 0, 0)) (St_ne σ) (fun j => ρ (13, j, 0)) (ρ (4, 0, 0)) mdl H4) → va_P G.1 zCl ([(it1, zOb 9 [.int (iI ((i : Nat) : Int)), .int (iI rl), .int (iI mdl), .ref (ρ (3, 0, 0))])]) H4 → va_D (zA M0 H0) ([(it1, zOb 9 [.int (iI ((i : Nat) : Int)), .int (iI rl), .int (iI mdl), .ref (ρ (3, 0, 0))])]) → va_S (zA M0 H0) H0 H4 locs → lv_has ls 5 [(2, .int (iI ((c : Nat) : Int))), (3, .ref it1), (0, .ref (ρ (0, 0, 0))), (1, .int (iI 1))] → W pp l ee rm_m_X1_elementsNow_1 ss mm args below meth cd H4 locs (1 + 4 * i) (4 + 40 * i) Q (F0 mm 10 ls []) := by
    intro dlp3
    induction dlp3 using Nat.strongRecOn with
    | ind dlp3 ihlp3 =>
      intro i c rl hdlp3 hi9 hc H4 locs ls hH1 LL1 hP hD hS hl
      refine lv_aload_n hx hb dX1_elementsNow_10 rfl (lv_at hl 1 rfl) ?_
      refine z_go5 (1 + 4 * i) (4 + 40 * i) (z_runF (n := 0) (As := []) (rest := []) (ci := 9) hC hml hl.1 (m_J17_hasNext hE H4 (hO.ext0 (zS_F hS)) (ρ (3, 0, 0)) (St_ne σ) (fun j => ρ (13, j, 0)) (ρ (4, 0, 0)) mdl it1 i rl LL1 (hP 0 _ rfl) (by omega)) q206 q198 q202 q204 q88 q200 q199 q205 q203 q201 ⟨by decide +kernel, by decide +kernel, by decide +kernel⟩ rfl rfl rfl (z_rv hC (ci := 9) rfl (hP 0 _ rfl) rfl) rfl (Nat.le_of_ble_eq_true rfl) ⟨Nat.le_of_ble_eq_true rfl, Nat.le_of_ble_eq_true rfl⟩ ⟨zfit (k := 0) (z := 60) rfl rfl (by omega), zfit (k := 0) (z := 700) rfl rfl (by omega)⟩ dX1_elementsNow_11) ⟨zad (k := 0) rfl (by omega), zad (k := 0) rfl (by omega)⟩ hS (fun _ z => z.elim) (fun r H5 locs hp hF hS1 => ?_)
      obtain ⟨_, rfl, rfl⟩ := hp
      have hP := zpk hP hF
      have hP : va_P G.1 zCl ([(it1, zOb 9 [.int (iI ((i : Nat) : Int)), .int (iI rl), .int (iI mdl), .ref (ρ (3, 0, 0))])]) H5 := hP
      have hD : va_D (zA M0 H0) ([(it1, zOb 9 [.int (iI ((i : Nat) : Int)), .int (iI rl), .int (iI mdl), .ref (ρ (3, 0, 0))])]) := hD
      have hH1 : HC G s0 ρ σ H5 := hH1.ext0 hE hF
      have LL1 : zLs G (ρ (3, 0, 0)) (St_ne σ) (fun j => ρ (13, j, 0)) (ρ (4, 0, 0)) mdl H5 := LL1.ext0 hF
      have hS := hS1
      refine z_zeq (tgt := 64) hx hb dX1_elementsNow_16 (by decide) (by split <;> omega) (fun c1 => ?_) (fun c1 => ?_)
      · have ei : i = St_ne σ := by split at c1 <;> omega
        refine lv_iload_n hx hb dX1_elementsNow_64 rfl (lv_at hl 0 rfl) ?_
        exact z_iret hC hrt hlk hQ hS ⟨zle (z := 60) rfl (by omega), zle (z := 700) rfl (by omega)⟩ ⟨_, rfl, by rw [hc, ei]⟩ dX1_elementsNow_65
      · have hin : i < St_ne σ := by split at c1; assumption; omega
        refine lv_aload_n hx hb dX1_elementsNow_19 rfl (lv_at hl 1 rfl) ?_
        refine z_go5 (1 + 4 * i) (4 + 40 * i) (z_runF (n := 0) (As := []) (rest := []) (ci := 9) hC hml hl.1 (m_J17_next hE H5 (hO.ext0 (zS_F hS)) (ρ (3, 0, 0)) (St_ne σ) (fun j => ρ (13, j, 0)) (ρ (4, 0, 0)) mdl it1 i rl (Nat.le_trans hO.1 hiq) ⟨fun z => by have := hh.lt hE hO (3, 0, 0) (dom0 _ (by omega)); omega, fun z => by have := hh.lt hE hO (4, 0, 0) (dom0 _ (by omega)); omega⟩ LL1 (hP 0 _ rfl) (by omega)) q215 q208 q211 q213 q88 q210 q209 q214 q212 q201 ⟨by decide +kernel, by decide +kernel, by decide +kernel⟩ rfl rfl rfl (z_rv hC (ci := 9) rfl (hP 0 _ rfl) rfl) rfl (Nat.le_of_ble_eq_true rfl) ⟨Nat.le_of_ble_eq_true rfl, Nat.le_of_ble_eq_true rfl⟩ ⟨zfit (k := 0) (z := 60) rfl rfl (by omega), zfit (k := 0) (z := 700) rfl rfl (by omega)⟩ dX1_elementsNow_20) ⟨zad (k := 0) rfl (by omega), zad (k := 0) rfl (by omega)⟩ hS (fun q z => by subst z; exact hD.2 0 _ rfl) (fun r H6 locs hp hF hS1 => ?_)
        obtain ⟨_, rfl, rfl, hm⟩ := hp
        obtain ⟨hP, hD⟩ := zjm hP hD hF 0 rfl hm
        have hP : va_P G.1 zCl ([(it1, zOb 9 [.int (iI ((i + 1 : Nat) : Int)), .int (iI ((i : Nat) : Int)), .int (iI mdl), .ref (ρ (3, 0, 0))])]) H6 := hP
        have hD : va_D (zA M0 H0) ([(it1, zOb 9 [.int (iI ((i + 1 : Nat) : Int)), .int (iI ((i : Nat) : Int)), .int (iI mdl), .ref (ρ (3, 0, 0))])]) := hD
        have hH1 : HC G s0 ρ σ H6 := hH1.ext hE hF (fun a9 ha9 _ z => by have := hh.lt hE hO a9 ha9; omega)
        have LL1 : zLs G (ρ (3, 0, 0)) (St_ne σ) (fun j => ρ (13, j, 0)) (ρ (4, 0, 0)) mdl H6 := LL1.ext hF (fun z => by have := hh.lt hE hO (3, 0, 0) (dom0 _ (by omega)); omega) (fun _ z => by have := hh.lt hE hO (4, 0, 0) (dom0 _ (by omega)); omega)
        have hS := hS1
        have hvi := hH1.row (j := i) (by omega)
        have hEi := hH1.el (j := i) (by omega)
        have heai := hH1.ea (j := i) (by omega)
        obtain ⟨hn16i, -⟩ := (hH1.ag heai).n
        have hcl := suN_le (f := plF σ) (B := 1) (n := i) (fun j hj => by unfold plF; split <;> omega)
        refine z_cast hC (ci := 6) rfl hEi.1 rfl q220 dX1_elementsNow_25 ?_
        refine lv_astore (lv' := [(4, .ref (ρ (13, i, 0))), (2, .int (iI ((c : Nat) : Int))), (3, .ref it1), (0, .ref (ρ (0, 0, 0))), (1, .int (iI 1))]) hx hb dX1_elementsNow_28 hl (by decide) rfl (fun ls hl => ?_)
        refine lv_iload_n hx hb dX1_elementsNow_30 rfl (lv_at hl 1 rfl) ?_
        refine lv_iload_n hx hb dX1_elementsNow_31 rfl (lv_at hl 4 rfl) ?_
        refine z_zeq (tgt := 46) hx hb dX1_elementsNow_32 (by decide) (by omega) (fun c7 => ?_) (fun c7 => ?_)
        · omega
        · refine lv_aload hx hb dX1_elementsNow_35 (lv_at hl 0 rfl) ?_
          refine z_go (1 + 4 * i) (4 + 40 * i) (z_runV (As := []) (rest := [.int (iI ((c : Nat) : Int))]) hC hml hl.1 (m_X7_isPlain hE H6 (hO.ext0 (zS_F hS)) (ρ (0, 0, 0)) (ρ (6, St_ea σ i, 0)) (St_p σ) (St_d σ (St_ea σ i)) (St_n σ (St_ea σ i)) (St_kd σ (St_ea σ i)) (St_dv σ (St_ea σ i)) (St_sg σ (St_ea σ i)) (ρ (13, i, 0)) (ρ (14, i, 0)) (St_ev σ i)  (hH1.ag (hH1.ea (j := i) (by omega))) (hH1.el (j := i) (by omega)) hvi ) (lw_V q306 q258 q259 q92 q260) rfl nd_X7_isPlain rfl (z_rv hC (ci := 6) rfl hEi.1 rfl) rfl (Nat.le_of_ble_eq_true rfl) ⟨Nat.le_of_ble_eq_true rfl, Nat.le_of_ble_eq_true rfl⟩ ⟨zfit (k := 0) (z := 60) rfl rfl (by omega), zfit (k := 0) (z := 700) rfl rfl (by omega)⟩ dX1_elementsNow_37) ⟨zad (k := 0) rfl (by omega), zad (k := 0) rfl (by omega)⟩ hS (fun _ z => z.elim) (fun r H8 locs hp hF hS1 => ?_)
          obtain ⟨_, rfl, rfl⟩ := hp
          have hP := zpk hP hF
          have hP : va_P G.1 zCl ([(it1, zOb 9 [.int (iI ((i + 1 : Nat) : Int)), .int (iI ((i : Nat) : Int)), .int (iI mdl), .ref (ρ (3, 0, 0))])]) H8 := hP
          have hD : va_D (zA M0 H0) ([(it1, zOb 9 [.int (iI ((i + 1 : Nat) : Int)), .int (iI ((i : Nat) : Int)), .int (iI mdl), .ref (ρ (3, 0, 0))])]) := hD
          have hH1 : HC G s0 ρ σ H8 := hH1.ext0 hE hF
          have LL1 : zLs G (ρ (3, 0, 0)) (St_ne σ) (fun j => ρ (13, j, 0)) (ρ (4, 0, 0)) mdl H8 := LL1.ext0 hF
          have hS := hS1
          refine z_zeq (tgt := 58) hx hb dX1_elementsNow_40 (by decide) (by unfold b2i; split <;> omega) (fun cz => ?_) (fun cz => ?_)
          · refine lv_iconst (v := iI 0) hx hb dX1_elementsNow_58 rfl ?_
            refine z_add hx hb (z := ((c : Nat) : Int) + 0) dX1_elementsNow_59 rfl ?_
            refine z_top (b := ((c + 0 : Nat) : Int)) (by omega) ?_
            refine lv_istore_n (lv' := [(2, .int (iI ((c + 0 : Nat) : Int))), (4, .ref (ρ (13, i, 0))), (3, .ref it1), (0, .ref (ρ (0, 0, 0))), (1, .int (iI 1))]) hx hb dX1_elementsNow_60 rfl hl (by decide) rfl (fun ls hl => ?_)
            refine lv_goto (tgt := 10) hx hb dX1_elementsNow_61 (by decide) ?_
            exact W.widen (by omega) (by omega) (ihlp3 (St_ne σ - (i + 1)) (by omega) (i + 1) (c + 0) (i : Int) rfl (by omega) (by simp only [suN, plF]; rw [if_neg (by rw [b2i_z cz]; decide)]; omega) _ _ _ hH1 LL1 hP hD hS (lv_sub hl [0, 2, 3, 4] rfl))
          · refine lv_goto (tgt := 54) hx hb dX1_elementsNow_43 (by decide) ?_
            refine lv_iconst (v := iI 1) hx hb dX1_elementsNow_54 rfl ?_
            refine lv_goto (tgt := 59) hx hb dX1_elementsNow_55 (by decide) ?_
            refine z_add hx hb (z := ((c : Nat) : Int) + 1) dX1_elementsNow_59 rfl ?_
            refine z_top (b := ((c + 1 : Nat) : Int)) (by omega) ?_
            refine lv_istore_n (lv' := [(2, .int (iI ((c + 1 : Nat) : Int))), (4, .ref (ρ (13, i, 0))), (3, .ref it1), (0, .ref (ρ (0, 0, 0))), (1, .int (iI 1))]) hx hb dX1_elementsNow_60 rfl hl (by decide) rfl (fun ls hl => ?_)
            refine lv_goto (tgt := 10) hx hb dX1_elementsNow_61 (by decide) ?_
            exact W.widen (by omega) (by omega) (ihlp3 (St_ne σ - (i + 1)) (by omega) (i + 1) (c + 1) (i : Int) rfl (by omega) (by simp only [suN, plF]; rw [if_pos (b2i_nz cz)]; omega) _ _ _ hH1 LL1 hP hD hS (lv_sub hl [0, 2, 3, 4] rfl))
  exact W.widen (by omega) (by omega) (lp3 _ 0 0 (-1) rfl (Nat.zero_le _) rfl _ _ _ hH1 LL1 hP hD hS (lv_sub hl [1, 0, 2, 3] rfl))

abbrev rm_m_X1_elementsNow_0 : Room := { frames := 5, cells := 60, slots := 700, locals := 106 }
set_option maxHeartbeats 4000000 in
theorem m_X1_elementsNow_0 {l : Launch} {s0 : State} {G : zG} (hE : zE l s0 G) (H0 : Heap) (hO : zO s0 H0) (ρ : Ro → Nat) (σ : St) (hh : HC G s0 ρ σ H0) : zM l s0 yX1_elementsNow cX1_elementsNow 5 (some FieldType.int) rm_m_X1_elementsNow_0 [.ref (ρ (0, 0, 0)), .int (iI 0)] H0 M0 (ri (fun y _ => y = (suN (zeF σ) (St_ne σ) : Nat))) := by
  refine z_met hE (by decide +kernel) (Nat.le_of_ble_eq_true rfl) ?_
  intro pp ee ss mm args below meth cd Q ls hC hml hrt hlk hnm hH hQ hS hl
  have hx := hC.x
  have hb := hC.b
  have hl : lv_has ls 5 [(0, .ref (ρ (0, 0, 0))), (1, .int (iI 0))] := hl
  have hP : va_P G.1 zCl [] H0 := va_nil
  have hD : va_D (zA M0 H0) [] := va_nilD
  have hH1 := hh
  obtain ⟨hp, hna, hal, hne9, hel9, hmr9⟩ := id hh.ok
  have hp7 : 0 < St_p σ ∧ St_p σ ≤ 7 := by rcases hp with h | h | h <;> rw [h] <;> decide
  obtain ⟨sm9, -⟩ := id hh.2.2.1.1
  obtain ⟨sm, hxx⟩ := id hH1.2.2.1.1
  refine lv_iconst (v := iI 0) hx hb dX1_elementsNow_0 rfl ?_
  refine lv_istore_n (lv' := [(2, .int (iI 0)), (0, .ref (ρ (0, 0, 0))), (1, .int (iI 0))]) hx hb dX1_elementsNow_1 rfl hl (by decide) rfl (fun ls hl => ?_)
  refine lv_aload_n hx hb dX1_elementsNow_2 rfl (lv_at hl 1 rfl) ?_
  refine z_get hC (k := 2) rfl in_X1 hxx (by decide) q153 (fun _ h => h) rfl dX1_elementsNow_3 ?_
  obtain ⟨mdl, LL1⟩ := id hH1.2.2.1.2.2.1
  have hszi : H0.size ≤ H0.size := hS.1
  refine z_go 1 4 (z_runV (As := []) (rest := []) hC hml hl.1 (m_J2_iterator hE H0 (hO.ext0 (zS_F hS)) (ρ (3, 0, 0)) (St_ne σ) (fun j => ρ (13, j, 0)) (ρ (4, 0, 0)) mdl LL1) (lw_V q174 q175 q176 q65 q177) rfl nd_J2_iterator rfl (z_rv hC (ci := 8) rfl LL1.1 rfl) rfl (Nat.le_of_ble_eq_true rfl) ⟨Nat.le_of_ble_eq_true rfl, Nat.le_of_ble_eq_true rfl⟩ ⟨zfit (k := 1) (z := 60) rfl rfl (by omega), zfit (k := 4) (z := 700) rfl rfl (by omega)⟩ dX1_elementsNow_6) ⟨zad (k := 1) rfl (by omega), zad (k := 4) rfl (by omega)⟩ hS (fun _ z => z.elim) (fun r H2 locs hp hF hS1 => ?_)
  obtain ⟨it1, rfl, hN⟩ := hp
  obtain ⟨hP, hD⟩ := zjn hP hD hS.1 hF hN
  have hP : va_P G.1 zCl ([(it1, zOb 9 [.int (iI 0), .int (iI (-1)), .int (iI mdl), .ref (ρ (3, 0, 0))])]) H2 := hP
  have hD : va_D (zA M0 H0) ([(it1, zOb 9 [.int (iI 0), .int (iI (-1)), .int (iI mdl), .ref (ρ (3, 0, 0))])]) := hD
  have hH1 : HC G s0 ρ σ H2 := hH1.ext0 hE hF
  have LL1 : zLs G (ρ (3, 0, 0)) (St_ne σ) (fun j => ρ (13, j, 0)) (ρ (4, 0, 0)) mdl H2 := LL1.ext0 hF
  have hS := hS1
  have hiq : H0.size ≤ it1 := Nat.le_trans hszi (hN.2.2 0 _ rfl)
  refine lv_astore_n (lv' := [(3, .ref it1), (2, .int (iI 0)), (0, .ref (ρ (0, 0, 0))), (1, .int (iI 0))]) hx hb dX1_elementsNow_9 rfl hl (by decide) rfl (fun ls hl => ?_)
  have lp3 : ∀ (dlp3 : Nat) (i : Nat) (c : Nat) (rl : Int), St_ne σ - i = dlp3 → (i ≤ St_ne σ) → (c = suN (zeF σ) i) → ∀ (H4 : Heap) (locs : List Loc) (ls : Array Slot), (HC G s0 ρ σ H4) → (zLs G (ρ (3, 0, 0)) (St_ne σ) (fun j => ρ (13, j, 0)) (ρ (4, 0, 0)) mdl H4) → va_P G.1 zCl ([(it1, zOb 9 [.int (iI ((i : Nat) : Int)), .int (iI rl), .int (iI mdl), .ref (ρ (3, 0, 0))])]) H4 → va_D (zA M0 H0) ([(it1, zOb 9 [.int (iI ((i : Nat) : Int)), .int (iI rl), .int (iI mdl), .ref (ρ (3, 0, 0))])]) → va_S (zA M0 H0) H0 H4 locs → lv_has ls 5 [(2, .int (iI ((c : Nat) : Int))), (3, .ref it1), (0, .ref (ρ (0, 0, 0))), (1, .int (iI 0))] → W pp l ee rm_m_X1_elementsNow_0 ss mm args below meth cd H4 locs (1 + 4 * i) (4 + 40 * i) Q (F0 mm 10 ls []) := by
    intro dlp3
    induction dlp3 using Nat.strongRecOn with
    | ind dlp3 ihlp3 =>
      intro i c rl hdlp3 hi9 hc H4 locs ls hH1 LL1 hP hD hS hl
      refine lv_aload_n hx hb dX1_elementsNow_10 rfl (lv_at hl 1 rfl) ?_
      refine z_go5 (1 + 4 * i) (4 + 40 * i) (z_runF (n := 0) (As := []) (rest := []) (ci := 9) hC hml hl.1 (m_J17_hasNext hE H4 (hO.ext0 (zS_F hS)) (ρ (3, 0, 0)) (St_ne σ) (fun j => ρ (13, j, 0)) (ρ (4, 0, 0)) mdl it1 i rl LL1 (hP 0 _ rfl) (by omega)) q206 q198 q202 q204 q88 q200 q199 q205 q203 q201 ⟨by decide +kernel, by decide +kernel, by decide +kernel⟩ rfl rfl rfl (z_rv hC (ci := 9) rfl (hP 0 _ rfl) rfl) rfl (Nat.le_of_ble_eq_true rfl) ⟨Nat.le_of_ble_eq_true rfl, Nat.le_of_ble_eq_true rfl⟩ ⟨zfit (k := 0) (z := 60) rfl rfl (by omega), zfit (k := 0) (z := 700) rfl rfl (by omega)⟩ dX1_elementsNow_11) ⟨zad (k := 0) rfl (by omega), zad (k := 0) rfl (by omega)⟩ hS (fun _ z => z.elim) (fun r H5 locs hp hF hS1 => ?_)
      obtain ⟨_, rfl, rfl⟩ := hp
      have hP := zpk hP hF
      have hP : va_P G.1 zCl ([(it1, zOb 9 [.int (iI ((i : Nat) : Int)), .int (iI rl), .int (iI mdl), .ref (ρ (3, 0, 0))])]) H5 := hP
      have hD : va_D (zA M0 H0) ([(it1, zOb 9 [.int (iI ((i : Nat) : Int)), .int (iI rl), .int (iI mdl), .ref (ρ (3, 0, 0))])]) := hD
      have hH1 : HC G s0 ρ σ H5 := hH1.ext0 hE hF
      have LL1 : zLs G (ρ (3, 0, 0)) (St_ne σ) (fun j => ρ (13, j, 0)) (ρ (4, 0, 0)) mdl H5 := LL1.ext0 hF
      have hS := hS1
      refine z_zeq (tgt := 64) hx hb dX1_elementsNow_16 (by decide) (by split <;> omega) (fun c1 => ?_) (fun c1 => ?_)
      · have ei : i = St_ne σ := by split at c1 <;> omega
        refine lv_iload_n hx hb dX1_elementsNow_64 rfl (lv_at hl 0 rfl) ?_
        exact z_iret hC hrt hlk hQ hS ⟨zle (z := 60) rfl (by omega), zle (z := 700) rfl (by omega)⟩ ⟨_, rfl, by rw [hc, ei]⟩ dX1_elementsNow_65
      · have hin : i < St_ne σ := by split at c1; assumption; omega
        refine lv_aload_n hx hb dX1_elementsNow_19 rfl (lv_at hl 1 rfl) ?_
        refine z_go5 (1 + 4 * i) (4 + 40 * i) (z_runF (n := 0) (As := []) (rest := []) (ci := 9) hC hml hl.1 (m_J17_next hE H5 (hO.ext0 (zS_F hS)) (ρ (3, 0, 0)) (St_ne σ) (fun j => ρ (13, j, 0)) (ρ (4, 0, 0)) mdl it1 i rl (Nat.le_trans hO.1 hiq) ⟨fun z => by have := hh.lt hE hO (3, 0, 0) (dom0 _ (by omega)); omega, fun z => by have := hh.lt hE hO (4, 0, 0) (dom0 _ (by omega)); omega⟩ LL1 (hP 0 _ rfl) (by omega)) q215 q208 q211 q213 q88 q210 q209 q214 q212 q201 ⟨by decide +kernel, by decide +kernel, by decide +kernel⟩ rfl rfl rfl (z_rv hC (ci := 9) rfl (hP 0 _ rfl) rfl) rfl (Nat.le_of_ble_eq_true rfl) ⟨Nat.le_of_ble_eq_true rfl, Nat.le_of_ble_eq_true rfl⟩ ⟨zfit (k := 0) (z := 60) rfl rfl (by omega), zfit (k := 0) (z := 700) rfl rfl (by omega)⟩ dX1_elementsNow_20) ⟨zad (k := 0) rfl (by omega), zad (k := 0) rfl (by omega)⟩ hS (fun q z => by subst z; exact hD.2 0 _ rfl) (fun r H6 locs hp hF hS1 => ?_)
        obtain ⟨_, rfl, rfl, hm⟩ := hp
        obtain ⟨hP, hD⟩ := zjm hP hD hF 0 rfl hm
        have hP : va_P G.1 zCl ([(it1, zOb 9 [.int (iI ((i + 1 : Nat) : Int)), .int (iI ((i : Nat) : Int)), .int (iI mdl), .ref (ρ (3, 0, 0))])]) H6 := hP
        have hD : va_D (zA M0 H0) ([(it1, zOb 9 [.int (iI ((i + 1 : Nat) : Int)), .int (iI ((i : Nat) : Int)), .int (iI mdl), .ref (ρ (3, 0, 0))])]) := hD
        have hH1 : HC G s0 ρ σ H6 := hH1.ext hE hF (fun a9 ha9 _ z => by have := hh.lt hE hO a9 ha9; omega)
        have LL1 : zLs G (ρ (3, 0, 0)) (St_ne σ) (fun j => ρ (13, j, 0)) (ρ (4, 0, 0)) mdl H6 := LL1.ext hF (fun z => by have := hh.lt hE hO (3, 0, 0) (dom0 _ (by omega)); omega) (fun _ z => by have := hh.lt hE hO (4, 0, 0) (dom0 _ (by omega)); omega)
        have hS := hS1
        have hvi := hH1.row (j := i) (by omega)
        have hEi := hH1.el (j := i) (by omega)
        have heai := hH1.ea (j := i) (by omega)
        obtain ⟨hn16i, -⟩ := (hH1.ag heai).n
        have hcl := suN_le (f := zeF σ) (B := 1) (n := i) (fun j hj => by unfold zeF; split <;> omega)
        refine z_cast hC (ci := 6) rfl hEi.1 rfl q220 dX1_elementsNow_25 ?_
        refine lv_astore (lv' := [(4, .ref (ρ (13, i, 0))), (2, .int (iI ((c : Nat) : Int))), (3, .ref it1), (0, .ref (ρ (0, 0, 0))), (1, .int (iI 0))]) hx hb dX1_elementsNow_28 hl (by decide) rfl (fun ls hl => ?_)
        refine lv_iload_n hx hb dX1_elementsNow_30 rfl (lv_at hl 1 rfl) ?_
        refine lv_iload_n hx hb dX1_elementsNow_31 rfl (lv_at hl 4 rfl) ?_
        refine z_zeq (tgt := 46) hx hb dX1_elementsNow_32 (by decide) (by omega) (fun c7 => ?_) (fun c7 => ?_)
        · refine lv_aload hx hb dX1_elementsNow_46 (lv_at hl 0 rfl) ?_
          refine z_go ((1 + 4 * i) + 4) ((4 + 40 * i) + 38) (z_runV (As := []) (rest := [.int (iI ((c : Nat) : Int))]) hC hml hl.1 (m_X7_norm hE H6 (hO.ext0 (zS_F hS)) (ρ (0, 0, 0)) (ρ (6, St_ea σ i, 0)) (St_p σ) (St_d σ (St_ea σ i)) (St_n σ (St_ea σ i)) (St_kd σ (St_ea σ i)) (St_dv σ (St_ea σ i)) (St_sg σ (St_ea σ i)) (ρ (13, i, 0)) (ρ (14, i, 0)) (St_ev σ i)  (hH1.ag (hH1.ea (j := i) (by omega))) (hH1.el (j := i) (by omega)) hvi ) (lw_V q307 q308 q309 q92 q310) rfl nd_X7_norm rfl (z_rv hC (ci := 6) rfl hEi.1 rfl) rfl (Nat.le_of_ble_eq_true rfl) ⟨Nat.le_of_ble_eq_true rfl, Nat.le_of_ble_eq_true rfl⟩ ⟨zfit (k := 4) (z := 60) rfl rfl (by omega), zfit (k := 38) (z := 700) rfl rfl (by omega)⟩ dX1_elementsNow_48) ⟨zad (k := 4) rfl (by omega), zad (k := 38) rfl (by omega)⟩ hS (fun _ z => z.elim) (fun r H8 locs hp hF hS1 => ?_)
          obtain ⟨_, rfl, rfl⟩ := hp
          have hP := zpk hP hF
          have hP : va_P G.1 zCl ([(it1, zOb 9 [.int (iI ((i + 1 : Nat) : Int)), .int (iI ((i : Nat) : Int)), .int (iI mdl), .ref (ρ (3, 0, 0))])]) H8 := hP
          have hD : va_D (zA M0 H0) ([(it1, zOb 9 [.int (iI ((i + 1 : Nat) : Int)), .int (iI ((i : Nat) : Int)), .int (iI mdl), .ref (ρ (3, 0, 0))])]) := hD
          have hH1 : HC G s0 ρ σ H8 := hH1.ext0 hE hF
          have LL1 : zLs G (ρ (3, 0, 0)) (St_ne σ) (fun j => ρ (13, j, 0)) (ρ (4, 0, 0)) mdl H8 := LL1.ext0 hF
          have hS := hS1
          have htv : 0 ≤ tmV (St_p σ) (St_n σ (St_ea σ i)) (St_sg σ (St_ea σ i)) (St_ev σ i) (cjV (St_p σ) (St_kd σ (St_ea σ i)) (St_ev σ i)) 0 ∧ tmV (St_p σ) (St_n σ (St_ea σ i)) (St_sg σ (St_ea σ i)) (St_ev σ i) (cjV (St_p σ) (St_kd σ (St_ea σ i)) (St_ev σ i)) 0 < St_p σ := md_in hp _
          refine z_zne (tgt := 58) hx hb dX1_elementsNow_51 (by decide) (by omega) (fun cz => ?_) (fun cz => ?_)
          · refine lv_iconst (v := iI 0) hx hb dX1_elementsNow_58 rfl ?_
            refine z_add hx hb (z := ((c : Nat) : Int) + 0) dX1_elementsNow_59 rfl ?_
            refine z_top (b := ((c + 0 : Nat) : Int)) (by omega) ?_
            refine lv_istore_n (lv' := [(2, .int (iI ((c + 0 : Nat) : Int))), (4, .ref (ρ (13, i, 0))), (3, .ref it1), (0, .ref (ρ (0, 0, 0))), (1, .int (iI 0))]) hx hb dX1_elementsNow_60 rfl hl (by decide) rfl (fun ls hl => ?_)
            refine lv_goto (tgt := 10) hx hb dX1_elementsNow_61 (by decide) ?_
            exact W.widen (by omega) (by omega) (ihlp3 (St_ne σ - (i + 1)) (by omega) (i + 1) (c + 0) (i : Int) rfl (by omega) (by simp only [suN, zeF]; rw [if_neg (by omega)]; omega) _ _ _ hH1 LL1 hP hD hS (lv_sub hl [0, 2, 3, 4] rfl))
          · refine lv_iconst (v := iI 1) hx hb dX1_elementsNow_54 rfl ?_
            refine lv_goto (tgt := 59) hx hb dX1_elementsNow_55 (by decide) ?_
            refine z_add hx hb (z := ((c : Nat) : Int) + 1) dX1_elementsNow_59 rfl ?_
            refine z_top (b := ((c + 1 : Nat) : Int)) (by omega) ?_
            refine lv_istore_n (lv' := [(2, .int (iI ((c + 1 : Nat) : Int))), (4, .ref (ρ (13, i, 0))), (3, .ref it1), (0, .ref (ρ (0, 0, 0))), (1, .int (iI 0))]) hx hb dX1_elementsNow_60 rfl hl (by decide) rfl (fun ls hl => ?_)
            refine lv_goto (tgt := 10) hx hb dX1_elementsNow_61 (by decide) ?_
            exact W.widen (by omega) (by omega) (ihlp3 (St_ne σ - (i + 1)) (by omega) (i + 1) (c + 1) (i : Int) rfl (by omega) (by simp only [suN, zeF]; rw [if_pos (by omega)]; omega) _ _ _ hH1 LL1 hP hD hS (lv_sub hl [0, 2, 3, 4] rfl))
        · omega
  exact W.widen (by omega) (by omega) (lp3 _ 0 0 (-1) rfl (Nat.zero_le _) rfl _ _ _ hH1 LL1 hP hD hS (lv_sub hl [1, 0, 2, 3] rfl))

def scN (p a b : Int) : Int := fst (fun s => (b * (s : Int) * (s : Int)) % p == a) (p.toNat - 1) 1
abbrev rm_m_X1_scaleNow : Room := { frames := 2, cells := 0, slots := 0, locals := 43 }
set_option maxHeartbeats 4000000 in
theorem m_X1_scaleNow {l : Launch} {s0 : State} {G : zG} (hE : zE l s0 G) (H0 : Heap) (hO : zO s0 H0) (ρ : Ro → Nat) (σ : St) (u w : Int) (hh : HC G s0 ρ σ H0) (hu : (0 ≤ u ∧ u < 7) ∧ 0 ≤ w ∧ w < 7) : zM l s0 yX1_scaleNow cX1_scaleNow 4 (some FieldType.int) rm_m_X1_scaleNow [.ref (ρ (0, 0, 0)), .int (iI u), .int (iI w)] H0 M0 (ri (fun y _ => y = scN (St_p σ) u w)) := by
  refine z_met hE (by decide +kernel) (Nat.le_of_ble_eq_true rfl) ?_
  intro pp ee ss mm args below meth cd Q ls hC hml hrt hlk hnm hH hQ hS hl
  have hx := hC.x
  have hb := hC.b
  have hl : lv_has ls 4 [(0, .ref (ρ (0, 0, 0))), (1, .int (iI u)), (2, .int (iI w))] := hl
  have hP : va_P G.1 zCl [] H0 := va_nil
  have hD : va_D (zA M0 H0) [] := va_nilD
  have hH1 := hh
  obtain ⟨hp, hna, hal, hne9, hel9, hmr9⟩ := id hh.ok
  have hp7 : 0 < St_p σ ∧ St_p σ ≤ 7 := by rcases hp with h | h | h <;> rw [h] <;> decide
  obtain ⟨sm9, -⟩ := id hh.2.2.1.1
  refine lv_iconst (v := iI 1) hx hb dX1_scaleNow_0 rfl ?_
  refine lv_istore_n (lv' := [(3, .int (iI 1)), (0, .ref (ρ (0, 0, 0))), (1, .int (iI u)), (2, .int (iI w))]) hx hb dX1_scaleNow_1 rfl hl (by decide) rfl (fun ls hl => ?_)
  have lp1 : ∀ (dlp1 : Nat) (s9 : Nat), (St_p σ).toNat - s9 = dlp1 → (1 ≤ s9 ∧ s9 ≤ (St_p σ).toNat) → (fst (fun s => (w * (s : Int) * (s : Int)) % St_p σ == u) ((St_p σ).toNat - s9) s9 = scN (St_p σ) u w) → ∀ (H2 : Heap) (locs : List Loc) (ls : Array Slot), (HC G s0 ρ σ H2) → va_P G.1 zCl ([]) H2 → va_D (zA M0 H0) ([]) → va_S (zA M0 H0) H0 H2 locs → lv_has ls 4 [(3, .int (iI ((s9 : Nat) : Int))), (0, .ref (ρ (0, 0, 0))), (1, .int (iI u)), (2, .int (iI w))] → W pp l ee rm_m_X1_scaleNow ss mm args below meth cd H2 locs 0 0 Q (F0 mm 2 ls []) := by
    intro dlp1
    induction dlp1 using Nat.strongRecOn with
    | ind dlp1 ihlp1 =>
      intro s9 hdlp1 hs9 hf H2 locs ls hH1 hP hD hS hl
      obtain ⟨sm, hxx⟩ := id hH1.2.2.1.1
      refine lv_iload_n hx hb dX1_scaleNow_2 rfl (lv_at hl 0 rfl) ?_
      refine lv_aload_n hx hb dX1_scaleNow_3 rfl (lv_at hl 1 rfl) ?_
      refine z_get hC (k := 0) rfl in_X1 hxx (by decide) q149 (fun _ h => h) rfl dX1_scaleNow_4 ?_
      refine z_cge (tgt := 31) hx hb dX1_scaleNow_7 (by decide) (by omega) (fun c3 => ?_) (fun c3 => ?_)
      · have ef : (St_p σ).toNat - s9 = 0 := by omega
        refine lv_iconst (v := iI (-1)) hx hb dX1_scaleNow_31 rfl ?_
        exact z_iret hC hrt hlk hQ hS ⟨zle (z := 0) rfl (by omega), zle (z := 0) rfl (by omega)⟩ ⟨_, rfl, by rw [← hf, ef]; rfl⟩ dX1_scaleNow_32
      · have hz3 := zmul3 (a := w) (b := (s9 : Int)) (c := (s9 : Int)) (p := 7) hu.2 ⟨by omega, by omega⟩ ⟨by omega, by omega⟩ (by decide)
        obtain ⟨sm, hxx⟩ := id hH1.2.2.1.1
        refine lv_aload_n hx hb dX1_scaleNow_10 rfl (lv_at hl 1 rfl) ?_
        refine lv_iload_n hx hb dX1_scaleNow_11 rfl (lv_at hl 3 rfl) ?_
        refine lv_iload_n hx hb dX1_scaleNow_12 rfl (lv_at hl 0 rfl) ?_
        refine z_mul hx hb (z := w * ((s9 : Nat) : Int)) dX1_scaleNow_13 rfl ?_
        refine lv_iload_n hx hb dX1_scaleNow_14 rfl (lv_at hl 0 rfl) ?_
        refine z_mul hx hb (z := (w * ((s9 : Nat) : Int)) * ((s9 : Nat) : Int)) dX1_scaleNow_15 rfl ?_
        refine z_go 0 0 (z_runV (As := [.int (iI ((w * ((s9 : Nat) : Int)) * ((s9 : Nat) : Int)))]) (rest := []) hC hml hl.1 (m_X1_mod hE H2 (hO.ext0 (zS_F hS)) (ρ (0, 0, 0)) (ρ (1, 0, 0)) (ρ (3, 0, 0)) (ρ (5, 0, 0)) (St_p σ) (St_kn σ : Int) sm (w * (s9 : Int) * (s9 : Int)) hxx hp7 (by omega)) (lw_V q450 q354 qs5 q62 q355) rfl nd_X1_mod rfl (z_rv hC (ci := 0) rfl hxx rfl) rfl (Nat.le_of_ble_eq_true rfl) ⟨Nat.le_of_ble_eq_true rfl, Nat.le_of_ble_eq_true rfl⟩ ⟨zfit (k := 0) (z := 0) rfl rfl (by omega), zfit (k := 0) (z := 0) rfl rfl (by omega)⟩ dX1_scaleNow_16) ⟨zad (k := 0) rfl (by omega), zad (k := 0) rfl (by omega)⟩ hS (fun _ z => z.elim) (fun r H4 locs hp hF hS1 => ?_)
        obtain ⟨_, rfl, rfl⟩ := hp
        have hP := zpk hP hF
        have hP : va_P G.1 zCl ([]) H4 := hP
        have hD : va_D (zA M0 H0) ([]) := hD
        have hH1 : HC G s0 ρ σ H4 := hH1.ext0 hE hF
        have hS := hS1
        have hmd := md_in hp (w * (s9 : Int) * (s9 : Int))
        refine lv_iload_n hx hb dX1_scaleNow_19 rfl (lv_at hl 2 rfl) ?_
        refine z_cne (tgt := 25) hx hb dX1_scaleNow_20 (by decide) (by omega) (fun c5 => ?_) (fun c5 => ?_)
        · refine z_iinc (z := ((s9 + 1 : Nat) : Int)) (lv' := [(3, .int (iI ((s9 + 1 : Nat) : Int))), (0, .ref (ρ (0, 0, 0))), (1, .int (iI u)), (2, .int (iI w))]) hx hb dX1_scaleNow_25 hl (k := 0) rfl (by omega) (by decide) rfl (fun ls hl => ?_)
          refine lv_goto (tgt := 2) hx hb dX1_scaleNow_28 (by decide) ?_
          exact W.widen (by omega) (by omega) (ihlp1 ((St_p σ).toNat - (s9 + 1)) (by omega) (s9 + 1) rfl (⟨by omega, by omega⟩) (by rw [← hf, fst_miss (k := s9) (beq_f (by assumption)) (by omega)]; rw [show (St_p σ).toNat - (s9 + 1) = (St_p σ).toNat - s9 - 1 by omega]) _ _ _ hH1 hP hD hS hl)
        · refine lv_iload_n hx hb dX1_scaleNow_23 rfl (lv_at hl 0 rfl) ?_
          exact z_iret hC hrt hlk hQ hS ⟨zle (z := 0) rfl (by omega), zle (z := 0) rfl (by omega)⟩ ⟨_, rfl, by rw [← hf]; exact (fst_hit (beq_t (by assumption)) (by omega)).symm⟩ dX1_scaleNow_24
  exact W.widen (by omega) (by omega) (lp1 _ 1 rfl (⟨by omega, by omega⟩) rfl _ _ _ hH1 hP hD hS hl)

