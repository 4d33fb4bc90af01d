/-! THE HOUSE: tests; who is at a place; what is kept -/
set_option maxRecDepth 100000
abbrev rm_m_X1_require : Room := { frames := 6, cells := 1, slots := 6, locals := 90 }
set_option maxHeartbeats 4000000 in
theorem m_X1_require {l : Launch} {s0 : State} {G : zG} (hE : zE l s0 G) (H0 : Heap) (hO : zO s0 H0) (b : Nat) (hb1 : b ≤ 1) : zMX l s0 yX1_require cX1_require 1 (none : Option FieldType) rm_m_X1_require [.int (iI ((b : Nat) : Int))] H0 M0 (rv (fun _ => b = 1)) (fun E _ => E = "java/lang/IllegalArgumentException" ∧ b = 0) := by
  refine z_metX hE (by decide +kernel) (Nat.le_of_ble_eq_true rfl) ?_
  intro pp ee ss mm args below meth cd Q ls hC hml hrt hlk hnm hH hQ hno hX hS hl
  have hx := hC.x
  have hb := hC.b
  have hl : lv_has ls 1 [(0, .int (iI ((b : Nat) : Int)))] := hl
  have hP : va_P G.1 zCl [] H0 := va_nil
  have hD : va_D (zA M0 H0) [] := va_nilD
  refine lv_iload_n hx hb dX1_require_0 rfl (lv_at hl 0 rfl) ?_
  refine z_zne (tgt := 12) hx hb dX1_require_1 (by decide) (by omega) (fun c1 => ?_) (fun c1 => ?_)
  · exact z_vret hC hrt hlk hQ hS ⟨zle (z := 1) rfl (by omega), zle (z := 6) rfl (by omega)⟩ ⟨rfl, by omega⟩ dX1_require_12
  · exact z_throw hC hH hO (fun _ z => z.elim) (hl.1.trans hml.symm) hno hlk hX hS (by decide +kernel) at_A ok_A.1 q908 q72 ok_A.2 dX1_require_4 dX1_require_7 dX1_require_8 dX1_require_11 ⟨by decide, by decide, zle (z := 1) rfl (by omega), zle (z := 6) rfl (by omega)⟩ ⟨zle (z := 1) rfl (by omega), zle (z := 6) rfl (by omega)⟩ (fun H9 hF9 => ⟨rfl, by omega⟩)

abbrev rm_m_X1_requireState : Room := { frames := 6, cells := 1, slots := 6, locals := 90 }
set_option maxHeartbeats 4000000 in
theorem m_X1_requireState {l : Launch} {s0 : State} {G : zG} (hE : zE l s0 G) (H0 : Heap) (hO : zO s0 H0) (b : Nat) (hb1 : b ≤ 1) : zMX l s0 yX1_requireState cX1_requireState 1 (none : Option FieldType) rm_m_X1_requireState [.int (iI ((b : Nat) : Int))] H0 M0 (rv (fun _ => b = 1)) (fun E _ => E = "java/lang/IllegalStateException" ∧ b = 0) := by
  refine z_metX hE (by decide +kernel) (Nat.le_of_ble_eq_true rfl) ?_
  intro pp ee ss mm args below meth cd Q ls hC hml hrt hlk hnm hH hQ hno hX hS hl
  have hx := hC.x
  have hb := hC.b
  have hl : lv_has ls 1 [(0, .int (iI ((b : Nat) : Int)))] := hl
  have hP : va_P G.1 zCl [] H0 := va_nil
  have hD : va_D (zA M0 H0) [] := va_nilD
  refine lv_iload_n hx hb dX1_requireState_0 rfl (lv_at hl 0 rfl) ?_
  refine z_zne (tgt := 12) hx hb dX1_requireState_1 (by decide) (by omega) (fun c1 => ?_) (fun c1 => ?_)
  · exact z_vret hC hrt hlk hQ hS ⟨zle (z := 1) rfl (by omega), zle (z := 6) rfl (by omega)⟩ ⟨rfl, by omega⟩ dX1_requireState_12
  · exact z_throw hC hH hO (fun _ z => z.elim) (hl.1.trans hml.symm) hno hlk hX hS (by decide +kernel) at_S ok_S.1 q922 q73 ok_S.2 dX1_requireState_4 dX1_requireState_7 dX1_requireState_8 dX1_requireState_11 ⟨by decide, by decide, zle (z := 1) rfl (by omega), zle (z := 6) rfl (by omega)⟩ ⟨zle (z := 1) rfl (by omega), zle (z := 6) rfl (by omega)⟩ (fun H9 hF9 => ⟨rfl, by omega⟩)

abbrev rm_m_X1_requireIndex : Room := { frames := 6, cells := 1, slots := 6, locals := 90 }
set_option maxHeartbeats 4000000 in
theorem m_X1_requireIndex {l : Launch} {s0 : State} {G : zG} (hE : zE l s0 G) (H0 : Heap) (hO : zO s0 H0) (i n : Int) (h : zi i ∧ 0 ≤ n ∧ n ≤ 1000) : zMX l s0 yX1_requireIndex cX1_requireIndex 2 (none : Option FieldType) rm_m_X1_requireIndex [.int (iI i), .int (iI n)] H0 M0 (rv (fun _ => 0 ≤ i ∧ i < n)) (fun E _ => E = "java/lang/IndexOutOfBoundsException" ∧ ¬ (0 ≤ i ∧ i < n)) := by
  refine z_metX hE (by decide +kernel) (Nat.le_of_ble_eq_true rfl) ?_
  intro pp ee ss mm args below meth cd Q ls hC hml hrt hlk hnm hH hQ hno hX hS hl
  have hx := hC.x
  have hb := hC.b
  have hl : lv_has ls 2 [(0, .int (iI i)), (1, .int (iI n))] := hl
  have hP : va_P G.1 zCl [] H0 := va_nil
  have hD : va_D (zA M0 H0) [] := va_nilD
  refine lv_iload_n hx hb dX1_requireIndex_0 rfl (lv_at hl 0 rfl) ?_
  refine z_zlt (tgt := 9) hx hb dX1_requireIndex_1 (by decide) (by omega) (fun c1 => ?_) (fun c1 => ?_)
  · exact z_throw hC hH hO (fun _ z => z.elim) (hl.1.trans hml.symm) hno hlk hX hS (by decide +kernel) at_I ok_I.1 q1063 q83 ok_I.2 dX1_requireIndex_9 dX1_requireIndex_12 dX1_requireIndex_13 dX1_requireIndex_16 ⟨by decide, by decide, zle (z := 1) rfl (by omega), zle (z := 6) rfl (by omega)⟩ ⟨zle (z := 1) rfl (by omega), zle (z := 6) rfl (by omega)⟩ (fun H9 hF9 => ⟨rfl, by omega⟩)
  · refine lv_iload_n hx hb dX1_requireIndex_4 rfl (lv_at hl 0 rfl) ?_
    refine lv_iload_n hx hb dX1_requireIndex_5 rfl (lv_at hl 1 rfl) ?_
    refine z_clt (tgt := 17) hx hb dX1_requireIndex_6 (by decide) (by omega) (fun c2 => ?_) (fun c2 => ?_)
    · exact z_vret hC hrt hlk hQ hS ⟨zle (z := 1) rfl (by omega), zle (z := 6) rfl (by omega)⟩ ⟨rfl, by omega⟩ dX1_requireIndex_17
    · exact z_throw hC hH hO (fun _ z => z.elim) (hl.1.trans hml.symm) hno hlk hX hS (by decide +kernel) at_I ok_I.1 q1063 q83 ok_I.2 dX1_requireIndex_9 dX1_requireIndex_12 dX1_requireIndex_13 dX1_requireIndex_16 ⟨by decide, by decide, zle (z := 1) rfl (by omega), zle (z := 6) rfl (by omega)⟩ ⟨zle (z := 1) rfl (by omega), zle (z := 6) rfl (by omega)⟩ (fun H9 hF9 => ⟨rfl, by omega⟩)

abbrev rm_m_X1_elementAt : Room := { frames := 7, cells := 1, slots := 6, locals := 111 }
set_option maxHeartbeats 4000000 in
theorem m_X1_elementAt {l : Launch} {s0 : State} {G : zG} (hE : zE l s0 G) (H0 : Heap) (hO : zO s0 H0) (ρ : Ro → Nat) (σ : St) (i : Int) (hh : HC G s0 ρ σ H0) (hi : zi i) : zMX l s0 yX1_elementAt cX1_elementAt 2 (some (FieldType.object "Versorhall$Element")) rm_m_X1_elementAt [.ref (ρ (0, 0, 0)), .int (iI i)] H0 M0 (rr (fun q _ => ∃ j : Nat, i = j ∧ j < St_ne σ ∧ q = (ρ (13, j, 0)))) (fun E _ => E = "java/lang/IndexOutOfBoundsException" ∧ ¬ (0 ≤ i ∧ i < (St_ne σ : Nat))) := by
  refine z_metX hE (by decide +kernel) (Nat.le_of_ble_eq_true rfl) ?_
  intro pp ee ss mm args below meth cd Q ls hC hml hrt hlk hnm hH hQ hno hX hS hl
  have hx := hC.x
  have hb := hC.b
  have hl : lv_has ls 2 [(0, .ref (ρ (0, 0, 0))), (1, .int (iI i))] := hl
  have hP : va_P G.1 zCl [] H0 := va_nil
  have hD : va_D (zA M0 H0) [] := va_nilD
  have hH1 := hh
  obtain ⟨hp, hna, hal, hne9, hel9, hmr9⟩ := id hh.ok
  have hp7 : 0 < St_p σ ∧ St_p σ ≤ 7 := by rcases hp with h | h | h <;> rw [h] <;> decide
  obtain ⟨sm9, -⟩ := id hh.2.2.1.1
  obtain ⟨sm, hxx⟩ := id hH1.2.2.1.1
  refine lv_iload_n hx hb dX1_elementAt_0 rfl (lv_at hl 1 rfl) ?_
  refine lv_aload_n hx hb dX1_elementAt_1 rfl (lv_at hl 0 rfl) ?_
  refine z_get hC (k := 2) rfl in_X1 hxx (by decide) q153 (fun _ h => h) rfl dX1_elementAt_2 ?_
  obtain ⟨mde, hLe⟩ := id hH1.2.2.1.2.2.1
  refine z_go 0 0 (z_runV (As := []) (rest := [.int (iI i)]) hC hml hl.1 (m_J2_size hE H0 (hO.ext0 (zS_F hS)) (ρ (3, 0, 0)) (St_ne σ) (fun j => ρ (13, j, 0)) (ρ (4, 0, 0)) mde hLe) (lw_V q229 q230 q231 q65 q232) rfl nd_J2_size rfl (z_rv hC (ci := 8) rfl hLe.1 rfl) rfl (Nat.le_of_ble_eq_true rfl) ⟨Nat.le_of_ble_eq_true rfl, Nat.le_of_ble_eq_true rfl⟩ ⟨zfit (k := 0) (z := 1) rfl rfl (by omega), zfit (k := 0) (z := 6) rfl rfl (by omega)⟩ dX1_elementAt_5) ⟨zad (k := 0) rfl (by omega), zad (k := 0) rfl (by omega)⟩ hS (fun _ z => z.elim) (fun r H1 locs hp hF hS1 => ?_)
  obtain ⟨_, rfl, rfl⟩ := hp
  have hP := zpk hP hF
  have hP : va_P G.1 zCl ([]) H1 := hP
  have hD : va_D (zA M0 H0) ([]) := hD
  have hH1 : HC G s0 ρ σ H1 := hH1.ext0 hE hF
  have hS := hS1
  refine z_goX 1 6 (z_runSx (As := [.int (iI i), .int (iI ((St_ne σ : Nat) : Int))]) (rest := []) hC hml hl.1 (m_X1_requireIndex hE H1 (hO.ext0 (zS_F hS)) i ((St_ne σ : Nat) : Int) ⟨hi, by omega, by omega⟩) (lw_S q1060 q1061 q62 q1062) nd_X1_requireIndex rfl rfl (Nat.le_of_ble_eq_true rfl) ⟨Nat.le_of_ble_eq_true rfl, Nat.le_of_ble_eq_true rfl⟩ ⟨zfit (k := 1) (z := 1) rfl rfl (by omega), zfit (k := 6) (z := 6) rfl rfl (by omega)⟩ dX1_elementAt_8) ⟨zad (k := 1) rfl (by omega), zad (k := 6) rfl (by omega)⟩ hS (fun _ z => z.elim) (fun E ce q9 Hx2 locs hp hF hS1 hce hcv hcl => ?_) (fun r H3 locs hp hF hS1 => ?_)
  · exact z_out hno hlk hX hS1 ⟨zle (z := 1) rfl (by omega), zle (z := 6) rfl (by omega)⟩ hce hcv hcl (⟨hp.1, hp.2⟩)
  obtain ⟨rfl, hix⟩ := hp
  have hP := zpk hP hF
  have hP : va_P G.1 zCl ([]) H3 := hP
  have hD : va_D (zA M0 H0) ([]) := hD
  have hH1 : HC G s0 ρ σ H3 := hH1.ext0 hE hF
  have hS := hS1
  obtain ⟨j, rfl⟩ : ∃ j : Nat, i = j := ⟨i.toNat, by omega⟩
  obtain ⟨sm, hxx⟩ := id hH1.2.2.1.1
  refine lv_aload_n hx hb dX1_elementAt_11 rfl (lv_at hl 0 rfl) ?_
  refine z_get hC (k := 2) rfl in_X1 hxx (by decide) q153 (fun _ h => h) rfl dX1_elementAt_12 ?_
  refine lv_iload_n hx hb dX1_elementAt_15 rfl (lv_at hl 1 rfl) ?_
  obtain ⟨mde, hLe⟩ := id hH1.2.2.1.2.2.1
  refine z_go 1 6 (z_runV (As := [.int (iI ((j : Nat) : Int))]) (rest := []) hC hml hl.1 (m_J2_get hE H3 (hO.ext0 (zS_F hS)) (ρ (3, 0, 0)) (St_ne σ) (fun j => ρ (13, j, 0)) (ρ (4, 0, 0)) mde j hLe (by omega)) (lw_V q372 q373 q374 q65 q375) rfl nd_J2_get rfl (z_rv hC (ci := 8) rfl hLe.1 rfl) rfl (Nat.le_of_ble_eq_true rfl) ⟨Nat.le_of_ble_eq_true rfl, Nat.le_of_ble_eq_true rfl⟩ ⟨zfit (k := 0) (z := 1) rfl rfl (by omega), zfit (k := 0) (z := 6) rfl rfl (by omega)⟩ dX1_elementAt_16) ⟨zad (k := 0) rfl (by omega), zad (k := 0) rfl (by omega)⟩ hS (fun _ z => z.elim) (fun r H4 locs hp hF hS1 => ?_)
  obtain ⟨_, rfl, rfl⟩ := hp
  have hP := zpk hP hF
  have hP : va_P G.1 zCl ([]) H4 := hP
  have hD : va_D (zA M0 H0) ([]) := hD
  have hH1 : HC G s0 ρ σ H4 := hH1.ext0 hE hF
  have hS := hS1
  have hej := hH1.el (j := j) (by omega)
  refine z_cast hC (ci := 6) rfl hej.1 rfl q220 dX1_elementAt_19 ?_
  exact z_aret hC hrt hlk hQ hS ⟨zle (z := 1) rfl (by omega), zle (z := 6) rfl (by omega)⟩ ⟨_, rfl, j, rfl, by omega, rfl⟩ dX1_elementAt_22

abbrev rm_m_X1_algebraAt : Room := { frames := 7, cells := 1, slots := 6, locals := 111 }
set_option maxHeartbeats 4000000 in
theorem m_X1_algebraAt {l : Launch} {s0 : State} {G : zG} (hE : zE l s0 G) (H0 : Heap) (hO : zO s0 H0) (ρ : Ro → Nat) (σ : St) (i : Int) (hh : HC G s0 ρ σ H0) (hi : zi i) : zMX l s0 yX1_algebraAt cX1_algebraAt 2 (some (FieldType.object "Versorhall$Algebra")) rm_m_X1_algebraAt [.ref (ρ (0, 0, 0)), .int (iI i)] H0 M0 (rr (fun q _ => ∃ j : Nat, i = j ∧ j < St_na σ ∧ q = (ρ (6, j, 0)))) (fun E _ => E = "java/lang/IndexOutOfBoundsException" ∧ ¬ (0 ≤ i ∧ i < (St_na σ : Nat))) := by
  refine z_metX hE (by decide +kernel) (Nat.le_of_ble_eq_true rfl) ?_
  intro pp ee ss mm args below meth cd Q ls hC hml hrt hlk hnm hH hQ hno hX hS hl
  have hx := hC.x
  have hb := hC.b
  have hl : lv_has ls 2 [(0, .ref (ρ (0, 0, 0))), (1, .int (iI i))] := hl
  have hP : va_P G.1 zCl [] H0 := va_nil
  have hD : va_D (zA M0 H0) [] := va_nilD
  have hH1 := hh
  obtain ⟨hp, hna, hal, hne9, hel9, hmr9⟩ := id hh.ok
  have hp7 : 0 < St_p σ ∧ St_p σ ≤ 7 := by rcases hp with h | h | h <;> rw [h] <;> decide
  obtain ⟨sm9, -⟩ := id hh.2.2.1.1
  obtain ⟨sm, hxx⟩ := id hH1.2.2.1.1
  refine lv_iload_n hx hb dX1_algebraAt_0 rfl (lv_at hl 1 rfl) ?_
  refine lv_aload_n hx hb dX1_algebraAt_1 rfl (lv_at hl 0 rfl) ?_
  refine z_get hC (k := 1) rfl in_X1 hxx (by decide) q152 (fun _ h => h) rfl dX1_algebraAt_2 ?_
  obtain ⟨mda, hLa⟩ := id hH1.2.2.1.2.1
  refine z_go 0 0 (z_runV (As := []) (rest := [.int (iI i)]) hC hml hl.1 (m_J2_size hE H0 (hO.ext0 (zS_F hS)) (ρ (1, 0, 0)) (St_na σ) (fun k => ρ (6, k, 0)) (ρ (2, 0, 0)) mda hLa) (lw_V q229 q230 q231 q65 q232) rfl nd_J2_size rfl (z_rv hC (ci := 8) rfl hLa.1 rfl) rfl (Nat.le_of_ble_eq_true rfl) ⟨Nat.le_of_ble_eq_true rfl, Nat.le_of_ble_eq_true rfl⟩ ⟨zfit (k := 0) (z := 1) rfl rfl (by omega), zfit (k := 0) (z := 6) rfl rfl (by omega)⟩ dX1_algebraAt_5) ⟨zad (k := 0) rfl (by omega), zad (k := 0) rfl (by omega)⟩ hS (fun _ z => z.elim) (fun r H1 locs hp hF hS1 => ?_)
  obtain ⟨_, rfl, rfl⟩ := hp
  have hP := zpk hP hF
  have hP : va_P G.1 zCl ([]) H1 := hP
  have hD : va_D (zA M0 H0) ([]) := hD
  have hH1 : HC G s0 ρ σ H1 := hH1.ext0 hE hF
  have hS := hS1
  refine z_goX 1 6 (z_runSx (As := [.int (iI i), .int (iI ((St_na σ : Nat) : Int))]) (rest := []) hC hml hl.1 (m_X1_requireIndex hE H1 (hO.ext0 (zS_F hS)) i ((St_na σ : Nat) : Int) ⟨hi, by omega, by omega⟩) (lw_S q1060 q1061 q62 q1062) nd_X1_requireIndex rfl rfl (Nat.le_of_ble_eq_true rfl) ⟨Nat.le_of_ble_eq_true rfl, Nat.le_of_ble_eq_true rfl⟩ ⟨zfit (k := 1) (z := 1) rfl rfl (by omega), zfit (k := 6) (z := 6) rfl rfl (by omega)⟩ dX1_algebraAt_8) ⟨zad (k := 1) rfl (by omega), zad (k := 6) rfl (by omega)⟩ hS (fun _ z => z.elim) (fun E ce q9 Hx2 locs hp hF hS1 hce hcv hcl => ?_) (fun r H3 locs hp hF hS1 => ?_)
  · exact z_out hno hlk hX hS1 ⟨zle (z := 1) rfl (by omega), zle (z := 6) rfl (by omega)⟩ hce hcv hcl (⟨hp.1, hp.2⟩)
  obtain ⟨rfl, hix⟩ := hp
  have hP := zpk hP hF
  have hP : va_P G.1 zCl ([]) H3 := hP
  have hD : va_D (zA M0 H0) ([]) := hD
  have hH1 : HC G s0 ρ σ H3 := hH1.ext0 hE hF
  have hS := hS1
  obtain ⟨j, rfl⟩ : ∃ j : Nat, i = j := ⟨i.toNat, by omega⟩
  obtain ⟨sm, hxx⟩ := id hH1.2.2.1.1
  refine lv_aload_n hx hb dX1_algebraAt_11 rfl (lv_at hl 0 rfl) ?_
  refine z_get hC (k := 1) rfl in_X1 hxx (by decide) q152 (fun _ h => h) rfl dX1_algebraAt_12 ?_
  refine lv_iload_n hx hb dX1_algebraAt_15 rfl (lv_at hl 1 rfl) ?_
  obtain ⟨mda, hLa⟩ := id hH1.2.2.1.2.1
  refine z_go 1 6 (z_runV (As := [.int (iI ((j : Nat) : Int))]) (rest := []) hC hml hl.1 (m_J2_get hE H3 (hO.ext0 (zS_F hS)) (ρ (1, 0, 0)) (St_na σ) (fun k => ρ (6, k, 0)) (ρ (2, 0, 0)) mda j hLa (by omega)) (lw_V q372 q373 q374 q65 q375) rfl nd_J2_get rfl (z_rv hC (ci := 8) rfl hLa.1 rfl) rfl (Nat.le_of_ble_eq_true rfl) ⟨Nat.le_of_ble_eq_true rfl, Nat.le_of_ble_eq_true rfl⟩ ⟨zfit (k := 0) (z := 1) rfl rfl (by omega), zfit (k := 0) (z := 6) rfl rfl (by omega)⟩ dX1_algebraAt_16) ⟨zad (k := 0) rfl (by omega), zad (k := 0) rfl (by omega)⟩ hS (fun _ z => z.elim) (fun r H4 locs hp hF hS1 => ?_)
  obtain ⟨_, rfl, rfl⟩ := hp
  have hP := zpk hP hF
  have hP : va_P G.1 zCl ([]) H4 := hP
  have hD : va_D (zA M0 H0) ([]) := hD
  have hH1 : HC G s0 ρ σ H4 := hH1.ext0 hE hF
  have hS := hS1
  have haj := (hH1.2.2.2.1 j (by omega)).1
  refine z_cast hC (ci := 4) rfl haj rfl q296 dX1_algebraAt_19 ?_
  exact z_aret hC hrt hlk hQ hS ⟨zle (z := 1) rfl (by omega), zle (z := 6) rfl (by omega)⟩ ⟨_, rfl, j, rfl, by omega, rfl⟩ dX1_algebraAt_22

abbrev rm_m_X1_isNumber : Room := { frames := 1, cells := 0, slots := 0, locals := 22 }
set_option maxHeartbeats 4000000 in
theorem m_X1_isNumber {l : Launch} {s0 : State} {G : zG} (hE : zE l s0 G) (H0 : Heap) (hO : zO s0 H0) (ρ : Ro → Nat) (σ : St) (i : Int) (hh : HC G s0 ρ σ H0) (hi : zi i) : zM l s0 yX1_isNumber cX1_isNumber 2 (some FieldType.boolean) rm_m_X1_isNumber [.ref (ρ (0, 0, 0)), .int (iI i)] H0 M0 (ri (fun y _ => y = if 0 ≤ i ∧ i < St_p σ then 1 else 0)) := by
  refine z_met hE (by decide +kernel) (Nat.le_of_ble_eq_true rfl) ?_
  intro pp ee ss mm args below meth cd Q ls hC hml hrt hlk hnm hH hQ hS hl
  have hx := hC.x
  have hb := hC.b
  have hl : lv_has ls 2 [(0, .ref (ρ (0, 0, 0))), (1, .int (iI i))] := hl
  have hP : va_P G.1 zCl [] H0 := va_nil
  have hD : va_D (zA M0 H0) [] := va_nilD
  have hH1 := hh
  obtain ⟨hp, hna, hal, hne9, hel9, hmr9⟩ := id hh.ok
  have hp7 : 0 < St_p σ ∧ St_p σ ≤ 7 := by rcases hp with h | h | h <;> rw [h] <;> decide
  obtain ⟨sm9, -⟩ := id hh.2.2.1.1
  obtain ⟨sm, hxx⟩ := id hH1.2.2.1.1
  refine lv_iconst (v := iI 0) hx hb dX1_isNumber_0 rfl ?_
  refine lv_aload_n hx hb dX1_isNumber_1 rfl (lv_at hl 0 rfl) ?_
  refine z_get hC (k := 0) rfl in_X1 hxx (by decide) q149 (fun _ h => h) rfl dX1_isNumber_2 ?_
  refine lv_iconst (v := iI 1) hx hb dX1_isNumber_5 rfl ?_
  refine z_sub hx hb (z := (St_p σ) - 1) dX1_isNumber_6 rfl ?_
  refine lv_iload_n hx hb dX1_isNumber_7 rfl (lv_at hl 1 rfl) ?_
  refine z_go 0 0 (z_runS (As := [.int (iI 0), .int (iI ((St_p σ) - 1)), .int (iI i)]) (rest := []) hC hml hl.1 (m_X1_isFrom hE H0 (hO.ext0 (zS_F hS)) 0 (St_p σ - 1) i ⟨by decide, ⟨by omega, by omega⟩, hi⟩) (lw_S q944 q350 q62 q351) nd_X1_isFrom rfl rfl (Nat.le_of_ble_eq_true rfl) ⟨Nat.le_of_ble_eq_true rfl, Nat.le_of_ble_eq_true rfl⟩ ⟨zfit (k := 0) (z := 0) rfl rfl (by omega), zfit (k := 0) (z := 0) rfl rfl (by omega)⟩ dX1_isNumber_8) ⟨zad (k := 0) rfl (by omega), zad (k := 0) rfl (by omega)⟩ hS (fun _ z => z.elim) (fun r H1 locs hp hF hS1 => ?_)
  obtain ⟨_, rfl, rfl⟩ := hp
  have hP := zpk hP hF
  have hP : va_P G.1 zCl ([]) H1 := hP
  have hD : va_D (zA M0 H0) ([]) := hD
  have hH1 : HC G s0 ρ σ H1 := hH1.ext0 hE hF
  have hS := hS1
  have eif : (if 0 ≤ i ∧ i ≤ St_p σ - 1 then (1 : Int) else 0) = if 0 ≤ i ∧ i < St_p σ then 1 else 0 := by split <;> split <;> omega
  refine z_top (b := (if 0 ≤ i ∧ i < St_p σ then 1 else 0)) (eif) ?_
  exact z_zret hC hrt hlk hQ hS ⟨zle (z := 0) rfl (by omega), zle (z := 0) rfl (by omega)⟩ (by split <;> omega) ⟨_, rfl, rfl⟩ dX1_isNumber_11

abbrev rm_m_X1_requireOne : Room := { frames := 7, cells := 1, slots := 6, locals := 110 }
set_option maxHeartbeats 4000000 in
theorem m_X1_requireOne {l : Launch} {s0 : State} {G : zG} (hE : zE l s0 G) (H0 : Heap) (hO : zO s0 H0) (ρ : Ro → Nat) (σ : St) (j k : Nat) (hh : HC G s0 ρ σ H0) (hj : j < St_ne σ ∧ k < St_ne σ) : zMX l s0 yX1_requireOne cX1_requireOne 3 (none : Option FieldType) rm_m_X1_requireOne [.ref (ρ (0, 0, 0)), .ref (ρ (13, j, 0)), .ref (ρ (13, k, 0))] H0 M0 (rv (fun _ => St_ea σ j = St_ea σ k)) (fun E _ => E = "java/lang/IllegalArgumentException" ∧ St_ea σ j ≠ St_ea σ k) := by
  refine z_metX hE (by decide +kernel) (Nat.le_of_ble_eq_true rfl) ?_
  intro pp ee ss mm args below meth cd Q ls hC hml hrt hlk hnm hH hQ hno hX hS hl
  have hx := hC.x
  have hb := hC.b
  have hl : lv_has ls 3 [(0, .ref (ρ (0, 0, 0))), (1, .ref (ρ (13, j, 0))), (2, .ref (ρ (13, k, 0)))] := hl
  have hP : va_P G.1 zCl [] H0 := va_nil
  have hD : va_D (zA M0 H0) [] := va_nilD
  have hH1 := hh
  obtain ⟨hp, hna, hal, hne9, hel9, hmr9⟩ := id hh.ok
  have hp7 : 0 < St_p σ ∧ St_p σ ≤ 7 := by rcases hp with h | h | h <;> rw [h] <;> decide
  obtain ⟨sm9, -⟩ := id hh.2.2.1.1
  have hej := hH1.el hj.1
  have hek := hH1.el hj.2
  refine lv_aload_n hx hb dX1_requireOne_0 rfl (lv_at hl 1 rfl) ?_
  refine z_getn hC (k := 0) rfl in_X7 hej.1 (by decide) q323 (fun _ h => h) rfl dX1_requireOne_1 ?_
  refine lv_aload_n hx hb dX1_requireOne_4 rfl (lv_at hl 2 rfl) ?_
  refine z_getn hC (k := 0) rfl in_X7 hek.1 (by decide) q323 (fun _ h => h) rfl dX1_requireOne_5 ?_
  refine z_ane (tgt := 15) hx hb dX1_requireOne_8 (by decide)   (fun c1 => ?_) (fun c1 => ?_)
  · refine lv_iconst (v := iI 0) hx hb dX1_requireOne_15 rfl ?_
    refine z_goX 1 6 (z_runSx (As := [.int (iI 0)]) (rest := []) hC hml hl.1 (m_X1_require hE H0 (hO.ext0 (zS_F hS)) 0 (by decide)) (lw_S q905 q906 q62 q907) nd_X1_require rfl rfl (Nat.le_of_ble_eq_true rfl) ⟨Nat.le_of_ble_eq_true rfl, Nat.le_of_ble_eq_true rfl⟩ ⟨zfit (k := 1) (z := 1) rfl rfl (by omega), zfit (k := 6) (z := 6) rfl rfl (by omega)⟩ dX1_requireOne_16) ⟨zad (k := 1) rfl (by omega), zad (k := 6) rfl (by omega)⟩ hS (fun _ z => z.elim) (fun E ce q9 Hx1 locs hp hF hS1 hce hcv hcl => ?_) (fun r H2 locs hp hF hS1 => ?_)
    · exact z_out hno hlk hX hS1 ⟨zle (z := 1) rfl (by omega), zle (z := 6) rfl (by omega)⟩ hce hcv hcl (⟨hp.1, fun e => c1 (by rw [e])⟩)
    obtain ⟨rfl, hb9⟩ := hp
    have hP := zpk hP hF
    have hP : va_P G.1 zCl ([]) H2 := hP
    have hD : va_D (zA M0 H0) ([]) := hD
    have hH1 : HC G s0 ρ σ H2 := hH1.ext0 hE hF
    have hS := hS1
    exact z_vret hC hrt hlk hQ hS ⟨zle (z := 1) rfl (by omega), zle (z := 6) rfl (by omega)⟩ ⟨rfl, absurd hb9 (by decide)⟩ dX1_requireOne_19
  · refine lv_iconst (v := iI 1) hx hb dX1_requireOne_11 rfl ?_
    refine lv_goto (tgt := 16) hx hb dX1_requireOne_12 (by decide) ?_
    refine z_goX 1 6 (z_runSx (As := [.int (iI 1)]) (rest := []) hC hml hl.1 (m_X1_require hE H0 (hO.ext0 (zS_F hS)) 1 (by decide)) (lw_S q905 q906 q62 q907) nd_X1_require rfl rfl (Nat.le_of_ble_eq_true rfl) ⟨Nat.le_of_ble_eq_true rfl, Nat.le_of_ble_eq_true rfl⟩ ⟨zfit (k := 1) (z := 1) rfl rfl (by omega), zfit (k := 6) (z := 6) rfl rfl (by omega)⟩ dX1_requireOne_16) ⟨zad (k := 1) rfl (by omega), zad (k := 6) rfl (by omega)⟩ hS (fun _ z => z.elim) (fun E ce q9 Hx3 locs hp hF hS1 hce hcv hcl => ?_) (fun r H4 locs hp hF hS1 => ?_)
    · exact z_out hno hlk hX hS1 ⟨zle (z := 1) rfl (by omega), zle (z := 6) rfl (by omega)⟩ hce hcv hcl (⟨hp.1, absurd hp.2 (by decide)⟩)
    obtain ⟨rfl, hb9⟩ := hp
    have hP := zpk hP hF
    have hP : va_P G.1 zCl ([]) H4 := hP
    have hD : va_D (zA M0 H0) ([]) := hD
    have hH1 : HC G s0 ρ σ H4 := hH1.ext0 hE hF
    have hS := hS1
    exact z_vret hC hrt hlk hQ hS ⟨zle (z := 1) rfl (by omega), zle (z := 6) rfl (by omega)⟩ ⟨rfl, by have := hh.sep.2 _ _ (domA 6 _ (by omega) (hh.ea hj.1)) (domA 6 _ (by omega) (hh.ea hj.2)) c1 (hh.sep.n12 hE (domA 6 _ (by omega) (hh.ea hj.1)) (by simp)); simpa using this⟩ dX1_requireOne_19

abbrev rm_m_X1_found : Room := { frames := 7, cells := 1, slots := 6, locals := 110 }
set_option maxHeartbeats 4000000 in
theorem m_X1_found {l : Launch} {s0 : State} {G : zG} (hE : zE l s0 G) (H0 : Heap) (hO : zO s0 H0) (q a : Nat) (fs : List Value) (h : zAt G q (zOb 10 [.ref a]) H0) (ha : zAt G a (zOb 6 fs) H0) : zMX l s0 yX1_found cX1_found 1 (some (FieldType.object "Versorhall$Element")) rm_m_X1_found [.ref q] H0 M0 (rr (fun y _ => y = a)) (fun _ _ => False) := by
  refine z_metX hE (by decide +kernel) (Nat.le_of_ble_eq_true rfl) ?_
  intro pp ee ss mm args below meth cd Q ls hC hml hrt hlk hnm hH hQ hno hX hS hl
  have hx := hC.x
  have hb := hC.b
  have hl : lv_has ls 1 [(0, .ref q)] := hl
  have hP : va_P G.1 zCl [] H0 := va_nil
  have hD : va_D (zA M0 H0) [] := va_nilD
  refine lv_aload_n hx hb dX1_found_0 rfl (lv_at hl 0 rfl) ?_
  refine z_go 0 0 (z_runV (As := []) (rest := []) hC hml hl.1 (m_J20_isPresent hE H0 (hO.ext0 (zS_F hS)) q a (zo hS h id)) (lw_V q1231 q1232 q1233 q94 q1234) rfl nd_J20_isPresent rfl (z_rv hC (ci := 10) rfl (zo hS h id) rfl) rfl (Nat.le_of_ble_eq_true rfl) ⟨Nat.le_of_ble_eq_true rfl, Nat.le_of_ble_eq_true rfl⟩ ⟨zfit (k := 0) (z := 1) rfl rfl (by omega), zfit (k := 0) (z := 6) rfl rfl (by omega)⟩ dX1_found_1) ⟨zad (k := 0) rfl (by omega), zad (k := 0) rfl (by omega)⟩ hS (fun _ z => z.elim) (fun r H1 locs hp hF hS1 => ?_)
  obtain ⟨_, rfl, rfl⟩ := hp
  have hP := zpk hP hF
  have hP : va_P G.1 zCl ([]) H1 := hP
  have hD : va_D (zA M0 H0) ([]) := hD
  have hS := hS1
  refine z_goX 1 6 (z_runSx (As := [.int (iI 1)]) (rest := []) hC hml hl.1 (m_X1_requireState hE H1 (hO.ext0 (zS_F hS)) 1 (by decide)) (lw_S q919 q920 q62 q921) nd_X1_requireState rfl rfl (Nat.le_of_ble_eq_true rfl) ⟨Nat.le_of_ble_eq_true rfl, Nat.le_of_ble_eq_true rfl⟩ ⟨zfit (k := 1) (z := 1) rfl rfl (by omega), zfit (k := 6) (z := 6) rfl rfl (by omega)⟩ dX1_found_4) ⟨zad (k := 1) rfl (by omega), zad (k := 6) rfl (by omega)⟩ hS (fun _ z => z.elim) (fun E ce q9 Hx2 locs hp hF hS1 hce hcv hcl => ?_) (fun r H3 locs hp hF hS1 => ?_)
  · exact z_out hno hlk hX hS1 ⟨zle (z := 1) rfl (by omega), zle (z := 6) rfl (by omega)⟩ hce hcv hcl (absurd hp.2 (by decide))
  obtain ⟨rfl, -⟩ := hp
  have hP := zpk hP hF
  have hP : va_P G.1 zCl ([]) H3 := hP
  have hD : va_D (zA M0 H0) ([]) := hD
  have hS := hS1
  refine lv_aload_n hx hb dX1_found_7 rfl (lv_at hl 0 rfl) ?_
  refine z_go 1 6 (z_runV (As := []) (rest := []) hC hml hl.1 (m_J20_get hE H3 (hO.ext0 (zS_F hS)) q a (zo hS h id)) (lw_V q1235 q1236 q1237 q94 q1238) rfl nd_J20_get rfl (z_rv hC (ci := 10) rfl (zo hS h id) rfl) rfl (Nat.le_of_ble_eq_true rfl) ⟨Nat.le_of_ble_eq_true rfl, Nat.le_of_ble_eq_true rfl⟩ ⟨zfit (k := 0) (z := 1) rfl rfl (by omega), zfit (k := 0) (z := 6) rfl rfl (by omega)⟩ dX1_found_8) ⟨zad (k := 0) rfl (by omega), zad (k := 0) rfl (by omega)⟩ hS (fun _ z => z.elim) (fun r H4 locs hp hF hS1 => ?_)
  obtain ⟨y9, rfl, hy9⟩ := hp
  have hP := zpk hP hF
  have hP : va_P G.1 zCl ([]) H4 := hP
  have hD : va_D (zA M0 H0) ([]) := hD
  have hS := hS1
  have hy9 := hy9.symm
  subst hy9
  refine z_cast hC (ci := 6) rfl (zo hS ha id) rfl q220 dX1_found_11 ?_
  exact z_aret hC hrt hlk hQ hS ⟨zle (z := 1) rfl (by omega), zle (z := 6) rfl (by omega)⟩ ⟨_, rfl, rfl⟩ dX1_found_14

abbrev rm_m_X1_found_n : Room := { frames := 7, cells := 1, slots := 6, locals := 110 }
set_option maxHeartbeats 4000000 in
theorem m_X1_found_n {l : Launch} {s0 : State} {G : zG} (hE : zE l s0 G) (H0 : Heap) (hO : zO s0 H0)   : zMX l s0 yX1_found cX1_found 1 (some (FieldType.object "Versorhall$Element")) rm_m_X1_found_n [.ref (G.2 13)] H0 M0 (rr (fun _ _ => False)) (fun E _ => E = "java/lang/IllegalStateException") := by
  refine z_metX hE (by decide +kernel) (Nat.le_of_ble_eq_true rfl) ?_
  intro pp ee ss mm args below meth cd Q ls hC hml hrt hlk hnm hH hQ hno hX hS hl
  have hx := hC.x
  have hb := hC.b
  have hl : lv_has ls 1 [(0, .ref (G.2 13))] := hl
  have hP : va_P G.1 zCl [] H0 := va_nil
  have hD : va_D (zA M0 H0) [] := va_nilD
  refine lv_aload_n hx hb dX1_found_0 rfl (lv_at hl 0 rfl) ?_
  refine z_go 0 0 (z_runV (As := []) (rest := []) hC hml hl.1 (m_J20_isPresent_n hE H0 (hO.ext0 (zS_F hS))  ) (lw_V q1231 q1232 q1233 q94 q1234) rfl nd_J20_isPresent rfl (z_re hE hC.w (hO.ext0 (zS_F hS))) rfl (Nat.le_of_ble_eq_true rfl) ⟨Nat.le_of_ble_eq_true rfl, Nat.le_of_ble_eq_true rfl⟩ ⟨zfit (k := 0) (z := 1) rfl rfl (by omega), zfit (k := 0) (z := 6) rfl rfl (by omega)⟩ dX1_found_1) ⟨zad (k := 0) rfl (by omega), zad (k := 0) rfl (by omega)⟩ hS (fun _ z => z.elim) (fun r H1 locs hp hF hS1 => ?_)
  obtain ⟨_, rfl, rfl⟩ := hp
  have hP := zpk hP hF
  have hP : va_P G.1 zCl ([]) H1 := hP
  have hD : va_D (zA M0 H0) ([]) := hD
  have hS := hS1
  refine z_goX 1 6 (z_runSx (As := [.int (iI 0)]) (rest := []) hC hml hl.1 (m_X1_requireState hE H1 (hO.ext0 (zS_F hS)) 0 (by decide)) (lw_S q919 q920 q62 q921) nd_X1_requireState rfl rfl (Nat.le_of_ble_eq_true rfl) ⟨Nat.le_of_ble_eq_true rfl, Nat.le_of_ble_eq_true rfl⟩ ⟨zfit (k := 1) (z := 1) rfl rfl (by omega), zfit (k := 6) (z := 6) rfl rfl (by omega)⟩ dX1_found_4) ⟨zad (k := 1) rfl (by omega), zad (k := 6) rfl (by omega)⟩ hS (fun _ z => z.elim) (fun E ce q9 Hx2 locs hp hF hS1 hce hcv hcl => ?_) (fun r H3 locs hp hF hS1 => ?_)
  · exact z_out hno hlk hX hS1 ⟨zle (z := 1) rfl (by omega), zle (z := 6) rfl (by omega)⟩ hce hcv hcl (hp.1)
  exact (show False from by have h9 : (0 : Nat) = 1 := hp.2; omega).elim

