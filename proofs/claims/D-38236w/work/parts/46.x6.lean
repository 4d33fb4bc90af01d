/-! THE HOUSE: what one asks of an element, of an algebra -/
set_option maxRecDepth 100000
def X1e (σ : St) (i : Int) (ok : Prop) (E : String) : Prop := (E = IOB ∧ ¬ (inE σ i)) ∨ (E = IOB ∧ inE σ i ∧ ¬ ok)
def X1ea (σ : St) (i : Int) (ok : Prop) (E : String) : Prop := (E = IOB ∧ ¬ (inE σ i)) ∨ (E = IAE ∧ inE σ i ∧ ¬ ok)
def X1a (σ : St) (i : Int) (ok : Prop) (E : String) : Prop := (E = IOB ∧ ¬ (inA σ i)) ∨ (E = IOB ∧ inA σ i ∧ ¬ ok)
def X1aa (σ : St) (i : Int) (ok : Prop) (E : String) : Prop := (E = IOB ∧ ¬ (inA σ i)) ∨ (E = IAE ∧ inA σ i ∧ ¬ ok)
abbrev rm_m_X1_at : Room := { frames := 8, cells := 2, slots := 12, locals := 132 }
set_option maxHeartbeats 4000000 in
theorem m_X1_at {l : Launch} {s0 : State} {G : zG} (hE : zE l s0 G) (H0 : Heap) (hO : zO s0 H0) (ρ : Ro → Nat) (σ : St) (i u : Int) (hh : HC G s0 ρ σ H0) (hi : zi i ∧ zi u) : zMX l s0 yX1_at cX1_at 4 (some FieldType.int) rm_m_X1_at [.ref (ρ (0, 0, 0)), .int (iI i), .int (iI u)] H0 M0 (ri (fun y _ => ∃ a c : Nat, (i = a ∧ a < St_ne σ) ∧ (u = c ∧ c < St_n σ (St_ea σ a)) ∧ y = St_ev σ a c)) (fun E _ => X1e σ i (0 ≤ u ∧ u < (St_n σ (St_ea σ i.toNat) : Nat)) E) := by
  refine z_metX hE (by decide +kernel) (Nat.le_of_ble_eq_true rfl) ?_
  intro pp ee ss mm args below meth cd Q ls hC hml hrt hlk hnm hH hQ hno hX hS hl
  have hx := hC.x
  have hb := hC.b
  have hl : lv_has ls 4 [(0, .ref (ρ (0, 0, 0))), (1, .int (iI i)), (2, .int (iI u))] := hl
  have hP : va_P G.1 zCl [] H0 := va_nil
  have hD : va_D (zA M0 H0) [] := va_nilD
  have hH1 := hh
  obtain ⟨hp, hna, hal, hne9, hel9, hmr9⟩ := id hh.ok
  have hp7 : 0 < St_p σ ∧ St_p σ ≤ 7 := by rcases hp with h | h | h <;> rw [h] <;> decide
  obtain ⟨sm9, -⟩ := id hh.2.2.1.1
  refine lv_aload_n hx hb dX1_at_0 rfl (lv_at hl 0 rfl) ?_
  refine lv_iload_n hx hb dX1_at_1 rfl (lv_at hl 1 rfl) ?_
  obtain ⟨sm, hxx⟩ := id hH1.2.2.1.1
  refine z_goX 1 6 (z_runVx (As := [.int (iI i)]) (rest := []) hC hml hl.1 (m_X1_elementAt hE H0 (hO.ext0 (zS_F hS)) ρ σ i hH1 hi.1) (lw_V q1139 q1141 qs25 q62 q1142) rfl nd_X1_elementAt rfl (z_rv hC (ci := 0) rfl hxx rfl) rfl (Nat.le_of_ble_eq_true rfl) ⟨Nat.le_of_ble_eq_true rfl, Nat.le_of_ble_eq_true rfl⟩ ⟨zfit (k := 1) (z := 2) rfl rfl (by omega), zfit (k := 6) (z := 12) rfl rfl (by omega)⟩ dX1_at_2) ⟨zad (k := 1) rfl (by omega), zad (k := 6) rfl (by omega)⟩ hS (fun _ z => z.elim) (fun E ce q9 Hx1 locs hp hF hS1 hce hcv hcl => ?_) (fun r H2 locs hp hF hS1 => ?_)
  · exact z_out hno hlk hX hS1 ⟨zle (z := 2) rfl (by omega), zle (z := 12) rfl (by omega)⟩ hce hcv hcl (Or.inl ⟨hp.1, hp.2⟩)
  obtain ⟨_, rfl, a, ea9, ha9, rfl⟩ := hp
  have hP := zpk hP hF
  have hP : va_P G.1 zCl ([]) H2 := hP
  have hD : va_D (zA M0 H0) ([]) := hD
  have hH1 : HC G s0 ρ σ H2 := hH1.ext0 hE hF
  have hS := hS1
  have ea9 : i.toNat = a := by omega
  have iE : inE σ i := by unfold inE; omega
  refine lv_astore_n (lv' := [(3, .ref (ρ (13, a, 0))), (0, .ref (ρ (0, 0, 0))), (1, .int (iI i)), (2, .int (iI u))]) hx hb dX1_at_5 rfl hl (by decide) rfl (fun ls hl => ?_)
  have hva := hH1.row (j := a) (by omega)
  have hEa := hH1.el (j := a) (by omega)
  have heaa := hH1.ea (j := a) (by omega)
  obtain ⟨hn16a, -⟩ := (hH1.ag heaa).n
  refine lv_iload_n hx hb dX1_at_6 rfl (lv_at hl 3 rfl) ?_
  refine lv_aload_n hx hb dX1_at_7 rfl (lv_at hl 0 rfl) ?_
  refine z_getn hC (k := 1) rfl in_X7 hEa.1 (by decide) q325 (fun _ h => h) rfl dX1_at_8 ?_
  refine z_alen hC 0 hEa.2 rfl (y := ((St_n σ (St_ea σ a) : Nat) : Int)) rfl dX1_at_11 ?_
  refine z_goX 2 12 (z_runSx (As := [.int (iI u), .int (iI ((St_n σ (St_ea σ a) : Nat) : Int))]) (rest := []) hC hml hl.1 (m_X1_requireIndex hE H2 (hO.ext0 (zS_F hS)) u ((St_n σ (St_ea σ a) : Nat) : Int) ⟨hi.2, by omega, by omega⟩) (lw_S q1060 q1061 q62 q1062) nd_X1_requireIndex rfl rfl (Nat.le_of_ble_eq_true rfl) ⟨Nat.le_of_ble_eq_true rfl, Nat.le_of_ble_eq_true rfl⟩ ⟨zfit (k := 1) (z := 2) rfl rfl (by omega), zfit (k := 6) (z := 12) rfl rfl (by omega)⟩ dX1_at_12) ⟨zad (k := 1) rfl (by omega), zad (k := 6) rfl (by omega)⟩ hS (fun _ z => z.elim) (fun E ce q9 Hx3 locs hp hF hS1 hce hcv hcl => ?_) (fun r H4 locs hp hF hS1 => ?_)
  · exact z_out hno hlk hX hS1 ⟨zle (z := 2) rfl (by omega), zle (z := 12) rfl (by omega)⟩ hce hcv hcl (Or.inr ⟨hp.1, iE, by rw [ea9]; exact hp.2⟩)
  obtain ⟨rfl, hu9⟩ := hp
  have hP := zpk hP hF
  have hP : va_P G.1 zCl ([]) H4 := hP
  have hD : va_D (zA M0 H0) ([]) := hD
  have hH1 : HC G s0 ρ σ H4 := hH1.ext0 hE hF
  have hS := hS1
  obtain ⟨c, rfl⟩ : ∃ c : Nat, u = c := ⟨u.toNat, by omega⟩
  have hva := hH1.row (j := a) (by omega)
  have hEa := hH1.el (j := a) (by omega)
  have heaa := hH1.ea (j := a) (by omega)
  obtain ⟨hn16a, -⟩ := (hH1.ag heaa).n
  refine lv_aload_n hx hb dX1_at_15 rfl (lv_at hl 0 rfl) ?_
  refine z_getn hC (k := 1) rfl in_X7 hEa.1 (by decide) q325 (fun _ h => h) rfl dX1_at_16 ?_
  refine lv_iload_n hx hb dX1_at_19 rfl (lv_at hl 3 rfl) ?_
  refine z_iald hC hEa.2 (k := c) rfl (by omega) (y := (St_ev σ a) c) rfl dX1_at_20 ?_
  exact z_iret hC hrt hlk hQ hS ⟨zle (z := 2) rfl (by omega), zle (z := 12) rfl (by omega)⟩ ⟨_, rfl, a, c, ⟨by omega, by omega⟩, ⟨by omega, by omega⟩, rfl⟩ dX1_at_21

abbrev rm_m_X1_text : Room := { frames := 8, cells := 13, slots := 906, locals := 193 }
set_option maxHeartbeats 4000000 in
theorem m_X1_text {l : Launch} {s0 : State} {G : zG} (hE : zE l s0 G) (H0 : Heap) (hO : zO s0 H0) (ρ : Ro → Nat) (σ : St) (i : Int) (hh : HC G s0 ρ σ H0) (hi : zi i) : zMX l s0 yX1_text cX1_text 2 (some (FieldType.object "java/lang/String")) rm_m_X1_text [.ref (ρ (0, 0, 0)), .int (iI i)] H0 M0 (rr (fun q h1 => ∃ a : Nat, (i = a ∧ a < St_ne σ) ∧ zStr G H0 q (txF (St_n σ (St_ea σ a)) (St_ev σ a)) h1)) (fun E _ => E = IOB ∧ ¬ inE σ i) := by
  refine z_metX hE (by decide +kernel) (Nat.le_of_ble_eq_true rfl) ?_
  intro pp ee ss mm args below meth cd Q ls hC hml hrt hlk hnm hH hQ hno hX hS hl
  have hx := hC.x
  have hb := hC.b
  have hl : lv_has ls 2 [(0, .ref (ρ (0, 0, 0))), (1, .int (iI i))] := hl
  have hP : va_P G.1 zCl [] H0 := va_nil
  have hD : va_D (zA M0 H0) [] := va_nilD
  have hH1 := hh
  obtain ⟨hp, hna, hal, hne9, hel9, hmr9⟩ := id hh.ok
  have hp7 : 0 < St_p σ ∧ St_p σ ≤ 7 := by rcases hp with h | h | h <;> rw [h] <;> decide
  obtain ⟨sm9, -⟩ := id hh.2.2.1.1
  refine lv_aload_n hx hb dX1_text_0 rfl (lv_at hl 0 rfl) ?_
  refine lv_iload_n hx hb dX1_text_1 rfl (lv_at hl 1 rfl) ?_
  obtain ⟨sm, hxx⟩ := id hH1.2.2.1.1
  refine z_goX 1 6 (z_runVx (As := [.int (iI i)]) (rest := []) hC hml hl.1 (m_X1_elementAt hE H0 (hO.ext0 (zS_F hS)) ρ σ i hH1 hi) (lw_V q1139 q1141 qs25 q62 q1142) rfl nd_X1_elementAt rfl (z_rv hC (ci := 0) rfl hxx rfl) rfl (Nat.le_of_ble_eq_true rfl) ⟨Nat.le_of_ble_eq_true rfl, Nat.le_of_ble_eq_true rfl⟩ ⟨zfit (k := 1) (z := 13) rfl rfl (by omega), zfit (k := 6) (z := 906) rfl rfl (by omega)⟩ dX1_text_2) ⟨zad (k := 1) rfl (by omega), zad (k := 6) rfl (by omega)⟩ hS (fun _ z => z.elim) (fun E ce q9 Hx1 locs hp hF hS1 hce hcv hcl => ?_) (fun r H2 locs hp hF hS1 => ?_)
  · exact z_out hno hlk hX hS1 ⟨zle (z := 13) rfl (by omega), zle (z := 906) rfl (by omega)⟩ hce hcv hcl (⟨hp.1, hp.2⟩)
  obtain ⟨_, rfl, a, ea9, ha9, rfl⟩ := hp
  have hP := zpk hP hF
  have hP : va_P G.1 zCl ([]) H2 := hP
  have hD : va_D (zA M0 H0) ([]) := hD
  have hH1 : HC G s0 ρ σ H2 := hH1.ext0 hE hF
  have hS := hS1
  have hva := hH1.row (j := a) (by omega)
  have hEa := hH1.el (j := a) (by omega)
  have heaa := hH1.ea (j := a) (by omega)
  obtain ⟨hn16a, -⟩ := (hH1.ag heaa).n
  have hsz9 : H0.size ≤ H2.size := hS.1
  refine z_go 13 906 (z_runV (As := []) (rest := []) hC hml hl.1 (m_X7_toString hE H2 (hO.ext0 (zS_F hS)) (ρ (0, 0, 0)) (ρ (6, St_ea σ a, 0)) (St_p σ) (St_d σ (St_ea σ a)) (St_n σ (St_ea σ a)) (St_kd σ (St_ea σ a)) (St_dv σ (St_ea σ a)) (St_sg σ (St_ea σ a)) (ρ (13, a, 0)) (ρ (14, a, 0)) (St_ev σ a)  (hH1.ag (hH1.ea (j := a) (by omega))) (hH1.el (j := a) (by omega)) hva ) (lw_V q545 q546 q547 q92 q548) rfl nd_X7_toString rfl (z_rv hC (ci := 6) rfl hEa.1 rfl) rfl (Nat.le_of_ble_eq_true rfl) ⟨Nat.le_of_ble_eq_true rfl, Nat.le_of_ble_eq_true rfl⟩ ⟨zfit (k := 12) (z := 13) rfl rfl (by omega), zfit (k := 900) (z := 906) rfl rfl (by omega)⟩ dX1_text_5) ⟨zad (k := 12) rfl (by omega), zad (k := 900) rfl (by omega)⟩ hS (fun _ z => z.elim) (fun r H3 locs hp hF hS1 => ?_)
  obtain ⟨qs, rfl, hst⟩ := hp
  have hP := zpk hP hF
  have hP : va_P G.1 zCl ([]) H3 := hP
  have hD : va_D (zA M0 H0) ([]) := hD
  have hH1 : HC G s0 ρ σ H3 := hH1.ext0 hE hF
  have hS := hS1
  exact z_aret hC hrt hlk hQ hS ⟨zle (z := 13) rfl (by omega), zle (z := 906) rfl (by omega)⟩ ⟨_, rfl, a, ⟨by omega, by omega⟩, hst.imp (fun ⟨b, h⟩ => ⟨b, h.1, va_D.weaken h.2 (fun _ _ _ z => Nat.le_trans hsz9 z)⟩) id⟩ dX1_text_8

abbrev rm_m_X1_lean : Room := { frames := 8, cells := 1, slots := 6, locals := 132 }
set_option maxHeartbeats 4000000 in
theorem m_X1_lean {l : Launch} {s0 : State} {G : zG} (hE : zE l s0 G) (H0 : Heap) (hO : zO s0 H0) (ρ : Ro → Nat) (σ : St) (i : Int) (hh : HC G s0 ρ σ H0) (hi : zi i) : zMX l s0 yX1_lean cX1_lean 2 (some FieldType.double) rm_m_X1_lean [.ref (ρ (0, 0, 0)), .int (iI i)] H0 M0 (rd (fun y _ => ∃ a : Nat, (i = a ∧ a < St_ne σ) ∧ y = FP.f2d (fq (lnV (St_p σ) (St_n σ (St_ea σ a)) (St_ev σ a))))) (fun E _ => E = IOB ∧ ¬ inE σ i) := by
  refine z_metX hE (by decide +kernel) (Nat.le_of_ble_eq_true rfl) ?_
  intro pp ee ss mm args below meth cd Q ls hC hml hrt hlk hnm hH hQ hno hX hS hl
  have hx := hC.x
  have hb := hC.b
  have hl : lv_has ls 2 [(0, .ref (ρ (0, 0, 0))), (1, .int (iI i))] := hl
  have hP : va_P G.1 zCl [] H0 := va_nil
  have hD : va_D (zA M0 H0) [] := va_nilD
  have hH1 := hh
  obtain ⟨hp, hna, hal, hne9, hel9, hmr9⟩ := id hh.ok
  have hp7 : 0 < St_p σ ∧ St_p σ ≤ 7 := by rcases hp with h | h | h <;> rw [h] <;> decide
  obtain ⟨sm9, -⟩ := id hh.2.2.1.1
  refine lv_aload_n hx hb dX1_lean_0 rfl (lv_at hl 0 rfl) ?_
  refine lv_iload_n hx hb dX1_lean_1 rfl (lv_at hl 1 rfl) ?_
  obtain ⟨sm, hxx⟩ := id hH1.2.2.1.1
  refine z_goX 1 6 (z_runVx (As := [.int (iI i)]) (rest := []) hC hml hl.1 (m_X1_elementAt hE H0 (hO.ext0 (zS_F hS)) ρ σ i hH1 hi) (lw_V q1139 q1141 qs25 q62 q1142) rfl nd_X1_elementAt rfl (z_rv hC (ci := 0) rfl hxx rfl) rfl (Nat.le_of_ble_eq_true rfl) ⟨Nat.le_of_ble_eq_true rfl, Nat.le_of_ble_eq_true rfl⟩ ⟨zfit (k := 1) (z := 1) rfl rfl (by omega), zfit (k := 6) (z := 6) rfl rfl (by omega)⟩ dX1_lean_2) ⟨zad (k := 1) rfl (by omega), zad (k := 6) rfl (by omega)⟩ hS (fun _ z => z.elim) (fun E ce q9 Hx1 locs hp hF hS1 hce hcv hcl => ?_) (fun r H2 locs hp hF hS1 => ?_)
  · exact z_out hno hlk hX hS1 ⟨zle (z := 1) rfl (by omega), zle (z := 6) rfl (by omega)⟩ hce hcv hcl (⟨hp.1, hp.2⟩)
  obtain ⟨_, rfl, a, ea9, ha9, rfl⟩ := hp
  have hP := zpk hP hF
  have hP : va_P G.1 zCl ([]) H2 := hP
  have hD : va_D (zA M0 H0) ([]) := hD
  have hH1 : HC G s0 ρ σ H2 := hH1.ext0 hE hF
  have hS := hS1
  have hva := hH1.row (j := a) (by omega)
  have hEa := hH1.el (j := a) (by omega)
  have heaa := hH1.ea (j := a) (by omega)
  obtain ⟨hn16a, -⟩ := (hH1.ag heaa).n
  refine z_go 1 6 (z_runV (As := []) (rest := []) hC hml hl.1 (m_X7_lean hE H2 (hO.ext0 (zS_F hS)) (ρ (0, 0, 0)) (ρ (6, St_ea σ a, 0)) (St_p σ) (St_d σ (St_ea σ a)) (St_n σ (St_ea σ a)) (St_kd σ (St_ea σ a)) (St_dv σ (St_ea σ a)) (St_sg σ (St_ea σ a)) (ρ (13, a, 0)) (ρ (14, a, 0)) (St_ev σ a)  (hH1.ag (hH1.ea (j := a) (by omega))) (hH1.el (j := a) (by omega)) hva ) (lw_V q241 q242 q243 q92 q244) rfl nd_X7_lean rfl (z_rv hC (ci := 6) rfl hEa.1 rfl) rfl (Nat.le_of_ble_eq_true rfl) ⟨Nat.le_of_ble_eq_true rfl, Nat.le_of_ble_eq_true rfl⟩ ⟨zfit (k := 0) (z := 1) rfl rfl (by omega), zfit (k := 0) (z := 6) rfl rfl (by omega)⟩ dX1_lean_5) ⟨zad (k := 0) rfl (by omega), zad (k := 0) rfl (by omega)⟩ hS (fun _ z => z.elim) (fun r H3 locs hp hF hS1 => ?_)
  obtain ⟨_, rfl, rfl⟩ := hp
  have hP := zpk hP hF
  have hP : va_P G.1 zCl ([]) H3 := hP
  have hD : va_D (zA M0 H0) ([]) := hD
  have hH1 : HC G s0 ρ σ H3 := hH1.ext0 hE hF
  have hS := hS1
  have hln := lnV_in (St_p σ) (St_n σ (St_ea σ a)) (St_ev σ a)
  refine lv_f2d hx hb dX1_lean_8 (fq_d (by omega)) ?_
  exact z_dret hC hrt hlk hQ hS ⟨zle (z := 1) rfl (by omega), zle (z := 6) rfl (by omega)⟩ ⟨_, rfl, a, ⟨by omega, by omega⟩, rfl⟩ dX1_lean_9

abbrev rm_m_X1_sign : Room := { frames := 8, cells := 3, slots := 18, locals := 132 }
set_option maxHeartbeats 4000000 in
theorem m_X1_sign {l : Launch} {s0 : State} {G : zG} (hE : zE l s0 G) (H0 : Heap) (hO : zO s0 H0) (ρ : Ro → Nat) (σ : St) (i u v : Int) (hh : HC G s0 ρ σ H0) (hi : zi i ∧ zi u ∧ zi v) : zMX l s0 yX1_sign cX1_sign 5 (some FieldType.int) rm_m_X1_sign [.ref (ρ (0, 0, 0)), .int (iI i), .int (iI u), .int (iI v)] H0 M0 (ri (fun y _ => ∃ k a b : Nat, (i = k ∧ k < St_na σ) ∧ (u = a ∧ a < St_n σ k) ∧ (v = b ∧ b < St_n σ k) ∧ y = St_sg σ k a b)) (fun E _ => X1a σ i ((0 ≤ u ∧ u < (St_n σ i.toNat : Nat)) ∧ (0 ≤ v ∧ v < (St_n σ i.toNat : Nat))) E) := by
  refine z_metX hE (by decide +kernel) (Nat.le_of_ble_eq_true rfl) ?_
  intro pp ee ss mm args below meth cd Q ls hC hml hrt hlk hnm hH hQ hno hX hS hl
  have hx := hC.x
  have hb := hC.b
  have hl : lv_has ls 5 [(0, .ref (ρ (0, 0, 0))), (1, .int (iI i)), (2, .int (iI u)), (3, .int (iI v))] := hl
  have hP : va_P G.1 zCl [] H0 := va_nil
  have hD : va_D (zA M0 H0) [] := va_nilD
  have hH1 := hh
  obtain ⟨hp, hna, hal, hne9, hel9, hmr9⟩ := id hh.ok
  have hp7 : 0 < St_p σ ∧ St_p σ ≤ 7 := by rcases hp with h | h | h <;> rw [h] <;> decide
  obtain ⟨sm9, -⟩ := id hh.2.2.1.1
  refine lv_aload_n hx hb dX1_sign_0 rfl (lv_at hl 0 rfl) ?_
  refine lv_iload_n hx hb dX1_sign_1 rfl (lv_at hl 1 rfl) ?_
  obtain ⟨sm, hxx⟩ := id hH1.2.2.1.1
  refine z_goX 1 6 (z_runVx (As := [.int (iI i)]) (rest := []) hC hml hl.1 (m_X1_algebraAt hE H0 (hO.ext0 (zS_F hS)) ρ σ i hH1 hi.1) (lw_V q1056 q1058 qs23 q62 q1059) rfl nd_X1_algebraAt rfl (z_rv hC (ci := 0) rfl hxx rfl) rfl (Nat.le_of_ble_eq_true rfl) ⟨Nat.le_of_ble_eq_true rfl, Nat.le_of_ble_eq_true rfl⟩ ⟨zfit (k := 1) (z := 3) rfl rfl (by omega), zfit (k := 6) (z := 18) rfl rfl (by omega)⟩ dX1_sign_2) ⟨zad (k := 1) rfl (by omega), zad (k := 6) rfl (by omega)⟩ hS (fun _ z => z.elim) (fun E ce q9 Hx1 locs hp hF hS1 hce hcv hcl => ?_) (fun r H2 locs hp hF hS1 => ?_)
  · exact z_out hno hlk hX hS1 ⟨zle (z := 3) rfl (by omega), zle (z := 18) rfl (by omega)⟩ hce hcv hcl (Or.inl ⟨hp.1, hp.2⟩)
  obtain ⟨_, rfl, k, ek9, hk9, rfl⟩ := hp
  have hP := zpk hP hF
  have hP : va_P G.1 zCl ([]) H2 := hP
  have hD : va_D (zA M0 H0) ([]) := hD
  have hH1 : HC G s0 ρ σ H2 := hH1.ext0 hE hF
  have hS := hS1
  have ek9 : i.toNat = k := by omega
  have iA : inA σ i := by unfold inA; omega
  have hkk := hH1.2.2.2.1 k (by omega)
  have hAk := hH1.ag (k := k) (by omega)
  obtain ⟨hn16k, -⟩ := hAk.n
  have halk := hal k (by omega)
  refine lv_astore (lv' := [(4, .ref (ρ (6, k, 0))), (0, .ref (ρ (0, 0, 0))), (1, .int (iI i)), (2, .int (iI u)), (3, .int (iI v))]) hx hb dX1_sign_5 hl (by decide) rfl (fun ls hl => ?_)
  refine lv_iload_n hx hb dX1_sign_7 rfl (lv_at hl 3 rfl) ?_
  refine lv_aload hx hb dX1_sign_8 (lv_at hl 0 rfl) ?_
  refine z_go 1 6 (z_runV (As := []) (rest := [.int (iI u)]) hC hml hl.1 (m_X5_units hE H2 (hO.ext0 (zS_F hS)) (ρ (0, 0, 0)) (ρ (6, k, 0)) (St_p σ) (St_d σ k) (St_n σ k) (St_kd σ k) (St_dv σ k) (St_sg σ k)  (hH1.ag (k := k) (by omega)) ) (lw_V q297 q298 q299 q74 q300) rfl nd_X5_units rfl (z_rv hC (ci := 4) rfl hkk.1 rfl) rfl (Nat.le_of_ble_eq_true rfl) ⟨Nat.le_of_ble_eq_true rfl, Nat.le_of_ble_eq_true rfl⟩ ⟨zfit (k := 0) (z := 3) rfl rfl (by omega), zfit (k := 0) (z := 18) rfl rfl (by omega)⟩ dX1_sign_10) ⟨zad (k := 0) rfl (by omega), zad (k := 0) rfl (by omega)⟩ hS (fun _ z => z.elim) (fun r H3 locs hp hF hS1 => ?_)
  obtain ⟨_, rfl, rfl⟩ := hp
  have hP := zpk hP hF
  have hP : va_P G.1 zCl ([]) H3 := hP
  have hD : va_D (zA M0 H0) ([]) := hD
  have hH1 : HC G s0 ρ σ H3 := hH1.ext0 hE hF
  have hS := hS1
  refine z_goX 2 12 (z_runSx (As := [.int (iI u), .int (iI ((St_n σ k : Nat) : Int))]) (rest := []) hC hml hl.1 (m_X1_requireIndex hE H3 (hO.ext0 (zS_F hS)) u ((St_n σ k : Nat) : Int) ⟨hi.2.1, by omega, by omega⟩) (lw_S q1060 q1061 q62 q1062) nd_X1_requireIndex rfl rfl (Nat.le_of_ble_eq_true rfl) ⟨Nat.le_of_ble_eq_true rfl, Nat.le_of_ble_eq_true rfl⟩ ⟨zfit (k := 1) (z := 3) rfl rfl (by omega), zfit (k := 6) (z := 18) rfl rfl (by omega)⟩ dX1_sign_13) ⟨zad (k := 1) rfl (by omega), zad (k := 6) rfl (by omega)⟩ hS (fun _ z => z.elim) (fun E ce q9 Hx4 locs hp hF hS1 hce hcv hcl => ?_) (fun r H5 locs hp hF hS1 => ?_)
  · exact z_out hno hlk hX hS1 ⟨zle (z := 3) rfl (by omega), zle (z := 18) rfl (by omega)⟩ hce hcv hcl (Or.inr ⟨hp.1, iA, fun z => hp.2 (by rw [ek9] at z; exact z.1)⟩)
  obtain ⟨rfl, hu9⟩ := hp
  have hP := zpk hP hF
  have hP : va_P G.1 zCl ([]) H5 := hP
  have hD : va_D (zA M0 H0) ([]) := hD
  have hH1 : HC G s0 ρ σ H5 := hH1.ext0 hE hF
  have hS := hS1
  have hkk := hH1.2.2.2.1 k (by omega)
  have hAk := hH1.ag (k := k) (by omega)
  obtain ⟨hn16k, -⟩ := hAk.n
  have halk := hal k (by omega)
  refine lv_iload_n hx hb dX1_sign_16 rfl (lv_at hl 4 rfl) ?_
  refine lv_aload hx hb dX1_sign_17 (lv_at hl 0 rfl) ?_
  refine z_go 2 12 (z_runV (As := []) (rest := [.int (iI v)]) hC hml hl.1 (m_X5_units hE H5 (hO.ext0 (zS_F hS)) (ρ (0, 0, 0)) (ρ (6, k, 0)) (St_p σ) (St_d σ k) (St_n σ k) (St_kd σ k) (St_dv σ k) (St_sg σ k)  (hH1.ag (k := k) (by omega)) ) (lw_V q297 q298 q299 q74 q300) rfl nd_X5_units rfl (z_rv hC (ci := 4) rfl hkk.1 rfl) rfl (Nat.le_of_ble_eq_true rfl) ⟨Nat.le_of_ble_eq_true rfl, Nat.le_of_ble_eq_true rfl⟩ ⟨zfit (k := 0) (z := 3) rfl rfl (by omega), zfit (k := 0) (z := 18) rfl rfl (by omega)⟩ dX1_sign_19) ⟨zad (k := 0) rfl (by omega), zad (k := 0) rfl (by omega)⟩ hS (fun _ z => z.elim) (fun r H6 locs hp hF hS1 => ?_)
  obtain ⟨_, rfl, rfl⟩ := hp
  have hP := zpk hP hF
  have hP : va_P G.1 zCl ([]) H6 := hP
  have hD : va_D (zA M0 H0) ([]) := hD
  have hH1 : HC G s0 ρ σ H6 := hH1.ext0 hE hF
  have hS := hS1
  refine z_goX 3 18 (z_runSx (As := [.int (iI v), .int (iI ((St_n σ k : Nat) : Int))]) (rest := []) hC hml hl.1 (m_X1_requireIndex hE H6 (hO.ext0 (zS_F hS)) v ((St_n σ k : Nat) : Int) ⟨hi.2.2, by omega, by omega⟩) (lw_S q1060 q1061 q62 q1062) nd_X1_requireIndex rfl rfl (Nat.le_of_ble_eq_true rfl) ⟨Nat.le_of_ble_eq_true rfl, Nat.le_of_ble_eq_true rfl⟩ ⟨zfit (k := 1) (z := 3) rfl rfl (by omega), zfit (k := 6) (z := 18) rfl rfl (by omega)⟩ dX1_sign_22) ⟨zad (k := 1) rfl (by omega), zad (k := 6) rfl (by omega)⟩ hS (fun _ z => z.elim) (fun E ce q9 Hx7 locs hp hF hS1 hce hcv hcl => ?_) (fun r H8 locs hp hF hS1 => ?_)
  · exact z_out hno hlk hX hS1 ⟨zle (z := 3) rfl (by omega), zle (z := 18) rfl (by omega)⟩ hce hcv hcl (Or.inr ⟨hp.1, iA, fun z => hp.2 (by rw [ek9] at z; exact z.2)⟩)
  obtain ⟨rfl, hv9⟩ := hp
  have hP := zpk hP hF
  have hP : va_P G.1 zCl ([]) H8 := hP
  have hD : va_D (zA M0 H0) ([]) := hD
  have hH1 : HC G s0 ρ σ H8 := hH1.ext0 hE hF
  have hS := hS1
  have hkk := hH1.2.2.2.1 k (by omega)
  have hAk := hH1.ag (k := k) (by omega)
  obtain ⟨hn16k, -⟩ := hAk.n
  have halk := hal k (by omega)
  obtain ⟨a, rfl⟩ : ∃ a : Nat, u = a := ⟨u.toNat, by omega⟩
  obtain ⟨b, rfl⟩ : ∃ b : Nat, v = b := ⟨v.toNat, by omega⟩
  refine lv_aload hx hb dX1_sign_25 (lv_at hl 0 rfl) ?_
  refine z_getn hC (k := 3) rfl in_X5 hkk.1 (by decide) q964 (fun _ h => h) rfl dX1_sign_27 ?_
  refine lv_iload_n hx hb dX1_sign_30 rfl (lv_at hl 3 rfl) ?_
  refine z_aald hC hkk.2.2.2.1 (k := a) rfl (by omega) (q := (ρ (12, k, a))) rfl dX1_sign_31 ?_
  refine lv_iload_n hx hb dX1_sign_32 rfl (lv_at hl 4 rfl) ?_
  refine z_iald hC (hkk.2.2.2.2.1 a (by omega)) (k := b) rfl (by omega) (y := (St_sg σ k a) b) rfl dX1_sign_33 ?_
  exact z_iret hC hrt hlk hQ hS ⟨zle (z := 3) rfl (by omega), zle (z := 18) rfl (by omega)⟩ ⟨_, rfl, k, a, b, ⟨by omega, by omega⟩, ⟨by omega, by omega⟩, ⟨by omega, by omega⟩, rfl⟩ dX1_sign_34

abbrev rm_m_X1_breaks : Room := { frames := 8, cells := 2, slots := 12, locals := 132 }
set_option maxHeartbeats 4000000 in
theorem m_X1_breaks {l : Launch} {s0 : State} {G : zG} (hE : zE l s0 G) (H0 : Heap) (hO : zO s0 H0) (ρ : Ro → Nat) (σ : St) (i u : Int) (hh : HC G s0 ρ σ H0) (hi : zi i ∧ zi u) : zMX l s0 yX1_breaks cX1_breaks 4 (some FieldType.int) rm_m_X1_breaks [.ref (ρ (0, 0, 0)), .int (iI i), .int (iI u)] H0 M0 (ri (fun y _ => ∃ k a : Nat, (i = k ∧ k < St_na σ) ∧ (u = a ∧ a < 4) ∧ y = brV (St_p σ) (St_sg σ k) (St_n σ k) a)) (fun E _ => X1a σ i (0 ≤ u ∧ u < 4) E) := by
  refine z_metX hE (by decide +kernel) (Nat.le_of_ble_eq_true rfl) ?_
  intro pp ee ss mm args below meth cd Q ls hC hml hrt hlk hnm hH hQ hno hX hS hl
  have hx := hC.x
  have hb := hC.b
  have hl : lv_has ls 4 [(0, .ref (ρ (0, 0, 0))), (1, .int (iI i)), (2, .int (iI u))] := hl
  have hP : va_P G.1 zCl [] H0 := va_nil
  have hD : va_D (zA M0 H0) [] := va_nilD
  have hH1 := hh
  obtain ⟨hp, hna, hal, hne9, hel9, hmr9⟩ := id hh.ok
  have hp7 : 0 < St_p σ ∧ St_p σ ≤ 7 := by rcases hp with h | h | h <;> rw [h] <;> decide
  obtain ⟨sm9, -⟩ := id hh.2.2.1.1
  refine lv_aload_n hx hb dX1_breaks_0 rfl (lv_at hl 0 rfl) ?_
  refine lv_iload_n hx hb dX1_breaks_1 rfl (lv_at hl 1 rfl) ?_
  obtain ⟨sm, hxx⟩ := id hH1.2.2.1.1
  refine z_goX 1 6 (z_runVx (As := [.int (iI i)]) (rest := []) hC hml hl.1 (m_X1_algebraAt hE H0 (hO.ext0 (zS_F hS)) ρ σ i hH1 hi.1) (lw_V q1056 q1058 qs23 q62 q1059) rfl nd_X1_algebraAt rfl (z_rv hC (ci := 0) rfl hxx rfl) rfl (Nat.le_of_ble_eq_true rfl) ⟨Nat.le_of_ble_eq_true rfl, Nat.le_of_ble_eq_true rfl⟩ ⟨zfit (k := 1) (z := 2) rfl rfl (by omega), zfit (k := 6) (z := 12) rfl rfl (by omega)⟩ dX1_breaks_2) ⟨zad (k := 1) rfl (by omega), zad (k := 6) rfl (by omega)⟩ hS (fun _ z => z.elim) (fun E ce q9 Hx1 locs hp hF hS1 hce hcv hcl => ?_) (fun r H2 locs hp hF hS1 => ?_)
  · exact z_out hno hlk hX hS1 ⟨zle (z := 2) rfl (by omega), zle (z := 12) rfl (by omega)⟩ hce hcv hcl (Or.inl ⟨hp.1, hp.2⟩)
  obtain ⟨_, rfl, k, ek9, hk9, rfl⟩ := hp
  have hP := zpk hP hF
  have hP : va_P G.1 zCl ([]) H2 := hP
  have hD : va_D (zA M0 H0) ([]) := hD
  have hH1 : HC G s0 ρ σ H2 := hH1.ext0 hE hF
  have hS := hS1
  have iA : inA σ i := by unfold inA; omega
  refine lv_astore_n (lv' := [(3, .ref (ρ (6, k, 0))), (0, .ref (ρ (0, 0, 0))), (1, .int (iI i)), (2, .int (iI u))]) hx hb dX1_breaks_5 rfl hl (by decide) rfl (fun ls hl => ?_)
  refine lv_iload_n hx hb dX1_breaks_6 rfl (lv_at hl 3 rfl) ?_
  refine lv_iconst (v := iI 4) hx hb dX1_breaks_7 rfl ?_
  refine z_goX 2 12 (z_runSx (As := [.int (iI u), .int (iI 4)]) (rest := []) hC hml hl.1 (m_X1_requireIndex hE H2 (hO.ext0 (zS_F hS)) u 4 ⟨hi.2, by omega, by omega⟩) (lw_S q1060 q1061 q62 q1062) nd_X1_requireIndex rfl rfl (Nat.le_of_ble_eq_true rfl) ⟨Nat.le_of_ble_eq_true rfl, Nat.le_of_ble_eq_true rfl⟩ ⟨zfit (k := 1) (z := 2) rfl rfl (by omega), zfit (k := 6) (z := 12) rfl rfl (by omega)⟩ dX1_breaks_8) ⟨zad (k := 1) rfl (by omega), zad (k := 6) rfl (by omega)⟩ hS (fun _ z => z.elim) (fun E ce q9 Hx3 locs hp hF hS1 hce hcv hcl => ?_) (fun r H4 locs hp hF hS1 => ?_)
  · exact z_out hno hlk hX hS1 ⟨zle (z := 2) rfl (by omega), zle (z := 12) rfl (by omega)⟩ hce hcv hcl (Or.inr ⟨hp.1, iA, hp.2⟩)
  obtain ⟨rfl, hu9⟩ := hp
  have hP := zpk hP hF
  have hP : va_P G.1 zCl ([]) H4 := hP
  have hD : va_D (zA M0 H0) ([]) := hD
  have hH1 : HC G s0 ρ σ H4 := hH1.ext0 hE hF
  have hS := hS1
  have hkk := hH1.2.2.2.1 k (by omega)
  have hAk := hH1.ag (k := k) (by omega)
  obtain ⟨hn16k, -⟩ := hAk.n
  have halk := hal k (by omega)
  obtain ⟨a, rfl⟩ : ∃ a : Nat, u = a := ⟨u.toNat, by omega⟩
  refine lv_aload_n hx hb dX1_breaks_11 rfl (lv_at hl 0 rfl) ?_
  refine lv_iload_n hx hb dX1_breaks_12 rfl (lv_at hl 3 rfl) ?_
  refine z_go 2 12 (z_runV (As := [.int (iI ((a : Nat) : Int))]) (rest := []) hC hml hl.1 (m_X5_breaks hE H4 (hO.ext0 (zS_F hS)) (ρ (0, 0, 0)) (ρ (6, k, 0)) (St_p σ) (St_d σ k) (St_n σ k) (St_kd σ k) (St_dv σ k) (St_sg σ k) a (hH1.ag (k := k) (by omega)) (by omega)) (lw_V q406 q407 q408 q74 q409) rfl nd_X5_breaks rfl (z_rv hC (ci := 4) rfl hkk.1 rfl) rfl (Nat.le_of_ble_eq_true rfl) ⟨Nat.le_of_ble_eq_true rfl, Nat.le_of_ble_eq_true rfl⟩ ⟨zfit (k := 0) (z := 2) rfl rfl (by omega), zfit (k := 0) (z := 12) rfl rfl (by omega)⟩ dX1_breaks_13) ⟨zad (k := 0) rfl (by omega), zad (k := 0) rfl (by omega)⟩ hS (fun _ z => z.elim) (fun r H5 locs hp hF hS1 => ?_)
  obtain ⟨_, rfl, rfl⟩ := hp
  have hP := zpk hP hF
  have hP : va_P G.1 zCl ([]) H5 := hP
  have hD : va_D (zA M0 H0) ([]) := hD
  have hH1 : HC G s0 ρ σ H5 := hH1.ext0 hE hF
  have hS := hS1
  exact z_iret hC hrt hlk hQ hS ⟨zle (z := 2) rfl (by omega), zle (z := 12) rfl (by omega)⟩ ⟨_, rfl, k, a, ⟨by omega, by omega⟩, ⟨by omega, by omega⟩, rfl⟩ dX1_breaks_16

abbrev rm_m_X1_row : Room := { frames := 8, cells := 3, slots := 16, locals := 132 }
set_option maxHeartbeats 4000000 in
theorem m_X1_row {l : Launch} {s0 : State} {G : zG} (hE : zE l s0 G) (H0 : Heap) (hO : zO s0 H0) (ρ : Ro → Nat) (σ : St) (i z : Int) (hh : HC G s0 ρ σ H0) (hi : zi i ∧ zi z) : zMX l s0 yX1_row cX1_row 4 (some FieldType.int) rm_m_X1_row [.ref (ρ (0, 0, 0)), .int (iI i), .int (iI z)] H0 M0 (ri (fun y _ => ∃ k : Nat, (i = k ∧ k < St_na σ) ∧ (0 ≤ z ∧ z < St_p σ) ∧ y = rwV (St_p σ) (St_d σ k) (St_dv σ k) z)) (fun E _ => X1aa σ i (0 ≤ z ∧ z < St_p σ) E) := by
  refine z_metX hE (by decide +kernel) (Nat.le_of_ble_eq_true rfl) ?_
  intro pp ee ss mm args below meth cd Q ls hC hml hrt hlk hnm hH hQ hno hX hS hl
  have hx := hC.x
  have hb := hC.b
  have hl : lv_has ls 4 [(0, .ref (ρ (0, 0, 0))), (1, .int (iI i)), (2, .int (iI z))] := hl
  have hP : va_P G.1 zCl [] H0 := va_nil
  have hD : va_D (zA M0 H0) [] := va_nilD
  have hH1 := hh
  obtain ⟨hp, hna, hal, hne9, hel9, hmr9⟩ := id hh.ok
  have hp7 : 0 < St_p σ ∧ St_p σ ≤ 7 := by rcases hp with h | h | h <;> rw [h] <;> decide
  obtain ⟨sm9, -⟩ := id hh.2.2.1.1
  refine lv_aload_n hx hb dX1_row_0 rfl (lv_at hl 0 rfl) ?_
  refine lv_iload_n hx hb dX1_row_1 rfl (lv_at hl 1 rfl) ?_
  obtain ⟨sm, hxx⟩ := id hH1.2.2.1.1
  refine z_goX 1 6 (z_runVx (As := [.int (iI i)]) (rest := []) hC hml hl.1 (m_X1_algebraAt hE H0 (hO.ext0 (zS_F hS)) ρ σ i hH1 hi.1) (lw_V q1056 q1058 qs23 q62 q1059) rfl nd_X1_algebraAt rfl (z_rv hC (ci := 0) rfl hxx rfl) rfl (Nat.le_of_ble_eq_true rfl) ⟨Nat.le_of_ble_eq_true rfl, Nat.le_of_ble_eq_true rfl⟩ ⟨zfit (k := 1) (z := 3) rfl rfl (by omega), zfit (k := 6) (z := 16) rfl rfl (by omega)⟩ dX1_row_2) ⟨zad (k := 1) rfl (by omega), zad (k := 6) rfl (by omega)⟩ hS (fun _ z => z.elim) (fun E ce q9 Hx1 locs hp hF hS1 hce hcv hcl => ?_) (fun r H2 locs hp hF hS1 => ?_)
  · exact z_out hno hlk hX hS1 ⟨zle (z := 3) rfl (by omega), zle (z := 16) rfl (by omega)⟩ hce hcv hcl (Or.inl ⟨hp.1, hp.2⟩)
  obtain ⟨_, rfl, k, ek9, hk9, rfl⟩ := hp
  have hP := zpk hP hF
  have hP : va_P G.1 zCl ([]) H2 := hP
  have hD : va_D (zA M0 H0) ([]) := hD
  have hH1 : HC G s0 ρ σ H2 := hH1.ext0 hE hF
  have hS := hS1
  have iA : inA σ i := by unfold inA; omega
  refine lv_astore_n (lv' := [(3, .ref (ρ (6, k, 0))), (0, .ref (ρ (0, 0, 0))), (1, .int (iI i)), (2, .int (iI z))]) hx hb dX1_row_5 rfl hl (by decide) rfl (fun ls hl => ?_)
  refine lv_aload_n hx hb dX1_row_6 rfl (lv_at hl 1 rfl) ?_
  refine lv_iload_n hx hb dX1_row_7 rfl (lv_at hl 3 rfl) ?_
  obtain ⟨sm, hxx⟩ := id hH1.2.2.1.1
  refine z_go 1 6 (z_runV (As := [.int (iI z)]) (rest := []) hC hml hl.1 (m_X1_isNumber hE H2 (hO.ext0 (zS_F hS)) ρ σ z hH1 hi.2) (lw_V q1078 q1080 qs24 q62 q1081) rfl nd_X1_isNumber rfl (z_rv hC (ci := 0) rfl hxx rfl) rfl (Nat.le_of_ble_eq_true rfl) ⟨Nat.le_of_ble_eq_true rfl, Nat.le_of_ble_eq_true rfl⟩ ⟨zfit (k := 0) (z := 3) rfl rfl (by omega), zfit (k := 0) (z := 16) rfl rfl (by omega)⟩ dX1_row_8) ⟨zad (k := 0) rfl (by omega), zad (k := 0) rfl (by omega)⟩ hS (fun _ z => z.elim) (fun r H3 locs hp hF hS1 => ?_)
  obtain ⟨_, rfl, rfl⟩ := hp
  have hP := zpk hP hF
  have hP : va_P G.1 zCl ([]) H3 := hP
  have hD : va_D (zA M0 H0) ([]) := hD
  have hH1 : HC G s0 ρ σ H3 := hH1.ext0 hE hF
  have hS := hS1
  obtain ⟨fl, hfl, hfl2⟩ : ∃ fl : Nat, fl ≤ 1 ∧ (if 0 ≤ z ∧ z < St_p σ then (1 : Int) else 0) = fl ∧ (fl = 1 ↔ 0 ≤ z ∧ z < St_p σ) := by by_cases h : 0 ≤ z ∧ z < St_p σ; exact ⟨1, by decide, by rw [if_pos h]; rfl, by simp [h]⟩; exact ⟨0, by decide, by rw [if_neg h]; rfl, by simp [h]⟩
  refine z_top (b := ((fl : Nat) : Int)) (hfl2.1) ?_
  refine z_goX 2 12 (z_runSx (As := [.int (iI ((fl : Nat) : Int))]) (rest := []) hC hml hl.1 (m_X1_require hE H3 (hO.ext0 (zS_F hS)) fl hfl) (lw_S q905 q906 q62 q907) nd_X1_require rfl rfl (Nat.le_of_ble_eq_true rfl) ⟨Nat.le_of_ble_eq_true rfl, Nat.le_of_ble_eq_true rfl⟩ ⟨zfit (k := 1) (z := 3) rfl rfl (by omega), zfit (k := 6) (z := 16) rfl rfl (by omega)⟩ dX1_row_11) ⟨zad (k := 1) rfl (by omega), zad (k := 6) rfl (by omega)⟩ hS (fun _ z => z.elim) (fun E ce q9 Hx4 locs hp hF hS1 hce hcv hcl => ?_) (fun r H5 locs hp hF hS1 => ?_)
  · exact z_out hno hlk hX hS1 ⟨zle (z := 3) rfl (by omega), zle (z := 16) rfl (by omega)⟩ hce hcv hcl (Or.inr ⟨hp.1, iA, fun w => by have := hfl2.2.mpr w; have := hp.2; omega⟩)
  obtain ⟨rfl, hfl1⟩ := hp
  have hP := zpk hP hF
  have hP : va_P G.1 zCl ([]) H5 := hP
  have hD : va_D (zA M0 H0) ([]) := hD
  have hH1 : HC G s0 ρ σ H5 := hH1.ext0 hE hF
  have hS := hS1
  have htp := hfl2.2.mp hfl1
  have hkk := hH1.2.2.2.1 k (by omega)
  have hAk := hH1.ag (k := k) (by omega)
  obtain ⟨hn16k, -⟩ := hAk.n
  have halk := hal k (by omega)
  refine lv_aload_n hx hb dX1_row_14 rfl (lv_at hl 0 rfl) ?_
  refine lv_iload_n hx hb dX1_row_15 rfl (lv_at hl 3 rfl) ?_
  refine z_go 3 16 (z_runV (As := [.int (iI z)]) (rest := []) hC hml hl.1 (m_X5_row hE H5 (hO.ext0 (zS_F hS)) (ρ (0, 0, 0)) (ρ (6, k, 0)) (St_p σ) (St_d σ k) (St_n σ k) (St_kd σ k) (St_dv σ k) (St_sg σ k) z (hH1.ag (k := k) (by omega)) htp) (lw_V q420 q421 q422 q74 q423) rfl nd_X5_row rfl (z_rv hC (ci := 4) rfl hkk.1 rfl) rfl (Nat.le_of_ble_eq_true rfl) ⟨Nat.le_of_ble_eq_true rfl, Nat.le_of_ble_eq_true rfl⟩ ⟨zfit (k := 1) (z := 3) rfl rfl (by omega), zfit (k := 4) (z := 16) rfl rfl (by omega)⟩ dX1_row_16) ⟨zad (k := 1) rfl (by omega), zad (k := 4) rfl (by omega)⟩ hS (fun _ z => z.elim) (fun r H6 locs hp hF hS1 => ?_)
  obtain ⟨_, rfl, rfl⟩ := hp
  have hP := zpk hP hF
  have hP : va_P G.1 zCl ([]) H6 := hP
  have hD : va_D (zA M0 H0) ([]) := hD
  have hH1 : HC G s0 ρ σ H6 := hH1.ext0 hE hF
  have hS := hS1
  exact z_iret hC hrt hlk hQ hS ⟨zle (z := 3) rfl (by omega), zle (z := 16) rfl (by omega)⟩ ⟨_, rfl, k, ⟨by omega, by omega⟩, htp, rfl⟩ dX1_row_19

