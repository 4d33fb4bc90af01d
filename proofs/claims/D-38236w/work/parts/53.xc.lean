/-! THE HOUSE: how far two elements are from being exchangeable -/
set_option maxRecDepth 100000
def apV (σ : St) (a b : Nat) : Nat → Int := plV (St_p σ) (-1) (tmV (St_p σ) (St_n σ (St_ea σ a)) (St_sg σ (St_ea σ a)) (St_ev σ a) (St_ev σ b)) (tmV (St_p σ) (St_n σ (St_ea σ a)) (St_sg σ (St_ea σ a)) (St_ev σ b) (St_ev σ a))
abbrev rm_m_X1_apart : Room := { frames := 8, cells := 9, slots := 75, locals := 132 }
set_option maxHeartbeats 4000000 in
theorem m_X1_apart {l : Launch} {s0 : State} {G : zG} (hE : zE l s0 G) (H0 : Heap) (hO : zO s0 H0) (ρ : Ro → Nat) (σ : St) (i j : Int) (hh : HC G s0 ρ σ H0) (hi : zi i ∧ zi j) : zMX l s0 yX1_apart cX1_apart 5 (some FieldType.int) rm_m_X1_apart [.ref (ρ (0, 0, 0)), .int (iI i), .int (iI j)] H0 M0 (ri (fun y _ => ∃ a b : Nat, (i = a ∧ a < St_ne σ) ∧ (j = b ∧ b < St_ne σ) ∧ St_ea σ a = St_ea σ b ∧ y = (szV (apV σ a b) (St_n σ (St_ea σ a)) : Nat))) (fun E _ => X2e σ i j True E) := by
  refine z_metX hE (by decide +kernel) (Nat.le_of_ble_eq_true rfl) ?_
  intro pp ee ss mm args below meth cd Q ls hC hml hrt hlk hnm hH hQ hno hX hS hl
  have hx := hC.x
  have hb := hC.b
  have hl : lv_has ls 5 [(0, .ref (ρ (0, 0, 0))), (1, .int (iI i)), (2, .int (iI j))] := hl
  have hP : va_P G.1 zCl [] H0 := va_nil
  have hD : va_D (zA M0 H0) [] := va_nilD
  have hH1 := hh
  obtain ⟨hp, hna, hal, hne9, hel9, hmr9⟩ := id hh.ok
  have hp7 : 0 < St_p σ ∧ St_p σ ≤ 7 := by rcases hp with h | h | h <;> rw [h] <;> decide
  obtain ⟨sm9, -⟩ := id hh.2.2.1.1
  refine lv_aload_n hx hb dX1_apart_0 rfl (lv_at hl 0 rfl) ?_
  refine lv_iload_n hx hb dX1_apart_1 rfl (lv_at hl 1 rfl) ?_
  obtain ⟨sm, hxx⟩ := id hH1.2.2.1.1
  refine z_goX 1 6 (z_runVx (As := [.int (iI i)]) (rest := []) hC hml hl.1 (m_X1_elementAt hE H0 (hO.ext0 (zS_F hS)) ρ σ i hH1 hi.1) (lw_V q1139 q1141 qs25 q62 q1142) rfl nd_X1_elementAt rfl (z_rv hC (ci := 0) rfl hxx rfl) rfl (Nat.le_of_ble_eq_true rfl) ⟨Nat.le_of_ble_eq_true rfl, Nat.le_of_ble_eq_true rfl⟩ ⟨zfit (k := 1) (z := 9) rfl rfl (by omega), zfit (k := 6) (z := 75) rfl rfl (by omega)⟩ dX1_apart_2) ⟨zad (k := 1) rfl (by omega), zad (k := 6) rfl (by omega)⟩ hS (fun _ z => z.elim) (fun E ce q9 Hx1 locs hp hF hS1 hce hcv hcl => ?_) (fun r H2 locs hp hF hS1 => ?_)
  · exact z_out hno hlk hX hS1 ⟨zle (z := 9) rfl (by omega), zle (z := 75) rfl (by omega)⟩ hce hcv hcl (Or.inl ⟨hp.1, fun z => hp.2 z.1⟩)
  obtain ⟨_, rfl, a, ea9, ha9, rfl⟩ := hp
  have hP := zpk hP hF
  have hP : va_P G.1 zCl ([]) H2 := hP
  have hD : va_D (zA M0 H0) ([]) := hD
  have hH1 : HC G s0 ρ σ H2 := hH1.ext0 hE hF
  have hS := hS1
  refine lv_astore_n (lv' := [(3, .ref (ρ (13, a, 0))), (0, .ref (ρ (0, 0, 0))), (1, .int (iI i)), (2, .int (iI j))]) hx hb dX1_apart_5 rfl hl (by decide) rfl (fun ls hl => ?_)
  refine lv_aload_n hx hb dX1_apart_6 rfl (lv_at hl 1 rfl) ?_
  refine lv_iload_n hx hb dX1_apart_7 rfl (lv_at hl 3 rfl) ?_
  obtain ⟨sm, hxx⟩ := id hH1.2.2.1.1
  refine z_goX 2 12 (z_runVx (As := [.int (iI j)]) (rest := []) hC hml hl.1 (m_X1_elementAt hE H2 (hO.ext0 (zS_F hS)) ρ σ j hH1 hi.2) (lw_V q1139 q1141 qs25 q62 q1142) rfl nd_X1_elementAt rfl (z_rv hC (ci := 0) rfl hxx rfl) rfl (Nat.le_of_ble_eq_true rfl) ⟨Nat.le_of_ble_eq_true rfl, Nat.le_of_ble_eq_true rfl⟩ ⟨zfit (k := 1) (z := 9) rfl rfl (by omega), zfit (k := 6) (z := 75) rfl rfl (by omega)⟩ dX1_apart_8) ⟨zad (k := 1) rfl (by omega), zad (k := 6) rfl (by omega)⟩ hS (fun _ z => z.elim) (fun E ce q9 Hx3 locs hp hF hS1 hce hcv hcl => ?_) (fun r H4 locs hp hF hS1 => ?_)
  · exact z_out hno hlk hX hS1 ⟨zle (z := 9) rfl (by omega), zle (z := 75) rfl (by omega)⟩ hce hcv hcl (Or.inl ⟨hp.1, fun z => hp.2 z.2⟩)
  obtain ⟨_, rfl, b, eb9, hb9, rfl⟩ := hp
  have hP := zpk hP hF
  have hP : va_P G.1 zCl ([]) H4 := hP
  have hD : va_D (zA M0 H0) ([]) := hD
  have hH1 : HC G s0 ρ σ H4 := hH1.ext0 hE hF
  have hS := hS1
  refine lv_astore (lv' := [(4, .ref (ρ (13, b, 0))), (3, .ref (ρ (13, a, 0))), (0, .ref (ρ (0, 0, 0))), (1, .int (iI i)), (2, .int (iI j))]) hx hb dX1_apart_11 hl (by decide) rfl (fun ls hl => ?_)
  refine lv_aload_n hx hb dX1_apart_13 rfl (lv_at hl 2 rfl) ?_
  refine lv_aload_n hx hb dX1_apart_14 rfl (lv_at hl 1 rfl) ?_
  refine lv_aload hx hb dX1_apart_15 (lv_at hl 0 rfl) ?_
  obtain ⟨sm, hxx⟩ := id hH1.2.2.1.1
  have ea9 : i.toNat = a := by omega
  have eb9 : j.toNat = b := by omega
  have iE : inE σ i := by unfold inE; omega
  have jE : inE σ j := by unfold inE; omega
  refine z_goX 3 18 (z_runVx (As := [.ref (ρ (13, a, 0)), .ref (ρ (13, b, 0))]) (rest := []) hC hml hl.1 (m_X1_requireOne hE H4 (hO.ext0 (zS_F hS)) ρ σ a b hH1 ⟨by omega, by omega⟩) (lw_V q1150 q1152 qs26 q62 q1153) rfl nd_X1_requireOne rfl (z_rv hC (ci := 0) rfl hxx rfl) rfl (Nat.le_of_ble_eq_true rfl) ⟨Nat.le_of_ble_eq_true rfl, Nat.le_of_ble_eq_true rfl⟩ ⟨zfit (k := 1) (z := 9) rfl rfl (by omega), zfit (k := 6) (z := 75) rfl rfl (by omega)⟩ dX1_apart_17) ⟨zad (k := 1) rfl (by omega), zad (k := 6) rfl (by omega)⟩ hS (fun _ z => z.elim) (fun E ce q9 Hx5 locs hp hF hS1 hce hcv hcl => ?_) (fun r H6 locs hp hF hS1 => ?_)
  · exact z_out hno hlk hX hS1 ⟨zle (z := 9) rfl (by omega), zle (z := 75) rfl (by omega)⟩ hce hcv hcl (Or.inr ⟨hp.1, iE, jE, fun z => hp.2 (by rw [ea9, eb9] at z; exact z.1)⟩)
  obtain ⟨rfl, hone⟩ := hp
  have hP := zpk hP hF
  have hP : va_P G.1 zCl ([]) H6 := hP
  have hD : va_D (zA M0 H0) ([]) := hD
  have hH1 : HC G s0 ρ σ H6 := hH1.ext0 hE hF
  have hS := hS1
  refine lv_aload_n hx hb dX1_apart_20 rfl (lv_at hl 1 rfl) ?_
  refine lv_aload hx hb dX1_apart_21 (lv_at hl 0 rfl) ?_
  have hva := hH1.row (j := a) (by omega)
  have hEa := hH1.el (j := a) (by omega)
  have hvb := hH1.row (j := b) (by omega)
  have hEb := hH1.el (j := b) (by omega)
  rw [← hone] at hvb hEb
  have hea := hH1.ea (j := a) (by omega)
  obtain ⟨hn16, -⟩ := (hH1.ag hea).n
  have hsz9 : H0.size ≤ H6.size := hS.1
  refine z_go 5 37 (z_runV (As := [.ref (ρ (13, b, 0))]) (rest := []) hC hml hl.1 (m_X7_times hE H6 (hO.ext0 (zS_F hS)) (ρ (0, 0, 0)) (ρ (6, St_ea σ a, 0)) (St_p σ) (St_d σ (St_ea σ a)) (St_n σ (St_ea σ a)) (St_kd σ (St_ea σ a)) (St_dv σ (St_ea σ a)) (St_sg σ (St_ea σ a)) (ρ (13, a, 0)) (ρ (14, a, 0)) (St_ev σ a) (ρ (13, b, 0)) (ρ (14, b, 0)) (St_ev σ b)  (hH1.ag (k := St_ea σ a) (by omega)) hEa hva hEb hvb ) (lw_V q512 q360 q361 q92 q362) rfl nd_X7_times rfl (z_rv hC (ci := 6) rfl hEa.1 rfl) rfl (Nat.le_of_ble_eq_true rfl) ⟨Nat.le_of_ble_eq_true rfl, Nat.le_of_ble_eq_true rfl⟩ ⟨zfit (k := 2) (z := 9) rfl rfl (by omega), zfit (k := 19) (z := 75) rfl rfl (by omega)⟩ dX1_apart_23) ⟨zad (k := 2) rfl (by omega), zad (k := 19) rfl (by omega)⟩ hS (fun _ z => z.elim) (fun r H9 locs hp hF hS1 => ?_)
  obtain ⟨qe7, rfl, re8, hN⟩ := hp
  obtain ⟨hP, hD⟩ := zjn hP hD hS.1 hF hN
  have hP : va_P G.1 zCl ([(qe7, zOb 6 [.ref (ρ (6, St_ea σ a, 0)), .ref re8, .ref (ρ (0, 0, 0))]), (re8, zI G (St_n σ (St_ea σ a)) (tmV (St_p σ) (St_n σ (St_ea σ a)) (St_sg σ (St_ea σ a)) (St_ev σ a) (St_ev σ b)))]) H9 := hP
  have hD : va_D (zA M0 H0) ([(qe7, zOb 6 [.ref (ρ (6, St_ea σ a, 0)), .ref re8, .ref (ρ (0, 0, 0))]), (re8, zI G (St_n σ (St_ea σ a)) (tmV (St_p σ) (St_n σ (St_ea σ a)) (St_sg σ (St_ea σ a)) (St_ev σ a) (St_ev σ b)))]) := hD
  have hH1 : HC G s0 ρ σ H9 := hH1.ext0 hE hF
  have hS := hS1
  refine lv_aload hx hb dX1_apart_26 (lv_at hl 0 rfl) ?_
  refine lv_aload_n hx hb dX1_apart_28 rfl (lv_at hl 1 rfl) ?_
  have hva := hH1.row (j := a) (by omega)
  have hEa := hH1.el (j := a) (by omega)
  have hvb := hH1.row (j := b) (by omega)
  have hEb := hH1.el (j := b) (by omega)
  rw [← hone] at hvb hEb
  have hea := hH1.ea (j := a) (by omega)
  have hsz9 : H0.size ≤ H9.size := hS.1
  refine z_go 7 56 (z_runV (As := [.ref (ρ (13, a, 0))]) (rest := [.ref qe7]) hC hml hl.1 (m_X7_times hE H9 (hO.ext0 (zS_F hS)) (ρ (0, 0, 0)) (ρ (6, St_ea σ a, 0)) (St_p σ) (St_d σ (St_ea σ a)) (St_n σ (St_ea σ a)) (St_kd σ (St_ea σ a)) (St_dv σ (St_ea σ a)) (St_sg σ (St_ea σ a)) (ρ (13, b, 0)) (ρ (14, b, 0)) (St_ev σ b) (ρ (13, a, 0)) (ρ (14, a, 0)) (St_ev σ a)  (hH1.ag (k := St_ea σ a) (by omega)) hEb hvb hEa hva ) (lw_V q512 q360 q361 q92 q362) rfl nd_X7_times rfl (z_rv hC (ci := 6) rfl hEb.1 rfl) rfl (Nat.le_of_ble_eq_true rfl) ⟨Nat.le_of_ble_eq_true rfl, Nat.le_of_ble_eq_true rfl⟩ ⟨zfit (k := 2) (z := 9) rfl rfl (by omega), zfit (k := 19) (z := 75) rfl rfl (by omega)⟩ dX1_apart_29) ⟨zad (k := 2) rfl (by omega), zad (k := 19) rfl (by omega)⟩ hS (fun _ z => z.elim) (fun r H12 locs hp hF hS1 => ?_)
  obtain ⟨qe10, rfl, re11, hN⟩ := hp
  obtain ⟨hP, hD⟩ := zjn hP hD hS.1 hF hN
  have hP : va_P G.1 zCl ([(qe7, zOb 6 [.ref (ρ (6, St_ea σ a, 0)), .ref re8, .ref (ρ (0, 0, 0))]), (re8, zI G (St_n σ (St_ea σ a)) (tmV (St_p σ) (St_n σ (St_ea σ a)) (St_sg σ (St_ea σ a)) (St_ev σ a) (St_ev σ b))), (qe10, zOb 6 [.ref (ρ (6, St_ea σ a, 0)), .ref re11, .ref (ρ (0, 0, 0))]), (re11, zI G (St_n σ (St_ea σ a)) (tmV (St_p σ) (St_n σ (St_ea σ a)) (St_sg σ (St_ea σ a)) (St_ev σ b) (St_ev σ a)))]) H12 := hP
  have hD : va_D (zA M0 H0) ([(qe7, zOb 6 [.ref (ρ (6, St_ea σ a, 0)), .ref re8, .ref (ρ (0, 0, 0))]), (re8, zI G (St_n σ (St_ea σ a)) (tmV (St_p σ) (St_n σ (St_ea σ a)) (St_sg σ (St_ea σ a)) (St_ev σ a) (St_ev σ b))), (qe10, zOb 6 [.ref (ρ (6, St_ea σ a, 0)), .ref re11, .ref (ρ (0, 0, 0))]), (re11, zI G (St_n σ (St_ea σ a)) (tmV (St_p σ) (St_n σ (St_ea σ a)) (St_sg σ (St_ea σ a)) (St_ev σ b) (St_ev σ a)))]) := hD
  have hH1 : HC G s0 ρ σ H12 := hH1.ext0 hE hF
  have hS := hS1
  refine lv_iconst (v := iI (-1)) hx hb dX1_apart_32 rfl ?_
  have hea := hH1.ea (j := a) (by omega)
  have hsz9 : H0.size ≤ H12.size := hS.1
  refine z_go 9 75 (z_runV (As := [.ref qe10, .int (iI (-1))]) (rest := []) hC hml hl.1 (m_X7_plus hE H12 (hO.ext0 (zS_F hS)) (ρ (0, 0, 0)) (ρ (6, St_ea σ a, 0)) (St_p σ) (St_d σ (St_ea σ a)) (St_n σ (St_ea σ a)) (St_kd σ (St_ea σ a)) (St_dv σ (St_ea σ a)) (St_sg σ (St_ea σ a)) qe7 re8 (tmV (St_p σ) (St_n σ (St_ea σ a)) (St_sg σ (St_ea σ a)) (St_ev σ a) (St_ev σ b)) qe10 re11 (tmV (St_p σ) (St_n σ (St_ea σ a)) (St_sg σ (St_ea σ a)) (St_ev σ b) (St_ev σ a)) (-1) (hH1.ag (k := St_ea σ a) (by omega)) ⟨hP 0 _ rfl, hP 1 _ rfl⟩ (tmV_ok hp _ _ _ _) ⟨hP 2 _ rfl, hP 3 _ rfl⟩ (tmV_ok hp _ _ _ _) (by decide)) (lw_V q1154 q518 q519 q92 q520) rfl nd_X7_plus rfl (z_rv hC (ci := 6) rfl (hP 0 _ rfl) rfl) rfl (Nat.le_of_ble_eq_true rfl) ⟨Nat.le_of_ble_eq_true rfl, Nat.le_of_ble_eq_true rfl⟩ ⟨zfit (k := 2) (z := 9) rfl rfl (by omega), zfit (k := 19) (z := 75) rfl rfl (by omega)⟩ dX1_apart_33) ⟨zad (k := 2) rfl (by omega), zad (k := 19) rfl (by omega)⟩ hS (fun _ z => z.elim) (fun r H15 locs hp hF hS1 => ?_)
  obtain ⟨qe13, rfl, re14, hN⟩ := hp
  obtain ⟨hP, hD⟩ := zjn hP hD hS.1 hF hN
  have hP : va_P G.1 zCl ([(qe7, zOb 6 [.ref (ρ (6, St_ea σ a, 0)), .ref re8, .ref (ρ (0, 0, 0))]), (re8, zI G (St_n σ (St_ea σ a)) (tmV (St_p σ) (St_n σ (St_ea σ a)) (St_sg σ (St_ea σ a)) (St_ev σ a) (St_ev σ b))), (qe10, zOb 6 [.ref (ρ (6, St_ea σ a, 0)), .ref re11, .ref (ρ (0, 0, 0))]), (re11, zI G (St_n σ (St_ea σ a)) (tmV (St_p σ) (St_n σ (St_ea σ a)) (St_sg σ (St_ea σ a)) (St_ev σ b) (St_ev σ a))), (qe13, zOb 6 [.ref (ρ (6, St_ea σ a, 0)), .ref re14, .ref (ρ (0, 0, 0))]), (re14, zI G (St_n σ (St_ea σ a)) (plV (St_p σ) (-1) (tmV (St_p σ) (St_n σ (St_ea σ a)) (St_sg σ (St_ea σ a)) (St_ev σ a) (St_ev σ b)) (tmV (St_p σ) (St_n σ (St_ea σ a)) (St_sg σ (St_ea σ a)) (St_ev σ b) (St_ev σ a))))]) H15 := hP
  have hD : va_D (zA M0 H0) ([(qe7, zOb 6 [.ref (ρ (6, St_ea σ a, 0)), .ref re8, .ref (ρ (0, 0, 0))]), (re8, zI G (St_n σ (St_ea σ a)) (tmV (St_p σ) (St_n σ (St_ea σ a)) (St_sg σ (St_ea σ a)) (St_ev σ a) (St_ev σ b))), (qe10, zOb 6 [.ref (ρ (6, St_ea σ a, 0)), .ref re11, .ref (ρ (0, 0, 0))]), (re11, zI G (St_n σ (St_ea σ a)) (tmV (St_p σ) (St_n σ (St_ea σ a)) (St_sg σ (St_ea σ a)) (St_ev σ b) (St_ev σ a))), (qe13, zOb 6 [.ref (ρ (6, St_ea σ a, 0)), .ref re14, .ref (ρ (0, 0, 0))]), (re14, zI G (St_n σ (St_ea σ a)) (plV (St_p σ) (-1) (tmV (St_p σ) (St_n σ (St_ea σ a)) (St_sg σ (St_ea σ a)) (St_ev σ a) (St_ev σ b)) (tmV (St_p σ) (St_n σ (St_ea σ a)) (St_sg σ (St_ea σ a)) (St_ev σ b) (St_ev σ a))))]) := hD
  have hH1 : HC G s0 ρ σ H15 := hH1.ext0 hE hF
  have hS := hS1
  have hea := hH1.ea (j := a) (by omega)
  refine z_go 9 75 (z_runV (As := []) (rest := []) hC hml hl.1 (m_X7_size hE H15 (hO.ext0 (zS_F hS)) (ρ (0, 0, 0)) (ρ (6, St_ea σ a, 0)) (St_p σ) (St_d σ (St_ea σ a)) (St_n σ (St_ea σ a)) (St_kd σ (St_ea σ a)) (St_dv σ (St_ea σ a)) (St_sg σ (St_ea σ a)) qe13 re14 (apV σ a b) (hH1.ag hea) ⟨hP 4 _ rfl, hP 5 _ rfl⟩ (plV_ok hp _ _ _ _)) (lw_V q221 q222 q223 q92 q224) rfl nd_X7_size rfl (z_rv hC (ci := 6) rfl (hP 4 _ rfl) rfl) rfl (Nat.le_of_ble_eq_true rfl) ⟨Nat.le_of_ble_eq_true rfl, Nat.le_of_ble_eq_true rfl⟩ ⟨zfit (k := 0) (z := 9) rfl rfl (by omega), zfit (k := 0) (z := 75) rfl rfl (by omega)⟩ dX1_apart_36) ⟨zad (k := 0) rfl (by omega), zad (k := 0) rfl (by omega)⟩ hS (fun _ z => z.elim) (fun r H16 locs hp hF hS1 => ?_)
  obtain ⟨_, rfl, rfl⟩ := hp
  have hP := zpk hP hF
  have hP : va_P G.1 zCl ([(qe7, zOb 6 [.ref (ρ (6, St_ea σ a, 0)), .ref re8, .ref (ρ (0, 0, 0))]), (re8, zI G (St_n σ (St_ea σ a)) (tmV (St_p σ) (St_n σ (St_ea σ a)) (St_sg σ (St_ea σ a)) (St_ev σ a) (St_ev σ b))), (qe10, zOb 6 [.ref (ρ (6, St_ea σ a, 0)), .ref re11, .ref (ρ (0, 0, 0))]), (re11, zI G (St_n σ (St_ea σ a)) (tmV (St_p σ) (St_n σ (St_ea σ a)) (St_sg σ (St_ea σ a)) (St_ev σ b) (St_ev σ a))), (qe13, zOb 6 [.ref (ρ (6, St_ea σ a, 0)), .ref re14, .ref (ρ (0, 0, 0))]), (re14, zI G (St_n σ (St_ea σ a)) (plV (St_p σ) (-1) (tmV (St_p σ) (St_n σ (St_ea σ a)) (St_sg σ (St_ea σ a)) (St_ev σ a) (St_ev σ b)) (tmV (St_p σ) (St_n σ (St_ea σ a)) (St_sg σ (St_ea σ a)) (St_ev σ b) (St_ev σ a))))]) H16 := hP
  have hD : va_D (zA M0 H0) ([(qe7, zOb 6 [.ref (ρ (6, St_ea σ a, 0)), .ref re8, .ref (ρ (0, 0, 0))]), (re8, zI G (St_n σ (St_ea σ a)) (tmV (St_p σ) (St_n σ (St_ea σ a)) (St_sg σ (St_ea σ a)) (St_ev σ a) (St_ev σ b))), (qe10, zOb 6 [.ref (ρ (6, St_ea σ a, 0)), .ref re11, .ref (ρ (0, 0, 0))]), (re11, zI G (St_n σ (St_ea σ a)) (tmV (St_p σ) (St_n σ (St_ea σ a)) (St_sg σ (St_ea σ a)) (St_ev σ b) (St_ev σ a))), (qe13, zOb 6 [.ref (ρ (6, St_ea σ a, 0)), .ref re14, .ref (ρ (0, 0, 0))]), (re14, zI G (St_n σ (St_ea σ a)) (plV (St_p σ) (-1) (tmV (St_p σ) (St_n σ (St_ea σ a)) (St_sg σ (St_ea σ a)) (St_ev σ a) (St_ev σ b)) (tmV (St_p σ) (St_n σ (St_ea σ a)) (St_sg σ (St_ea σ a)) (St_ev σ b) (St_ev σ a))))]) := hD
  have hH1 : HC G s0 ρ σ H16 := hH1.ext0 hE hF
  have hS := hS1
  exact z_iret hC hrt hlk hQ hS ⟨zle (z := 9) rfl (by omega), zle (z := 75) rfl (by omega)⟩ ⟨_, rfl, a, b, ⟨by omega, by omega⟩, ⟨by omega, by omega⟩, hone, rfl⟩ dX1_apart_39

