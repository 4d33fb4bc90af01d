/-! THE HOUSE: products, multiples, conjugates, powers, mirrors .. are kept -/
set_option maxRecDepth 100000
/-- an element and another one of its algebra, and a number that may be wrong -/
def X2e (σ : St) (i j : Int) (ok : Prop) (E : String) : Prop := (E = IOB ∧ ¬ (inE σ i ∧ inE σ j)) ∨ (E = IAE ∧ inE σ i ∧ inE σ j ∧ ¬ (St_ea σ i.toNat = St_ea σ j.toNat ∧ ok))
def X2s (σ : St) (i j : Int) (st : Nat → Nat → Prop) (E : String) : Prop := X2e σ i j True E ∨ (E = ISE ∧ inE σ i ∧ inE σ j ∧ St_ea σ i.toNat = St_ea σ j.toNat ∧ st i.toNat j.toNat)
theorem inE_n {σ : St} {a : Nat} (h : a < St_ne σ) : inE σ (a : Int) := ⟨by omega, by omega⟩
abbrev rm_m_X1_product : Room := { frames := 8, cells := 7, slots := 49, locals := 132 }
set_option maxHeartbeats 4000000 in
theorem m_X1_product {l : Launch} {s0 : State} {G : zG} (hE : zE l s0 G) (H0 : Heap) (hO : zO s0 H0) (ρ : Ro → Nat) (σ : St) (i j k : Int) (hh : HC G s0 ρ σ H0) (hi : zi i ∧ zi j ∧ zi k) : zMX l s0 yX1_product cX1_product 7 (some FieldType.int) rm_m_X1_product [.ref (ρ (0, 0, 0)), .int (iI i), .int (iI j), .int (iI k)] H0 (FC G ρ σ) (HP G s0 H0 ρ σ (fun y σ' => ∃ a b c : Nat, (i = a ∧ a < St_ne σ) ∧ (j = b ∧ b < St_ne σ) ∧ (k = c ∧ c < St_ne σ) ∧ (St_ea σ a = St_ea σ b ∧ St_ea σ a = St_ea σ c) ∧ σ' = stEl σ a (tmV (St_p σ) (St_n σ (St_ea σ a)) (St_sg σ (St_ea σ a)) (St_ev σ b) (St_ev σ c)) ∧ y = (szV (tmV (St_p σ) (St_n σ (St_ea σ a)) (St_sg σ (St_ea σ a)) (St_ev σ b) (St_ev σ c)) (St_n σ (St_ea σ a)) : Nat))) (HX G s0 ρ σ (X3e σ i j k)) := by
  refine z_metX hE (by decide +kernel) (Nat.le_of_ble_eq_true rfl) ?_
  intro pp ee ss mm args below meth cd Q ls hC hml hrt hlk hnm hH hQ hno hX hS hl
  have hx := hC.x
  have hb := hC.b
  have hl : lv_has ls 7 [(0, .ref (ρ (0, 0, 0))), (1, .int (iI i)), (2, .int (iI j)), (3, .int (iI k))] := hl
  have hP : va_P G.1 zCl [] H0 := va_nil
  have hD : va_D (zA (FC G ρ σ) H0) [] := va_nilD
  have hMo : ∀ z, FC G ρ σ z → s0.heap.size ≤ z := fun z hz => FC.ge hh.sep hz
  have hH1 := hh
  obtain ⟨hp, hna, hal, hne9, hel9, hmr9⟩ := id hh.ok
  have hp7 : 0 < St_p σ ∧ St_p σ ≤ 7 := by rcases hp with h | h | h <;> rw [h] <;> decide
  obtain ⟨sm9, -⟩ := id hh.2.2.1.1
  refine lv_aload_n hx hb dX1_product_0 rfl (lv_at hl 0 rfl) ?_
  refine lv_iload_n hx hb dX1_product_1 rfl (lv_at hl 1 rfl) ?_
  obtain ⟨sm, hxx⟩ := id hH1.2.2.1.1
  refine z_goX 1 6 (z_runVx (As := [.int (iI i)]) (rest := []) hC hml hl.1 (m_X1_elementAt hE H0 (hO.ext (zS_F hS) hMo) ρ σ i hH1 hi.1) (lw_V q1139 q1141 qs25 q62 q1142) rfl nd_X1_elementAt rfl (z_rv hC (ci := 0) rfl hxx rfl) rfl (Nat.le_of_ble_eq_true rfl) ⟨Nat.le_of_ble_eq_true rfl, Nat.le_of_ble_eq_true rfl⟩ ⟨zfit (k := 1) (z := 7) rfl rfl (by omega), zfit (k := 6) (z := 49) rfl rfl (by omega)⟩ dX1_product_2) ⟨zad (k := 1) rfl (by omega), zad (k := 6) rfl (by omega)⟩ hS (fun _ z => z.elim) (fun E ce q9 Hx1 locs hp hF hS1 hce hcv hcl => ?_) (fun r H2 locs hp hF hS1 => ?_)
  · exact z_out hno hlk hX hS1 ⟨zle (z := 7) rfl (by omega), zle (z := 49) rfl (by omega)⟩ hce hcv hcl (⟨Or.inl ⟨hp.1, fun z => hp.2 z.1⟩, hH1.ext0 hE hF⟩)
  obtain ⟨_, rfl, a, ea9, ha9, rfl⟩ := hp
  have hP := zpk hP hF
  have hP : va_P G.1 zCl ([]) H2 := hP
  have hD : va_D (zA (FC G ρ σ) H0) ([]) := hD
  have hH1 : HC G s0 ρ σ H2 := hH1.ext0 hE hF
  have hS := hS1
  refine lv_astore (lv' := [(4, .ref (ρ (13, a, 0))), (0, .ref (ρ (0, 0, 0))), (1, .int (iI i)), (2, .int (iI j)), (3, .int (iI k))]) hx hb dX1_product_5 hl (by decide) rfl (fun ls hl => ?_)
  refine lv_aload_n hx hb dX1_product_7 rfl (lv_at hl 1 rfl) ?_
  refine lv_iload_n hx hb dX1_product_8 rfl (lv_at hl 3 rfl) ?_
  obtain ⟨sm, hxx⟩ := id hH1.2.2.1.1
  refine z_goX 2 12 (z_runVx (As := [.int (iI j)]) (rest := []) hC hml hl.1 (m_X1_elementAt hE H2 (hO.ext (zS_F hS) hMo) ρ σ j hH1 hi.2.1) (lw_V q1139 q1141 qs25 q62 q1142) rfl nd_X1_elementAt rfl (z_rv hC (ci := 0) rfl hxx rfl) rfl (Nat.le_of_ble_eq_true rfl) ⟨Nat.le_of_ble_eq_true rfl, Nat.le_of_ble_eq_true rfl⟩ ⟨zfit (k := 1) (z := 7) rfl rfl (by omega), zfit (k := 6) (z := 49) rfl rfl (by omega)⟩ dX1_product_9) ⟨zad (k := 1) rfl (by omega), zad (k := 6) rfl (by omega)⟩ hS (fun _ z => z.elim) (fun E ce q9 Hx3 locs hp hF hS1 hce hcv hcl => ?_) (fun r H4 locs hp hF hS1 => ?_)
  · exact z_out hno hlk hX hS1 ⟨zle (z := 7) rfl (by omega), zle (z := 49) rfl (by omega)⟩ hce hcv hcl (⟨Or.inl ⟨hp.1, fun z => hp.2 z.2.1⟩, hH1.ext0 hE hF⟩)
  obtain ⟨_, rfl, b, eb9, hb9, rfl⟩ := hp
  have hP := zpk hP hF
  have hP : va_P G.1 zCl ([]) H4 := hP
  have hD : va_D (zA (FC G ρ σ) H0) ([]) := hD
  have hH1 : HC G s0 ρ σ H4 := hH1.ext0 hE hF
  have hS := hS1
  refine lv_astore (lv' := [(5, .ref (ρ (13, b, 0))), (4, .ref (ρ (13, a, 0))), (0, .ref (ρ (0, 0, 0))), (1, .int (iI i)), (2, .int (iI j)), (3, .int (iI k))]) hx hb dX1_product_12 hl (by decide) rfl (fun ls hl => ?_)
  refine lv_aload_n hx hb dX1_product_14 rfl (lv_at hl 2 rfl) ?_
  refine lv_iload_n hx hb dX1_product_15 rfl (lv_at hl 5 rfl) ?_
  obtain ⟨sm, hxx⟩ := id hH1.2.2.1.1
  refine z_goX 3 18 (z_runVx (As := [.int (iI k)]) (rest := []) hC hml hl.1 (m_X1_elementAt hE H4 (hO.ext (zS_F hS) hMo) ρ σ k hH1 hi.2.2) (lw_V q1139 q1141 qs25 q62 q1142) rfl nd_X1_elementAt rfl (z_rv hC (ci := 0) rfl hxx rfl) rfl (Nat.le_of_ble_eq_true rfl) ⟨Nat.le_of_ble_eq_true rfl, Nat.le_of_ble_eq_true rfl⟩ ⟨zfit (k := 1) (z := 7) rfl rfl (by omega), zfit (k := 6) (z := 49) rfl rfl (by omega)⟩ dX1_product_16) ⟨zad (k := 1) rfl (by omega), zad (k := 6) rfl (by omega)⟩ hS (fun _ z => z.elim) (fun E ce q9 Hx5 locs hp hF hS1 hce hcv hcl => ?_) (fun r H6 locs hp hF hS1 => ?_)
  · exact z_out hno hlk hX hS1 ⟨zle (z := 7) rfl (by omega), zle (z := 49) rfl (by omega)⟩ hce hcv hcl (⟨Or.inl ⟨hp.1, fun z => hp.2 z.2.2⟩, hH1.ext0 hE hF⟩)
  obtain ⟨_, rfl, c, ec9, hc9, rfl⟩ := hp
  have hP := zpk hP hF
  have hP : va_P G.1 zCl ([]) H6 := hP
  have hD : va_D (zA (FC G ρ σ) H0) ([]) := hD
  have hH1 : HC G s0 ρ σ H6 := hH1.ext0 hE hF
  have hS := hS1
  refine lv_astore (lv' := [(6, .ref (ρ (13, c, 0))), (5, .ref (ρ (13, b, 0))), (4, .ref (ρ (13, a, 0))), (0, .ref (ρ (0, 0, 0))), (1, .int (iI i)), (2, .int (iI j)), (3, .int (iI k))]) hx hb dX1_product_19 hl (by decide) rfl (fun ls hl => ?_)
  refine lv_aload_n hx hb dX1_product_21 rfl (lv_at hl 3 rfl) ?_
  refine lv_aload hx hb dX1_product_22 (lv_at hl 2 rfl) ?_
  refine lv_aload hx hb dX1_product_24 (lv_at hl 1 rfl) ?_
  obtain ⟨sm, hxx⟩ := id hH1.2.2.1.1
  have ea9 : i.toNat = a := by omega
  have eb9 : j.toNat = b := by omega
  have ec9 : k.toNat = c := by omega
  refine z_goX 4 24 (z_runVx (As := [.ref (ρ (13, a, 0)), .ref (ρ (13, b, 0))]) (rest := []) hC hml hl.1 (m_X1_requireOne hE H6 (hO.ext (zS_F hS) hMo) ρ σ a b hH1 ⟨by omega, by omega⟩) (lw_V q1150 q1152 qs26 q62 q1153) rfl nd_X1_requireOne rfl (z_rv hC (ci := 0) rfl hxx rfl) rfl (Nat.le_of_ble_eq_true rfl) ⟨Nat.le_of_ble_eq_true rfl, Nat.le_of_ble_eq_true rfl⟩ ⟨zfit (k := 1) (z := 7) rfl rfl (by omega), zfit (k := 6) (z := 49) rfl rfl (by omega)⟩ dX1_product_26) ⟨zad (k := 1) rfl (by omega), zad (k := 6) rfl (by omega)⟩ hS (fun _ z => z.elim) (fun E ce q9 Hx7 locs hp hF hS1 hce hcv hcl => ?_) (fun r H8 locs hp hF hS1 => ?_)
  · exact z_out hno hlk hX hS1 ⟨zle (z := 7) rfl (by omega), zle (z := 49) rfl (by omega)⟩ hce hcv hcl (⟨Or.inr ⟨hp.1, by unfold inE; omega, by unfold inE; omega, by unfold inE; omega, fun z => hp.2 (by rw [ea9, eb9] at z; exact z.1)⟩, hH1.ext0 hE hF⟩)
  obtain ⟨rfl, hone⟩ := hp
  have hP := zpk hP hF
  have hP : va_P G.1 zCl ([]) H8 := hP
  have hD : va_D (zA (FC G ρ σ) H0) ([]) := hD
  have hH1 : HC G s0 ρ σ H8 := hH1.ext0 hE hF
  have hS := hS1
  have hone1 := hone
  refine lv_aload_n hx hb dX1_product_29 rfl (lv_at hl 3 rfl) ?_
  refine lv_aload hx hb dX1_product_30 (lv_at hl 2 rfl) ?_
  refine lv_aload hx hb dX1_product_32 (lv_at hl 0 rfl) ?_
  obtain ⟨sm, hxx⟩ := id hH1.2.2.1.1
  refine z_goX 5 30 (z_runVx (As := [.ref (ρ (13, a, 0)), .ref (ρ (13, c, 0))]) (rest := []) hC hml hl.1 (m_X1_requireOne hE H8 (hO.ext (zS_F hS) hMo) ρ σ a c hH1 ⟨by omega, by omega⟩) (lw_V q1150 q1152 qs26 q62 q1153) rfl nd_X1_requireOne rfl (z_rv hC (ci := 0) rfl hxx rfl) rfl (Nat.le_of_ble_eq_true rfl) ⟨Nat.le_of_ble_eq_true rfl, Nat.le_of_ble_eq_true rfl⟩ ⟨zfit (k := 1) (z := 7) rfl rfl (by omega), zfit (k := 6) (z := 49) rfl rfl (by omega)⟩ dX1_product_34) ⟨zad (k := 1) rfl (by omega), zad (k := 6) rfl (by omega)⟩ hS (fun _ z => z.elim) (fun E ce q9 Hx9 locs hp hF hS1 hce hcv hcl => ?_) (fun r H10 locs hp hF hS1 => ?_)
  · exact z_out hno hlk hX hS1 ⟨zle (z := 7) rfl (by omega), zle (z := 49) rfl (by omega)⟩ hce hcv hcl (⟨Or.inr ⟨hp.1, by unfold inE; omega, by unfold inE; omega, by unfold inE; omega, fun z => hp.2 (by rw [ea9, ec9] at z; exact z.2)⟩, hH1.ext0 hE hF⟩)
  obtain ⟨rfl, hone⟩ := hp
  have hP := zpk hP hF
  have hP : va_P G.1 zCl ([]) H10 := hP
  have hD : va_D (zA (FC G ρ σ) H0) ([]) := hD
  have hH1 : HC G s0 ρ σ H10 := hH1.ext0 hE hF
  have hS := hS1
  have hone2 := hone
  refine lv_aload hx hb dX1_product_37 (lv_at hl 2 rfl) ?_
  refine lv_aload hx hb dX1_product_39 (lv_at hl 1 rfl) ?_
  refine lv_aload hx hb dX1_product_41 (lv_at hl 0 rfl) ?_
  have hvb := hH1.row (j := b) (by omega)
  have hvc := hH1.row (j := c) (by omega)
  have hEb := hH1.el (j := b) (by omega)
  have hEc := hH1.el (j := c) (by omega)
  rw [← hone1] at hvb hEb
  rw [← hone2] at hvc hEc
  have hea := hH1.ea (j := a) (by omega)
  have hsz9 : H0.size ≤ H10.size := hS.1
  refine z_go 7 49 (z_runV (As := [.ref (ρ (13, c, 0))]) (rest := [.ref (ρ (13, a, 0))]) hC hml hl.1 (m_X7_times hE H10 (hO.ext (zS_F hS) hMo) (ρ (0, 0, 0)) (ρ (6, St_ea σ a, 0)) (St_p σ) (St_d σ (St_ea σ a)) (St_n σ (St_ea σ a)) (St_kd σ (St_ea σ a)) (St_dv σ (St_ea σ a)) (St_sg σ (St_ea σ a)) (ρ (13, b, 0)) (ρ (14, b, 0)) (St_ev σ b) (ρ (13, c, 0)) (ρ (14, c, 0)) (St_ev σ c)  (hH1.ag (k := St_ea σ a) (by omega)) hEb hvb hEc hvc ) (lw_V q512 q360 q361 q92 q362) rfl nd_X7_times rfl (z_rv hC (ci := 6) rfl hEb.1 rfl) rfl (Nat.le_of_ble_eq_true rfl) ⟨Nat.le_of_ble_eq_true rfl, Nat.le_of_ble_eq_true rfl⟩ ⟨zfit (k := 2) (z := 7) rfl rfl (by omega), zfit (k := 19) (z := 49) rfl rfl (by omega)⟩ dX1_product_43) ⟨zad (k := 2) rfl (by omega), zad (k := 19) rfl (by omega)⟩ hS (fun _ z => z.elim) (fun r H13 locs hp hF hS1 => ?_)
  obtain ⟨qe11, rfl, re12, hN⟩ := hp
  obtain ⟨hP, hD⟩ := zjn hP hD hS.1 hF hN
  have hP : va_P G.1 zCl ([(qe11, zOb 6 [.ref (ρ (6, St_ea σ a, 0)), .ref re12, .ref (ρ (0, 0, 0))]), (re12, zI G (St_n σ (St_ea σ a)) (tmV (St_p σ) (St_n σ (St_ea σ a)) (St_sg σ (St_ea σ a)) (St_ev σ b) (St_ev σ c)))]) H13 := hP
  have hD : va_D (zA (FC G ρ σ) H0) ([(qe11, zOb 6 [.ref (ρ (6, St_ea σ a, 0)), .ref re12, .ref (ρ (0, 0, 0))]), (re12, zI G (St_n σ (St_ea σ a)) (tmV (St_p σ) (St_n σ (St_ea σ a)) (St_sg σ (St_ea σ a)) (St_ev σ b) (St_ev σ c)))]) := hD
  have hH1 : HC G s0 ρ σ H13 := hH1.ext0 hE hF
  have hS := hS1
  have hDn : va_D (fun z => H0.size ≤ z) _ := va_D.weaken hN.2 (fun _ _ _ z => Nat.le_trans hsz9 z)
  have hq9 : H0.size ≤ qe11 := hDn.2 0 _ rfl
  have hr9 : H0.size ≤ re12 := hDn.2 1 _ rfl
  have hlt9 := hh.lt hE hO _ (domE 13 a (Or.inl rfl) (by omega))
  have hqn : qe11 ≠ ρ (13, a, 0) := by omega
  have hH2 := hH1
  have hR2 := hP 1 _ rfl
  refine z_go 7 49 (z_runS (As := [.ref (ρ (13, a, 0)), .ref qe11]) (rest := []) hC hml hl.1 (m_X1_keep hE H13 (hO.ext (zS_F hS) hMo) ρ σ a qe11 re12 (tmV (St_p σ) (St_n σ (St_ea σ a)) (St_sg σ (St_ea σ a)) (St_ev σ b) (St_ev σ c)) hH2 (by omega) ⟨hP 0 _ rfl, hP 1 _ rfl⟩ (tmV_ok hp _ _ _ _) hqn) (lw_S q1155 q1156 q62 q1157) nd_X1_keep rfl rfl (Nat.le_of_ble_eq_true rfl) ⟨Nat.le_of_ble_eq_true rfl, Nat.le_of_ble_eq_true rfl⟩ ⟨zfit (k := 0) (z := 7) rfl rfl (by omega), zfit (k := 0) (z := 49) rfl rfl (by omega)⟩ dX1_product_46) ⟨zad (k := 0) rfl (by omega), zad (k := 0) rfl (by omega)⟩ hS (fun z hz => Or.inl (hz ▸ FC.in hE hh.sep (domE 13 a (Or.inl rfl) (by omega)) (by simp))) (fun r H14 locs hp hF hS1 => ?_)
  obtain ⟨_, rfl, rfl, hm9⟩ := hp
  have hP : va_P G.1 zCl [] H14 := va_nil
  have hD : va_D (zA (FC G ρ σ) H0) [] := va_nilD
  have hpo := hH2.keepP hE (show a < St_ne σ by omega) hF hm9 (zAt.ext hR2 hF (Ne.symm (z_noArr hE (ci := 6) (t := 0) rfl (hH2.el (j := a) (by omega)).1 rfl hR2))) hO hh hr9 (tmV_ok hp _ _ _ _)
  have hP : va_P G.1 zCl ([]) H14 := hP
  have hD : va_D (zA (FC G ρ σ) H0) ([]) := hD
  have hS := hS1
  exact z_iret hC hrt hlk hQ hS ⟨zle (z := 7) rfl (by omega), zle (z := 49) rfl (by omega)⟩ ⟨_, rfl, stEl σ a (tmV (St_p σ) (St_n σ (St_ea σ a)) (St_sg σ (St_ea σ a)) (St_ev σ b) (St_ev σ c)), ⟨a, b, c, ⟨by omega, by omega⟩, ⟨by omega, by omega⟩, ⟨by omega, by omega⟩, ⟨hone1, hone2⟩, rfl, rfl⟩, hpo⟩ dX1_product_49

abbrev rm_m_X1_conjugate : Room := { frames := 8, cells := 5, slots := 37, locals := 132 }
set_option maxHeartbeats 4000000 in
theorem m_X1_conjugate {l : Launch} {s0 : State} {G : zG} (hE : zE l s0 G) (H0 : Heap) (hO : zO s0 H0) (ρ : Ro → Nat) (σ : St) (i j : Int) (hh : HC G s0 ρ σ H0) (hi : zi i ∧ zi j) : zMX l s0 yX1_conjugate cX1_conjugate 5 (some FieldType.int) rm_m_X1_conjugate [.ref (ρ (0, 0, 0)), .int (iI i), .int (iI j)] H0 (FC G ρ σ) (HP G s0 H0 ρ σ (fun y σ' => ∃ a b : Nat, (i = a ∧ a < St_ne σ) ∧ (j = b ∧ b < St_ne σ) ∧ St_ea σ a = St_ea σ b ∧ σ' = stEl σ a (cjV (St_p σ) (St_kd σ (St_ea σ a)) (St_ev σ b)) ∧ y = (szV (cjV (St_p σ) (St_kd σ (St_ea σ a)) (St_ev σ b)) (St_n σ (St_ea σ a)) : Nat))) (HX G s0 ρ σ (X2e σ i j True)) := by
  refine z_metX hE (by decide +kernel) (Nat.le_of_ble_eq_true rfl) ?_
  intro pp ee ss mm args below meth cd Q ls hC hml hrt hlk hnm hH hQ hno hX hS hl
  have hx := hC.x
  have hb := hC.b
  have hl : lv_has ls 5 [(0, .ref (ρ (0, 0, 0))), (1, .int (iI i)), (2, .int (iI j))] := hl
  have hP : va_P G.1 zCl [] H0 := va_nil
  have hD : va_D (zA (FC G ρ σ) H0) [] := va_nilD
  have hMo : ∀ z, FC G ρ σ z → s0.heap.size ≤ z := fun z hz => FC.ge hh.sep hz
  have hH1 := hh
  obtain ⟨hp, hna, hal, hne9, hel9, hmr9⟩ := id hh.ok
  have hp7 : 0 < St_p σ ∧ St_p σ ≤ 7 := by rcases hp with h | h | h <;> rw [h] <;> decide
  obtain ⟨sm9, -⟩ := id hh.2.2.1.1
  refine lv_aload_n hx hb dX1_conjugate_0 rfl (lv_at hl 0 rfl) ?_
  refine lv_iload_n hx hb dX1_conjugate_1 rfl (lv_at hl 1 rfl) ?_
  obtain ⟨sm, hxx⟩ := id hH1.2.2.1.1
  refine z_goX 1 6 (z_runVx (As := [.int (iI i)]) (rest := []) hC hml hl.1 (m_X1_elementAt hE H0 (hO.ext (zS_F hS) hMo) ρ σ i hH1 hi.1) (lw_V q1139 q1141 qs25 q62 q1142) rfl nd_X1_elementAt rfl (z_rv hC (ci := 0) rfl hxx rfl) rfl (Nat.le_of_ble_eq_true rfl) ⟨Nat.le_of_ble_eq_true rfl, Nat.le_of_ble_eq_true rfl⟩ ⟨zfit (k := 1) (z := 5) rfl rfl (by omega), zfit (k := 6) (z := 37) rfl rfl (by omega)⟩ dX1_conjugate_2) ⟨zad (k := 1) rfl (by omega), zad (k := 6) rfl (by omega)⟩ hS (fun _ z => z.elim) (fun E ce q9 Hx1 locs hp hF hS1 hce hcv hcl => ?_) (fun r H2 locs hp hF hS1 => ?_)
  · exact z_out hno hlk hX hS1 ⟨zle (z := 5) rfl (by omega), zle (z := 37) rfl (by omega)⟩ hce hcv hcl (⟨Or.inl ⟨hp.1, fun z => hp.2 z.1⟩, hH1.ext0 hE hF⟩)
  obtain ⟨_, rfl, a, ea9, ha9, rfl⟩ := hp
  have hP := zpk hP hF
  have hP : va_P G.1 zCl ([]) H2 := hP
  have hD : va_D (zA (FC G ρ σ) H0) ([]) := hD
  have hH1 : HC G s0 ρ σ H2 := hH1.ext0 hE hF
  have hS := hS1
  refine lv_astore_n (lv' := [(3, .ref (ρ (13, a, 0))), (0, .ref (ρ (0, 0, 0))), (1, .int (iI i)), (2, .int (iI j))]) hx hb dX1_conjugate_5 rfl hl (by decide) rfl (fun ls hl => ?_)
  refine lv_aload_n hx hb dX1_conjugate_6 rfl (lv_at hl 1 rfl) ?_
  refine lv_iload_n hx hb dX1_conjugate_7 rfl (lv_at hl 3 rfl) ?_
  obtain ⟨sm, hxx⟩ := id hH1.2.2.1.1
  refine z_goX 2 12 (z_runVx (As := [.int (iI j)]) (rest := []) hC hml hl.1 (m_X1_elementAt hE H2 (hO.ext (zS_F hS) hMo) ρ σ j hH1 hi.2) (lw_V q1139 q1141 qs25 q62 q1142) rfl nd_X1_elementAt rfl (z_rv hC (ci := 0) rfl hxx rfl) rfl (Nat.le_of_ble_eq_true rfl) ⟨Nat.le_of_ble_eq_true rfl, Nat.le_of_ble_eq_true rfl⟩ ⟨zfit (k := 1) (z := 5) rfl rfl (by omega), zfit (k := 6) (z := 37) rfl rfl (by omega)⟩ dX1_conjugate_8) ⟨zad (k := 1) rfl (by omega), zad (k := 6) rfl (by omega)⟩ hS (fun _ z => z.elim) (fun E ce q9 Hx3 locs hp hF hS1 hce hcv hcl => ?_) (fun r H4 locs hp hF hS1 => ?_)
  · exact z_out hno hlk hX hS1 ⟨zle (z := 5) rfl (by omega), zle (z := 37) rfl (by omega)⟩ hce hcv hcl (⟨Or.inl ⟨hp.1, fun z => hp.2 z.2⟩, hH1.ext0 hE hF⟩)
  obtain ⟨_, rfl, b, eb9, hb9, rfl⟩ := hp
  have hP := zpk hP hF
  have hP : va_P G.1 zCl ([]) H4 := hP
  have hD : va_D (zA (FC G ρ σ) H0) ([]) := hD
  have hH1 : HC G s0 ρ σ H4 := hH1.ext0 hE hF
  have hS := hS1
  refine lv_astore (lv' := [(4, .ref (ρ (13, b, 0))), (3, .ref (ρ (13, a, 0))), (0, .ref (ρ (0, 0, 0))), (1, .int (iI i)), (2, .int (iI j))]) hx hb dX1_conjugate_11 hl (by decide) rfl (fun ls hl => ?_)
  refine lv_aload_n hx hb dX1_conjugate_13 rfl (lv_at hl 2 rfl) ?_
  refine lv_aload_n hx hb dX1_conjugate_14 rfl (lv_at hl 1 rfl) ?_
  refine lv_aload hx hb dX1_conjugate_15 (lv_at hl 0 rfl) ?_
  obtain ⟨sm, hxx⟩ := id hH1.2.2.1.1
  have ea9 : i.toNat = a := by omega
  have eb9 : j.toNat = b := by omega
  have iE : inE σ i := by unfold inE; omega
  have jE : inE σ j := by unfold inE; omega
  refine z_goX 3 18 (z_runVx (As := [.ref (ρ (13, a, 0)), .ref (ρ (13, b, 0))]) (rest := []) hC hml hl.1 (m_X1_requireOne hE H4 (hO.ext (zS_F hS) hMo) ρ σ a b hH1 ⟨by omega, by omega⟩) (lw_V q1150 q1152 qs26 q62 q1153) rfl nd_X1_requireOne rfl (z_rv hC (ci := 0) rfl hxx rfl) rfl (Nat.le_of_ble_eq_true rfl) ⟨Nat.le_of_ble_eq_true rfl, Nat.le_of_ble_eq_true rfl⟩ ⟨zfit (k := 1) (z := 5) rfl rfl (by omega), zfit (k := 6) (z := 37) rfl rfl (by omega)⟩ dX1_conjugate_17) ⟨zad (k := 1) rfl (by omega), zad (k := 6) rfl (by omega)⟩ hS (fun _ z => z.elim) (fun E ce q9 Hx5 locs hp hF hS1 hce hcv hcl => ?_) (fun r H6 locs hp hF hS1 => ?_)
  · exact z_out hno hlk hX hS1 ⟨zle (z := 5) rfl (by omega), zle (z := 37) rfl (by omega)⟩ hce hcv hcl (⟨Or.inr ⟨hp.1, iE, jE, fun z => hp.2 (by rw [ea9, eb9] at z; exact z.1)⟩, hH1.ext0 hE hF⟩)
  obtain ⟨rfl, hone⟩ := hp
  have hP := zpk hP hF
  have hP : va_P G.1 zCl ([]) H6 := hP
  have hD : va_D (zA (FC G ρ σ) H0) ([]) := hD
  have hH1 : HC G s0 ρ σ H6 := hH1.ext0 hE hF
  have hS := hS1
  refine lv_aload_n hx hb dX1_conjugate_20 rfl (lv_at hl 1 rfl) ?_
  refine lv_aload hx hb dX1_conjugate_21 (lv_at hl 0 rfl) ?_
  have hvb := hH1.row (j := b) (by omega)
  have hEb := hH1.el (j := b) (by omega)
  rw [← hone] at hvb hEb
  have hea := hH1.ea (j := a) (by omega)
  have hsz9 : H0.size ≤ H6.size := hS.1
  refine z_go 5 37 (z_runV (As := []) (rest := [.ref (ρ (13, a, 0))]) hC hml hl.1 (m_X7_conjugate hE H6 (hO.ext (zS_F hS) hMo) (ρ (0, 0, 0)) (ρ (6, St_ea σ a, 0)) (St_p σ) (St_d σ (St_ea σ a)) (St_n σ (St_ea σ a)) (St_kd σ (St_ea σ a)) (St_dv σ (St_ea σ a)) (St_sg σ (St_ea σ a)) (ρ (13, b, 0)) (ρ (14, b, 0)) (St_ev σ b)  (hH1.ag (k := St_ea σ a) (by omega)) hEb hvb ) (lw_V q1183 q312 q313 q92 q314) rfl nd_X7_conjugate rfl (z_rv hC (ci := 6) rfl hEb.1 rfl) rfl (Nat.le_of_ble_eq_true rfl) ⟨Nat.le_of_ble_eq_true rfl, Nat.le_of_ble_eq_true rfl⟩ ⟨zfit (k := 2) (z := 5) rfl rfl (by omega), zfit (k := 19) (z := 37) rfl rfl (by omega)⟩ dX1_conjugate_23) ⟨zad (k := 2) rfl (by omega), zad (k := 19) rfl (by omega)⟩ hS (fun _ z => z.elim) (fun r H9 locs hp hF hS1 => ?_)
  obtain ⟨qe7, rfl, re8, hN⟩ := hp
  obtain ⟨hP, hD⟩ := zjn hP hD hS.1 hF hN
  have hP : va_P G.1 zCl ([(qe7, zOb 6 [.ref (ρ (6, St_ea σ a, 0)), .ref re8, .ref (ρ (0, 0, 0))]), (re8, zI G (St_n σ (St_ea σ a)) (cjV (St_p σ) (St_kd σ (St_ea σ a)) (St_ev σ b)))]) H9 := hP
  have hD : va_D (zA (FC G ρ σ) H0) ([(qe7, zOb 6 [.ref (ρ (6, St_ea σ a, 0)), .ref re8, .ref (ρ (0, 0, 0))]), (re8, zI G (St_n σ (St_ea σ a)) (cjV (St_p σ) (St_kd σ (St_ea σ a)) (St_ev σ b)))]) := hD
  have hH1 : HC G s0 ρ σ H9 := hH1.ext0 hE hF
  have hS := hS1
  have hDn : va_D (fun z => H0.size ≤ z) _ := va_D.weaken hN.2 (fun _ _ _ z => Nat.le_trans hsz9 z)
  have hq9 : H0.size ≤ qe7 := hDn.2 0 _ rfl
  have hr9 : H0.size ≤ re8 := hDn.2 1 _ rfl
  have hlt9 := hh.lt hE hO _ (domE 13 a (Or.inl rfl) (by omega))
  have hqn : qe7 ≠ ρ (13, a, 0) := by omega
  have hH2 := hH1
  have hR2 := hP 1 _ rfl
  refine z_go 5 37 (z_runS (As := [.ref (ρ (13, a, 0)), .ref qe7]) (rest := []) hC hml hl.1 (m_X1_keep hE H9 (hO.ext (zS_F hS) hMo) ρ σ a qe7 re8 (cjV (St_p σ) (St_kd σ (St_ea σ a)) (St_ev σ b)) hH2 (by omega) ⟨hP 0 _ rfl, hP 1 _ rfl⟩ (cjV_ok hp _ _ _) hqn) (lw_S q1155 q1156 q62 q1157) nd_X1_keep rfl rfl (Nat.le_of_ble_eq_true rfl) ⟨Nat.le_of_ble_eq_true rfl, Nat.le_of_ble_eq_true rfl⟩ ⟨zfit (k := 0) (z := 5) rfl rfl (by omega), zfit (k := 0) (z := 37) rfl rfl (by omega)⟩ dX1_conjugate_26) ⟨zad (k := 0) rfl (by omega), zad (k := 0) rfl (by omega)⟩ hS (fun z hz => Or.inl (hz ▸ FC.in hE hh.sep (domE 13 a (Or.inl rfl) (by omega)) (by simp))) (fun r H10 locs hp hF hS1 => ?_)
  obtain ⟨_, rfl, rfl, hm9⟩ := hp
  have hP : va_P G.1 zCl [] H10 := va_nil
  have hD : va_D (zA (FC G ρ σ) H0) [] := va_nilD
  have hpo := hH2.keepP hE (show a < St_ne σ by omega) hF hm9 (zAt.ext hR2 hF (Ne.symm (z_noArr hE (ci := 6) (t := 0) rfl (hH2.el (j := a) (by omega)).1 rfl hR2))) hO hh hr9 (cjV_ok hp _ _ _)
  have hP : va_P G.1 zCl ([]) H10 := hP
  have hD : va_D (zA (FC G ρ σ) H0) ([]) := hD
  have hS := hS1
  exact z_iret hC hrt hlk hQ hS ⟨zle (z := 5) rfl (by omega), zle (z := 37) rfl (by omega)⟩ ⟨_, rfl, stEl σ a (cjV (St_p σ) (St_kd σ (St_ea σ a)) (St_ev σ b)), ⟨a, b, ⟨by omega, by omega⟩, ⟨by omega, by omega⟩, hone, rfl, rfl⟩, hpo⟩ dX1_conjugate_29

abbrev rm_m_X1_scale : Room := { frames := 8, cells := 6, slots := 43, locals := 132 }
set_option maxHeartbeats 4000000 in
theorem m_X1_scale {l : Launch} {s0 : State} {G : zG} (hE : zE l s0 G) (H0 : Heap) (hO : zO s0 H0) (ρ : Ro → Nat) (σ : St) (i j t : Int) (hh : HC G s0 ρ σ H0) (hi : zi i ∧ zi j ∧ zi t) : zMX l s0 yX1_scale cX1_scale 6 (some FieldType.int) rm_m_X1_scale [.ref (ρ (0, 0, 0)), .int (iI i), .int (iI j), .int (iI t)] H0 (FC G ρ σ) (HP G s0 H0 ρ σ (fun y σ' => ∃ a b : Nat, (i = a ∧ a < St_ne σ) ∧ (j = b ∧ b < St_ne σ) ∧ St_ea σ a = St_ea σ b ∧ (0 ≤ t ∧ t < St_p σ) ∧ σ' = stEl σ a (scV (St_p σ) t (St_ev σ b)) ∧ y = (szV (scV (St_p σ) t (St_ev σ b)) (St_n σ (St_ea σ a)) : Nat))) (HX G s0 ρ σ (X2e σ i j (0 ≤ t ∧ t < St_p σ))) := by
  refine z_metX hE (by decide +kernel) (Nat.le_of_ble_eq_true rfl) ?_
  intro pp ee ss mm args below meth cd Q ls hC hml hrt hlk hnm hH hQ hno hX hS hl
  have hx := hC.x
  have hb := hC.b
  have hl : lv_has ls 6 [(0, .ref (ρ (0, 0, 0))), (1, .int (iI i)), (2, .int (iI j)), (3, .int (iI t))] := hl
  have hP : va_P G.1 zCl [] H0 := va_nil
  have hD : va_D (zA (FC G ρ σ) H0) [] := va_nilD
  have hMo : ∀ z, FC G ρ σ z → s0.heap.size ≤ z := fun z hz => FC.ge hh.sep hz
  have hH1 := hh
  obtain ⟨hp, hna, hal, hne9, hel9, hmr9⟩ := id hh.ok
  have hp7 : 0 < St_p σ ∧ St_p σ ≤ 7 := by rcases hp with h | h | h <;> rw [h] <;> decide
  obtain ⟨sm9, -⟩ := id hh.2.2.1.1
  refine lv_aload_n hx hb dX1_scale_0 rfl (lv_at hl 0 rfl) ?_
  refine lv_iload_n hx hb dX1_scale_1 rfl (lv_at hl 1 rfl) ?_
  obtain ⟨sm, hxx⟩ := id hH1.2.2.1.1
  refine z_goX 1 6 (z_runVx (As := [.int (iI i)]) (rest := []) hC hml hl.1 (m_X1_elementAt hE H0 (hO.ext (zS_F hS) hMo) ρ σ i hH1 hi.1) (lw_V q1139 q1141 qs25 q62 q1142) rfl nd_X1_elementAt rfl (z_rv hC (ci := 0) rfl hxx rfl) rfl (Nat.le_of_ble_eq_true rfl) ⟨Nat.le_of_ble_eq_true rfl, Nat.le_of_ble_eq_true rfl⟩ ⟨zfit (k := 1) (z := 6) rfl rfl (by omega), zfit (k := 6) (z := 43) rfl rfl (by omega)⟩ dX1_scale_2) ⟨zad (k := 1) rfl (by omega), zad (k := 6) rfl (by omega)⟩ hS (fun _ z => z.elim) (fun E ce q9 Hx1 locs hp hF hS1 hce hcv hcl => ?_) (fun r H2 locs hp hF hS1 => ?_)
  · exact z_out hno hlk hX hS1 ⟨zle (z := 6) rfl (by omega), zle (z := 43) rfl (by omega)⟩ hce hcv hcl (⟨Or.inl ⟨hp.1, fun z => hp.2 z.1⟩, hH1.ext0 hE hF⟩)
  obtain ⟨_, rfl, a, ea9, ha9, rfl⟩ := hp
  have hP := zpk hP hF
  have hP : va_P G.1 zCl ([]) H2 := hP
  have hD : va_D (zA (FC G ρ σ) H0) ([]) := hD
  have hH1 : HC G s0 ρ σ H2 := hH1.ext0 hE hF
  have hS := hS1
  refine lv_astore (lv' := [(4, .ref (ρ (13, a, 0))), (0, .ref (ρ (0, 0, 0))), (1, .int (iI i)), (2, .int (iI j)), (3, .int (iI t))]) hx hb dX1_scale_5 hl (by decide) rfl (fun ls hl => ?_)
  refine lv_aload_n hx hb dX1_scale_7 rfl (lv_at hl 1 rfl) ?_
  refine lv_iload_n hx hb dX1_scale_8 rfl (lv_at hl 3 rfl) ?_
  obtain ⟨sm, hxx⟩ := id hH1.2.2.1.1
  refine z_goX 2 12 (z_runVx (As := [.int (iI j)]) (rest := []) hC hml hl.1 (m_X1_elementAt hE H2 (hO.ext (zS_F hS) hMo) ρ σ j hH1 hi.2.1) (lw_V q1139 q1141 qs25 q62 q1142) rfl nd_X1_elementAt rfl (z_rv hC (ci := 0) rfl hxx rfl) rfl (Nat.le_of_ble_eq_true rfl) ⟨Nat.le_of_ble_eq_true rfl, Nat.le_of_ble_eq_true rfl⟩ ⟨zfit (k := 1) (z := 6) rfl rfl (by omega), zfit (k := 6) (z := 43) rfl rfl (by omega)⟩ dX1_scale_9) ⟨zad (k := 1) rfl (by omega), zad (k := 6) rfl (by omega)⟩ hS (fun _ z => z.elim) (fun E ce q9 Hx3 locs hp hF hS1 hce hcv hcl => ?_) (fun r H4 locs hp hF hS1 => ?_)
  · exact z_out hno hlk hX hS1 ⟨zle (z := 6) rfl (by omega), zle (z := 43) rfl (by omega)⟩ hce hcv hcl (⟨Or.inl ⟨hp.1, fun z => hp.2 z.2⟩, hH1.ext0 hE hF⟩)
  obtain ⟨_, rfl, b, eb9, hb9, rfl⟩ := hp
  have hP := zpk hP hF
  have hP : va_P G.1 zCl ([]) H4 := hP
  have hD : va_D (zA (FC G ρ σ) H0) ([]) := hD
  have hH1 : HC G s0 ρ σ H4 := hH1.ext0 hE hF
  have hS := hS1
  refine lv_astore (lv' := [(5, .ref (ρ (13, b, 0))), (4, .ref (ρ (13, a, 0))), (0, .ref (ρ (0, 0, 0))), (1, .int (iI i)), (2, .int (iI j)), (3, .int (iI t))]) hx hb dX1_scale_12 hl (by decide) rfl (fun ls hl => ?_)
  refine lv_aload_n hx hb dX1_scale_14 rfl (lv_at hl 2 rfl) ?_
  refine lv_aload hx hb dX1_scale_15 (lv_at hl 1 rfl) ?_
  refine lv_aload hx hb dX1_scale_17 (lv_at hl 0 rfl) ?_
  obtain ⟨sm, hxx⟩ := id hH1.2.2.1.1
  have ea9 : i.toNat = a := by omega
  have eb9 : j.toNat = b := by omega
  have iE : inE σ i := by unfold inE; omega
  have jE : inE σ j := by unfold inE; omega
  refine z_goX 3 18 (z_runVx (As := [.ref (ρ (13, a, 0)), .ref (ρ (13, b, 0))]) (rest := []) hC hml hl.1 (m_X1_requireOne hE H4 (hO.ext (zS_F hS) hMo) ρ σ a b hH1 ⟨by omega, by omega⟩) (lw_V q1150 q1152 qs26 q62 q1153) rfl nd_X1_requireOne rfl (z_rv hC (ci := 0) rfl hxx rfl) rfl (Nat.le_of_ble_eq_true rfl) ⟨Nat.le_of_ble_eq_true rfl, Nat.le_of_ble_eq_true rfl⟩ ⟨zfit (k := 1) (z := 6) rfl rfl (by omega), zfit (k := 6) (z := 43) rfl rfl (by omega)⟩ dX1_scale_19) ⟨zad (k := 1) rfl (by omega), zad (k := 6) rfl (by omega)⟩ hS (fun _ z => z.elim) (fun E ce q9 Hx5 locs hp hF hS1 hce hcv hcl => ?_) (fun r H6 locs hp hF hS1 => ?_)
  · exact z_out hno hlk hX hS1 ⟨zle (z := 6) rfl (by omega), zle (z := 43) rfl (by omega)⟩ hce hcv hcl (⟨Or.inr ⟨hp.1, iE, jE, fun z => hp.2 (by rw [ea9, eb9] at z; exact z.1)⟩, hH1.ext0 hE hF⟩)
  obtain ⟨rfl, hone⟩ := hp
  have hP := zpk hP hF
  have hP : va_P G.1 zCl ([]) H6 := hP
  have hD : va_D (zA (FC G ρ σ) H0) ([]) := hD
  have hH1 : HC G s0 ρ σ H6 := hH1.ext0 hE hF
  have hS := hS1
  refine lv_aload_n hx hb dX1_scale_22 rfl (lv_at hl 2 rfl) ?_
  refine lv_iload_n hx hb dX1_scale_23 rfl (lv_at hl 5 rfl) ?_
  obtain ⟨sm, hxx⟩ := id hH1.2.2.1.1
  refine z_go 3 18 (z_runV (As := [.int (iI t)]) (rest := []) hC hml hl.1 (m_X1_isNumber hE H6 (hO.ext (zS_F hS) hMo) ρ σ t hH1 hi.2.2) (lw_V q1078 q1080 qs24 q62 q1081) rfl nd_X1_isNumber rfl (z_rv hC (ci := 0) rfl hxx rfl) rfl (Nat.le_of_ble_eq_true rfl) ⟨Nat.le_of_ble_eq_true rfl, Nat.le_of_ble_eq_true rfl⟩ ⟨zfit (k := 0) (z := 6) rfl rfl (by omega), zfit (k := 0) (z := 43) rfl rfl (by omega)⟩ dX1_scale_24) ⟨zad (k := 0) rfl (by omega), zad (k := 0) rfl (by omega)⟩ hS (fun _ z => z.elim) (fun r H7 locs hp hF hS1 => ?_)
  obtain ⟨_, rfl, rfl⟩ := hp
  have hP := zpk hP hF
  have hP : va_P G.1 zCl ([]) H7 := hP
  have hD : va_D (zA (FC G ρ σ) H0) ([]) := hD
  have hH1 : HC G s0 ρ σ H7 := hH1.ext0 hE hF
  have hS := hS1
  obtain ⟨fl, hfl, hfl2⟩ : ∃ fl : Nat, fl ≤ 1 ∧ (if 0 ≤ t ∧ t < St_p σ then (1 : Int) else 0) = fl ∧ (fl = 1 ↔ 0 ≤ t ∧ t < St_p σ) := by by_cases h : 0 ≤ t ∧ t < St_p σ; exact ⟨1, by decide, by rw [if_pos h]; rfl, by simp [h]⟩; exact ⟨0, by decide, by rw [if_neg h]; rfl, by simp [h]⟩
  refine z_top (b := ((fl : Nat) : Int)) (hfl2.1) ?_
  refine z_goX 4 24 (z_runSx (As := [.int (iI ((fl : Nat) : Int))]) (rest := []) hC hml hl.1 (m_X1_require hE H7 (hO.ext (zS_F hS) hMo) fl hfl) (lw_S q905 q906 q62 q907) nd_X1_require rfl rfl (Nat.le_of_ble_eq_true rfl) ⟨Nat.le_of_ble_eq_true rfl, Nat.le_of_ble_eq_true rfl⟩ ⟨zfit (k := 1) (z := 6) rfl rfl (by omega), zfit (k := 6) (z := 43) rfl rfl (by omega)⟩ dX1_scale_27) ⟨zad (k := 1) rfl (by omega), zad (k := 6) rfl (by omega)⟩ hS (fun _ z => z.elim) (fun E ce q9 Hx8 locs hp hF hS1 hce hcv hcl => ?_) (fun r H9 locs hp hF hS1 => ?_)
  · exact z_out hno hlk hX hS1 ⟨zle (z := 6) rfl (by omega), zle (z := 43) rfl (by omega)⟩ hce hcv hcl (⟨Or.inr ⟨hp.1, iE, jE, fun z => by have := hfl2.2.mpr z.2; have := hp.2; omega⟩, hH1.ext0 hE hF⟩)
  obtain ⟨rfl, hfl1⟩ := hp
  have hP := zpk hP hF
  have hP : va_P G.1 zCl ([]) H9 := hP
  have hD : va_D (zA (FC G ρ σ) H0) ([]) := hD
  have hH1 : HC G s0 ρ σ H9 := hH1.ext0 hE hF
  have hS := hS1
  have htp := hfl2.2.mp hfl1
  refine lv_aload hx hb dX1_scale_30 (lv_at hl 1 rfl) ?_
  refine lv_aload hx hb dX1_scale_32 (lv_at hl 0 rfl) ?_
  refine lv_iload_n hx hb dX1_scale_34 rfl (lv_at hl 5 rfl) ?_
  have hvb := hH1.row (j := b) (by omega)
  have hEb := hH1.el (j := b) (by omega)
  rw [← hone] at hvb hEb
  have hea := hH1.ea (j := a) (by omega)
  have hsz9 : H0.size ≤ H9.size := hS.1
  refine z_go 6 43 (z_runV (As := [.int (iI t)]) (rest := [.ref (ρ (13, a, 0))]) hC hml hl.1 (m_X7_times_2 hE H9 (hO.ext (zS_F hS) hMo) (ρ (0, 0, 0)) (ρ (6, St_ea σ a, 0)) (St_p σ) (St_d σ (St_ea σ a)) (St_n σ (St_ea σ a)) (St_kd σ (St_ea σ a)) (St_dv σ (St_ea σ a)) (St_sg σ (St_ea σ a)) (ρ (13, b, 0)) (ρ (14, b, 0)) (St_ev σ b) t (hH1.ag (k := St_ea σ a) (by omega)) hEb hvb (by omega)) (lw_V q1172 q1173 q1174 q92 q1175) rfl nd_X7_times_2 rfl (z_rv hC (ci := 6) rfl hEb.1 rfl) rfl (Nat.le_of_ble_eq_true rfl) ⟨Nat.le_of_ble_eq_true rfl, Nat.le_of_ble_eq_true rfl⟩ ⟨zfit (k := 2) (z := 6) rfl rfl (by omega), zfit (k := 19) (z := 43) rfl rfl (by omega)⟩ dX1_scale_35) ⟨zad (k := 2) rfl (by omega), zad (k := 19) rfl (by omega)⟩ hS (fun _ z => z.elim) (fun r H12 locs hp hF hS1 => ?_)
  obtain ⟨qe10, rfl, re11, hN⟩ := hp
  obtain ⟨hP, hD⟩ := zjn hP hD hS.1 hF hN
  have hP : va_P G.1 zCl ([(qe10, zOb 6 [.ref (ρ (6, St_ea σ a, 0)), .ref re11, .ref (ρ (0, 0, 0))]), (re11, zI G (St_n σ (St_ea σ a)) (scV (St_p σ) t (St_ev σ b)))]) H12 := hP
  have hD : va_D (zA (FC G ρ σ) H0) ([(qe10, zOb 6 [.ref (ρ (6, St_ea σ a, 0)), .ref re11, .ref (ρ (0, 0, 0))]), (re11, zI G (St_n σ (St_ea σ a)) (scV (St_p σ) t (St_ev σ b)))]) := hD
  have hH1 : HC G s0 ρ σ H12 := hH1.ext0 hE hF
  have hS := hS1
  have hDn : va_D (fun z => H0.size ≤ z) _ := va_D.weaken hN.2 (fun _ _ _ z => Nat.le_trans hsz9 z)
  have hq9 : H0.size ≤ qe10 := hDn.2 0 _ rfl
  have hr9 : H0.size ≤ re11 := hDn.2 1 _ rfl
  have hlt9 := hh.lt hE hO _ (domE 13 a (Or.inl rfl) (by omega))
  have hqn : qe10 ≠ ρ (13, a, 0) := by omega
  have hH2 := hH1
  have hR2 := hP 1 _ rfl
  refine z_go 6 43 (z_runS (As := [.ref (ρ (13, a, 0)), .ref qe10]) (rest := []) hC hml hl.1 (m_X1_keep hE H12 (hO.ext (zS_F hS) hMo) ρ σ a qe10 re11 (scV (St_p σ) t (St_ev σ b)) hH2 (by omega) ⟨hP 0 _ rfl, hP 1 _ rfl⟩ (scV_ok hp _ _ _) hqn) (lw_S q1155 q1156 q62 q1157) nd_X1_keep rfl rfl (Nat.le_of_ble_eq_true rfl) ⟨Nat.le_of_ble_eq_true rfl, Nat.le_of_ble_eq_true rfl⟩ ⟨zfit (k := 0) (z := 6) rfl rfl (by omega), zfit (k := 0) (z := 43) rfl rfl (by omega)⟩ dX1_scale_38) ⟨zad (k := 0) rfl (by omega), zad (k := 0) rfl (by omega)⟩ hS (fun z hz => Or.inl (hz ▸ FC.in hE hh.sep (domE 13 a (Or.inl rfl) (by omega)) (by simp))) (fun r H13 locs hp hF hS1 => ?_)
  obtain ⟨_, rfl, rfl, hm9⟩ := hp
  have hP : va_P G.1 zCl [] H13 := va_nil
  have hD : va_D (zA (FC G ρ σ) H0) [] := va_nilD
  have hpo := hH2.keepP hE (show a < St_ne σ by omega) hF hm9 (zAt.ext hR2 hF (Ne.symm (z_noArr hE (ci := 6) (t := 0) rfl (hH2.el (j := a) (by omega)).1 rfl hR2))) hO hh hr9 (scV_ok hp _ _ _)
  have hP : va_P G.1 zCl ([]) H13 := hP
  have hD : va_D (zA (FC G ρ σ) H0) ([]) := hD
  have hS := hS1
  exact z_iret hC hrt hlk hQ hS ⟨zle (z := 6) rfl (by omega), zle (z := 43) rfl (by omega)⟩ ⟨_, rfl, stEl σ a (scV (St_p σ) t (St_ev σ b)), ⟨a, b, ⟨by omega, by omega⟩, ⟨by omega, by omega⟩, hone, htp, rfl, rfl⟩, hpo⟩ dX1_scale_41

abbrev rm_m_X1_power : Room := { frames := 8, cells := 126, slots := 1224, locals := 132 }
set_option maxHeartbeats 4000000 in
theorem m_X1_power {l : Launch} {s0 : State} {G : zG} (hE : zE l s0 G) (H0 : Heap) (hO : zO s0 H0) (ρ : Ro → Nat) (σ : St) (i j t : Int) (hh : HC G s0 ρ σ H0) (hi : zi i ∧ zi j ∧ zi t) : zMX l s0 yX1_power cX1_power 6 (some FieldType.int) rm_m_X1_power [.ref (ρ (0, 0, 0)), .int (iI i), .int (iI j), .int (iI t)] H0 (FC G ρ σ) (HP G s0 H0 ρ σ (fun y σ' => ∃ a b : Nat, (i = a ∧ a < St_ne σ) ∧ (j = b ∧ b < St_ne σ) ∧ St_ea σ a = St_ea σ b ∧ (0 ≤ t ∧ t ≤ 60) ∧ σ' = stEl σ a (pwV (St_p σ) (St_n σ (St_ea σ a)) (St_sg σ (St_ea σ a)) (St_ev σ b) t.toNat) ∧ y = (szV (pwV (St_p σ) (St_n σ (St_ea σ a)) (St_sg σ (St_ea σ a)) (St_ev σ b) t.toNat) (St_n σ (St_ea σ a)) : Nat))) (HX G s0 ρ σ (X2e σ i j (0 ≤ t ∧ t ≤ 60))) := by
  refine z_metX hE (by decide +kernel) (Nat.le_of_ble_eq_true rfl) ?_
  intro pp ee ss mm args below meth cd Q ls hC hml hrt hlk hnm hH hQ hno hX hS hl
  have hx := hC.x
  have hb := hC.b
  have hl : lv_has ls 6 [(0, .ref (ρ (0, 0, 0))), (1, .int (iI i)), (2, .int (iI j)), (3, .int (iI t))] := hl
  have hP : va_P G.1 zCl [] H0 := va_nil
  have hD : va_D (zA (FC G ρ σ) H0) [] := va_nilD
  have hMo : ∀ z, FC G ρ σ z → s0.heap.size ≤ z := fun z hz => FC.ge hh.sep hz
  have hH1 := hh
  obtain ⟨hp, hna, hal, hne9, hel9, hmr9⟩ := id hh.ok
  have hp7 : 0 < St_p σ ∧ St_p σ ≤ 7 := by rcases hp with h | h | h <;> rw [h] <;> decide
  obtain ⟨sm9, -⟩ := id hh.2.2.1.1
  refine lv_aload_n hx hb dX1_power_0 rfl (lv_at hl 0 rfl) ?_
  refine lv_iload_n hx hb dX1_power_1 rfl (lv_at hl 1 rfl) ?_
  obtain ⟨sm, hxx⟩ := id hH1.2.2.1.1
  refine z_goX 1 6 (z_runVx (As := [.int (iI i)]) (rest := []) hC hml hl.1 (m_X1_elementAt hE H0 (hO.ext (zS_F hS) hMo) ρ σ i hH1 hi.1) (lw_V q1139 q1141 qs25 q62 q1142) rfl nd_X1_elementAt rfl (z_rv hC (ci := 0) rfl hxx rfl) rfl (Nat.le_of_ble_eq_true rfl) ⟨Nat.le_of_ble_eq_true rfl, Nat.le_of_ble_eq_true rfl⟩ ⟨zfit (k := 1) (z := 126) rfl rfl (by omega), zfit (k := 6) (z := 1224) rfl rfl (by omega)⟩ dX1_power_2) ⟨zad (k := 1) rfl (by omega), zad (k := 6) rfl (by omega)⟩ hS (fun _ z => z.elim) (fun E ce q9 Hx1 locs hp hF hS1 hce hcv hcl => ?_) (fun r H2 locs hp hF hS1 => ?_)
  · exact z_out hno hlk hX hS1 ⟨zle (z := 126) rfl (by omega), zle (z := 1224) rfl (by omega)⟩ hce hcv hcl (⟨Or.inl ⟨hp.1, fun z => hp.2 z.1⟩, hH1.ext0 hE hF⟩)
  obtain ⟨_, rfl, a, ea9, ha9, rfl⟩ := hp
  have hP := zpk hP hF
  have hP : va_P G.1 zCl ([]) H2 := hP
  have hD : va_D (zA (FC G ρ σ) H0) ([]) := hD
  have hH1 : HC G s0 ρ σ H2 := hH1.ext0 hE hF
  have hS := hS1
  refine lv_astore (lv' := [(4, .ref (ρ (13, a, 0))), (0, .ref (ρ (0, 0, 0))), (1, .int (iI i)), (2, .int (iI j)), (3, .int (iI t))]) hx hb dX1_power_5 hl (by decide) rfl (fun ls hl => ?_)
  refine lv_aload_n hx hb dX1_power_7 rfl (lv_at hl 1 rfl) ?_
  refine lv_iload_n hx hb dX1_power_8 rfl (lv_at hl 3 rfl) ?_
  obtain ⟨sm, hxx⟩ := id hH1.2.2.1.1
  refine z_goX 2 12 (z_runVx (As := [.int (iI j)]) (rest := []) hC hml hl.1 (m_X1_elementAt hE H2 (hO.ext (zS_F hS) hMo) ρ σ j hH1 hi.2.1) (lw_V q1139 q1141 qs25 q62 q1142) rfl nd_X1_elementAt rfl (z_rv hC (ci := 0) rfl hxx rfl) rfl (Nat.le_of_ble_eq_true rfl) ⟨Nat.le_of_ble_eq_true rfl, Nat.le_of_ble_eq_true rfl⟩ ⟨zfit (k := 1) (z := 126) rfl rfl (by omega), zfit (k := 6) (z := 1224) rfl rfl (by omega)⟩ dX1_power_9) ⟨zad (k := 1) rfl (by omega), zad (k := 6) rfl (by omega)⟩ hS (fun _ z => z.elim) (fun E ce q9 Hx3 locs hp hF hS1 hce hcv hcl => ?_) (fun r H4 locs hp hF hS1 => ?_)
  · exact z_out hno hlk hX hS1 ⟨zle (z := 126) rfl (by omega), zle (z := 1224) rfl (by omega)⟩ hce hcv hcl (⟨Or.inl ⟨hp.1, fun z => hp.2 z.2⟩, hH1.ext0 hE hF⟩)
  obtain ⟨_, rfl, b, eb9, hb9, rfl⟩ := hp
  have hP := zpk hP hF
  have hP : va_P G.1 zCl ([]) H4 := hP
  have hD : va_D (zA (FC G ρ σ) H0) ([]) := hD
  have hH1 : HC G s0 ρ σ H4 := hH1.ext0 hE hF
  have hS := hS1
  refine lv_astore (lv' := [(5, .ref (ρ (13, b, 0))), (4, .ref (ρ (13, a, 0))), (0, .ref (ρ (0, 0, 0))), (1, .int (iI i)), (2, .int (iI j)), (3, .int (iI t))]) hx hb dX1_power_12 hl (by decide) rfl (fun ls hl => ?_)
  refine lv_aload_n hx hb dX1_power_14 rfl (lv_at hl 2 rfl) ?_
  refine lv_aload hx hb dX1_power_15 (lv_at hl 1 rfl) ?_
  refine lv_aload hx hb dX1_power_17 (lv_at hl 0 rfl) ?_
  obtain ⟨sm, hxx⟩ := id hH1.2.2.1.1
  have ea9 : i.toNat = a := by omega
  have eb9 : j.toNat = b := by omega
  have iE : inE σ i := by unfold inE; omega
  have jE : inE σ j := by unfold inE; omega
  refine z_goX 3 18 (z_runVx (As := [.ref (ρ (13, a, 0)), .ref (ρ (13, b, 0))]) (rest := []) hC hml hl.1 (m_X1_requireOne hE H4 (hO.ext (zS_F hS) hMo) ρ σ a b hH1 ⟨by omega, by omega⟩) (lw_V q1150 q1152 qs26 q62 q1153) rfl nd_X1_requireOne rfl (z_rv hC (ci := 0) rfl hxx rfl) rfl (Nat.le_of_ble_eq_true rfl) ⟨Nat.le_of_ble_eq_true rfl, Nat.le_of_ble_eq_true rfl⟩ ⟨zfit (k := 1) (z := 126) rfl rfl (by omega), zfit (k := 6) (z := 1224) rfl rfl (by omega)⟩ dX1_power_19) ⟨zad (k := 1) rfl (by omega), zad (k := 6) rfl (by omega)⟩ hS (fun _ z => z.elim) (fun E ce q9 Hx5 locs hp hF hS1 hce hcv hcl => ?_) (fun r H6 locs hp hF hS1 => ?_)
  · exact z_out hno hlk hX hS1 ⟨zle (z := 126) rfl (by omega), zle (z := 1224) rfl (by omega)⟩ hce hcv hcl (⟨Or.inr ⟨hp.1, iE, jE, fun z => hp.2 (by rw [ea9, eb9] at z; exact z.1)⟩, hH1.ext0 hE hF⟩)
  obtain ⟨rfl, hone⟩ := hp
  have hP := zpk hP hF
  have hP : va_P G.1 zCl ([]) H6 := hP
  have hD : va_D (zA (FC G ρ σ) H0) ([]) := hD
  have hH1 : HC G s0 ρ σ H6 := hH1.ext0 hE hF
  have hS := hS1
  refine lv_iconst (v := iI 0) hx hb dX1_power_22 rfl ?_
  refine lv_bipush (v := iI 60) hx hb dX1_power_23 (by decide) ?_
  refine lv_iload_n hx hb dX1_power_25 rfl (lv_at hl 5 rfl) ?_
  refine z_go 3 18 (z_runS (As := [.int (iI 0), .int (iI 60), .int (iI t)]) (rest := []) hC hml hl.1 (m_X1_isFrom hE H6 (hO.ext (zS_F hS) hMo) 0 60 t ⟨by decide, by decide, hi.2.2⟩) (lw_S q944 q350 q62 q351) nd_X1_isFrom rfl rfl (Nat.le_of_ble_eq_true rfl) ⟨Nat.le_of_ble_eq_true rfl, Nat.le_of_ble_eq_true rfl⟩ ⟨zfit (k := 0) (z := 126) rfl rfl (by omega), zfit (k := 0) (z := 1224) rfl rfl (by omega)⟩ dX1_power_26) ⟨zad (k := 0) rfl (by omega), zad (k := 0) rfl (by omega)⟩ hS (fun _ z => z.elim) (fun r H7 locs hp hF hS1 => ?_)
  obtain ⟨_, rfl, rfl⟩ := hp
  have hP := zpk hP hF
  have hP : va_P G.1 zCl ([]) H7 := hP
  have hD : va_D (zA (FC G ρ σ) H0) ([]) := hD
  have hH1 : HC G s0 ρ σ H7 := hH1.ext0 hE hF
  have hS := hS1
  obtain ⟨fl, hfl, hfl2⟩ : ∃ fl : Nat, fl ≤ 1 ∧ (if 0 ≤ t ∧ t ≤ 60 then (1 : Int) else 0) = fl ∧ (fl = 1 ↔ 0 ≤ t ∧ t ≤ 60) := by by_cases h : 0 ≤ t ∧ t ≤ 60; exact ⟨1, by decide, by rw [if_pos h]; rfl, by simp [h]⟩; exact ⟨0, by decide, by rw [if_neg h]; rfl, by simp [h]⟩
  refine z_top (b := ((fl : Nat) : Int)) (hfl2.1) ?_
  refine z_goX 4 24 (z_runSx (As := [.int (iI ((fl : Nat) : Int))]) (rest := []) hC hml hl.1 (m_X1_require hE H7 (hO.ext (zS_F hS) hMo) fl hfl) (lw_S q905 q906 q62 q907) nd_X1_require rfl rfl (Nat.le_of_ble_eq_true rfl) ⟨Nat.le_of_ble_eq_true rfl, Nat.le_of_ble_eq_true rfl⟩ ⟨zfit (k := 1) (z := 126) rfl rfl (by omega), zfit (k := 6) (z := 1224) rfl rfl (by omega)⟩ dX1_power_29) ⟨zad (k := 1) rfl (by omega), zad (k := 6) rfl (by omega)⟩ hS (fun _ z => z.elim) (fun E ce q9 Hx8 locs hp hF hS1 hce hcv hcl => ?_) (fun r H9 locs hp hF hS1 => ?_)
  · exact z_out hno hlk hX hS1 ⟨zle (z := 126) rfl (by omega), zle (z := 1224) rfl (by omega)⟩ hce hcv hcl (⟨Or.inr ⟨hp.1, iE, jE, fun z => by have := hfl2.2.mpr z.2; have := hp.2; omega⟩, hH1.ext0 hE hF⟩)
  obtain ⟨rfl, hfl1⟩ := hp
  have hP := zpk hP hF
  have hP : va_P G.1 zCl ([]) H9 := hP
  have hD : va_D (zA (FC G ρ σ) H0) ([]) := hD
  have hH1 : HC G s0 ρ σ H9 := hH1.ext0 hE hF
  have hS := hS1
  have htp := hfl2.2.mp hfl1
  refine lv_aload hx hb dX1_power_32 (lv_at hl 1 rfl) ?_
  refine lv_aload hx hb dX1_power_34 (lv_at hl 0 rfl) ?_
  refine lv_iload_n hx hb dX1_power_36 rfl (lv_at hl 5 rfl) ?_
  refine z_top (b := ((t.toNat : Nat) : Int)) (by omega) ?_
  have hvb := hH1.row (j := b) (by omega)
  have hEb := hH1.el (j := b) (by omega)
  rw [← hone] at hvb hEb
  have hea := hH1.ea (j := a) (by omega)
  have hsz9 : H0.size ≤ H9.size := hS.1
  refine z_go 126 1224 (z_runV (As := [.int (iI ((t.toNat : Nat) : Int))]) (rest := [.ref (ρ (13, a, 0))]) hC hml hl.1 (m_X7_power hE H9 (hO.ext (zS_F hS) hMo) (ρ (0, 0, 0)) (ρ (6, St_ea σ a, 0)) (St_p σ) (St_d σ (St_ea σ a)) (St_n σ (St_ea σ a)) (St_kd σ (St_ea σ a)) (St_dv σ (St_ea σ a)) (St_sg σ (St_ea σ a)) (ρ (13, b, 0)) (ρ (14, b, 0)) (St_ev σ b) t.toNat (hH1.ag (k := St_ea σ a) (by omega)) hEb hvb (by omega)) (lw_V q1191 q1192 q1193 q92 q1194) rfl nd_X7_power rfl (z_rv hC (ci := 6) rfl hEb.1 rfl) rfl (Nat.le_of_ble_eq_true rfl) ⟨Nat.le_of_ble_eq_true rfl, Nat.le_of_ble_eq_true rfl⟩ ⟨zfit (k := 122) (z := 126) rfl rfl (by omega), zfit (k := 1200) (z := 1224) rfl rfl (by omega)⟩ dX1_power_37) ⟨zad (k := 122) rfl (by omega), zad (k := 1200) rfl (by omega)⟩ hS (fun _ z => z.elim) (fun r H12 locs hp hF hS1 => ?_)
  obtain ⟨qe10, rfl, re11, hN⟩ := hp
  obtain ⟨hP, hD⟩ := zjn hP hD hS.1 hF hN
  have hP : va_P G.1 zCl ([(qe10, zOb 6 [.ref (ρ (6, St_ea σ a, 0)), .ref re11, .ref (ρ (0, 0, 0))]), (re11, zI G (St_n σ (St_ea σ a)) (pwV (St_p σ) (St_n σ (St_ea σ a)) (St_sg σ (St_ea σ a)) (St_ev σ b) t.toNat))]) H12 := hP
  have hD : va_D (zA (FC G ρ σ) H0) ([(qe10, zOb 6 [.ref (ρ (6, St_ea σ a, 0)), .ref re11, .ref (ρ (0, 0, 0))]), (re11, zI G (St_n σ (St_ea σ a)) (pwV (St_p σ) (St_n σ (St_ea σ a)) (St_sg σ (St_ea σ a)) (St_ev σ b) t.toNat))]) := hD
  have hH1 : HC G s0 ρ σ H12 := hH1.ext0 hE hF
  have hS := hS1
  have hDn : va_D (fun z => H0.size ≤ z) _ := va_D.weaken hN.2 (fun _ _ _ z => Nat.le_trans hsz9 z)
  have hq9 : H0.size ≤ qe10 := hDn.2 0 _ rfl
  have hr9 : H0.size ≤ re11 := hDn.2 1 _ rfl
  have hlt9 := hh.lt hE hO _ (domE 13 a (Or.inl rfl) (by omega))
  have hqn : qe10 ≠ ρ (13, a, 0) := by omega
  have hH2 := hH1
  have hR2 := hP 1 _ rfl
  refine z_go 126 1224 (z_runS (As := [.ref (ρ (13, a, 0)), .ref qe10]) (rest := []) hC hml hl.1 (m_X1_keep hE H12 (hO.ext (zS_F hS) hMo) ρ σ a qe10 re11 (pwV (St_p σ) (St_n σ (St_ea σ a)) (St_sg σ (St_ea σ a)) (St_ev σ b) t.toNat) hH2 (by omega) ⟨hP 0 _ rfl, hP 1 _ rfl⟩ (pwV_ok hp _ _ _ _) hqn) (lw_S q1155 q1156 q62 q1157) nd_X1_keep rfl rfl (Nat.le_of_ble_eq_true rfl) ⟨Nat.le_of_ble_eq_true rfl, Nat.le_of_ble_eq_true rfl⟩ ⟨zfit (k := 0) (z := 126) rfl rfl (by omega), zfit (k := 0) (z := 1224) rfl rfl (by omega)⟩ dX1_power_40) ⟨zad (k := 0) rfl (by omega), zad (k := 0) rfl (by omega)⟩ hS (fun z hz => Or.inl (hz ▸ FC.in hE hh.sep (domE 13 a (Or.inl rfl) (by omega)) (by simp))) (fun r H13 locs hp hF hS1 => ?_)
  obtain ⟨_, rfl, rfl, hm9⟩ := hp
  have hP : va_P G.1 zCl [] H13 := va_nil
  have hD : va_D (zA (FC G ρ σ) H0) [] := va_nilD
  have hpo := hH2.keepP hE (show a < St_ne σ by omega) hF hm9 (zAt.ext hR2 hF (Ne.symm (z_noArr hE (ci := 6) (t := 0) rfl (hH2.el (j := a) (by omega)).1 rfl hR2))) hO hh hr9 (pwV_ok hp _ _ _ _)
  have hP : va_P G.1 zCl ([]) H13 := hP
  have hD : va_D (zA (FC G ρ σ) H0) ([]) := hD
  have hS := hS1
  exact z_iret hC hrt hlk hQ hS ⟨zle (z := 126) rfl (by omega), zle (z := 1224) rfl (by omega)⟩ ⟨_, rfl, stEl σ a (pwV (St_p σ) (St_n σ (St_ea σ a)) (St_sg σ (St_ea σ a)) (St_ev σ b) t.toNat), ⟨a, b, ⟨by omega, by omega⟩, ⟨by omega, by omega⟩, hone, htp, rfl, rfl⟩, hpo⟩ dX1_power_43

