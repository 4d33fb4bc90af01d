/-! THE HOUSE: mirrors; what one asks -/
set_option maxRecDepth 100000
def X3s (σ : St) (i j k : Int) (st : Nat → Prop) (E : String) : Prop := X3e σ i j k E ∨ (E = ISE ∧ inE σ i ∧ inE σ j ∧ inE σ k ∧ (St_ea σ i.toNat = St_ea σ j.toNat ∧ St_ea σ i.toNat = St_ea σ k.toNat) ∧ st j.toNat)
abbrev rm_m_X1_mirror : Room := { frames := 8, cells := 16, slots := 131, locals := 132 }
set_option maxHeartbeats 4000000 in
theorem m_X1_mirror {l : Launch} {s0 : State} {G : zG} (hE : zE l s0 G) (H0 : Heap) (hO : zO s0 H0) (ρ : Ro → Nat) (σ : St) (i j k : Int) (hh : HC G s0 ρ σ H0) (hi : zi i ∧ zi j ∧ zi k) : zMX l s0 yX1_mirror cX1_mirror 7 (some FieldType.int) rm_m_X1_mirror [.ref (ρ (0, 0, 0)), .int (iI i), .int (iI j), .int (iI k)] H0 (FC G ρ σ) (HP G s0 H0 ρ σ (fun y σ' => ∃ a b c : Nat, (i = a ∧ a < St_ne σ) ∧ (j = b ∧ b < St_ne σ) ∧ (k = c ∧ c < St_ne σ) ∧ (St_ea σ a = St_ea σ b ∧ St_ea σ a = St_ea σ c) ∧ 0 < sqV (St_p σ) (St_n σ (St_ea σ a)) (St_kd σ (St_ea σ a)) (St_sg σ (St_ea σ a)) (St_ev σ b) ∧ σ' = stEl σ a (mirV (St_p σ) (St_n σ (St_ea σ a)) (St_kd σ (St_ea σ a)) (St_sg σ (St_ea σ a)) (St_ev σ b) (St_ev σ c)) ∧ y = (szV (mirV (St_p σ) (St_n σ (St_ea σ a)) (St_kd σ (St_ea σ a)) (St_sg σ (St_ea σ a)) (St_ev σ b) (St_ev σ c)) (St_n σ (St_ea σ a)) : Nat))) (HX G s0 ρ σ (X3s σ i j k (fun b => ¬ 0 < sqV (St_p σ) (St_n σ (St_ea σ b)) (St_kd σ (St_ea σ b)) (St_sg σ (St_ea σ b)) (St_ev σ b)))) := by
  refine z_metX hE (by decide +kernel) (Nat.le_of_ble_eq_true rfl) ?_
  intro pp ee ss mm args below meth cd Q ls hC hml hrt hlk hnm hH hQ hno hX hS hl
  have hx := hC.x
  have hb := hC.b
  have hl : lv_has ls 7 [(0, .ref (ρ (0, 0, 0))), (1, .int (iI i)), (2, .int (iI j)), (3, .int (iI k))] := hl
  have hP : va_P G.1 zCl [] H0 := va_nil
  have hD : va_D (zA (FC G ρ σ) H0) [] := va_nilD
  have hMo : ∀ z, FC G ρ σ z → s0.heap.size ≤ z := fun z hz => FC.ge hh.sep hz
  have hH1 := hh
  obtain ⟨hp, hna, hal, hne9, hel9, hmr9⟩ := id hh.ok
  have hp7 : 0 < St_p σ ∧ St_p σ ≤ 7 := by rcases hp with h | h | h <;> rw [h] <;> decide
  obtain ⟨sm9, -⟩ := id hh.2.2.1.1
  refine lv_aload_n hx hb dX1_mirror_0 rfl (lv_at hl 0 rfl) ?_
  refine lv_iload_n hx hb dX1_mirror_1 rfl (lv_at hl 1 rfl) ?_
  obtain ⟨sm, hxx⟩ := id hH1.2.2.1.1
  refine z_goX 1 6 (z_runVx (As := [.int (iI i)]) (rest := []) hC hml hl.1 (m_X1_elementAt hE H0 (hO.ext (zS_F hS) hMo) ρ σ i hH1 hi.1) (lw_V q1139 q1141 qs25 q62 q1142) rfl nd_X1_elementAt rfl (z_rv hC (ci := 0) rfl hxx rfl) rfl (Nat.le_of_ble_eq_true rfl) ⟨Nat.le_of_ble_eq_true rfl, Nat.le_of_ble_eq_true rfl⟩ ⟨zfit (k := 1) (z := 16) rfl rfl (by omega), zfit (k := 6) (z := 131) rfl rfl (by omega)⟩ dX1_mirror_2) ⟨zad (k := 1) rfl (by omega), zad (k := 6) rfl (by omega)⟩ hS (fun _ z => z.elim) (fun E ce q9 Hx1 locs hp hF hS1 hce hcv hcl => ?_) (fun r H2 locs hp hF hS1 => ?_)
  · exact z_out hno hlk hX hS1 ⟨zle (z := 16) rfl (by omega), zle (z := 131) rfl (by omega)⟩ hce hcv hcl (⟨Or.inl (Or.inl ⟨hp.1, fun z => hp.2 z.1⟩), hH1.ext0 hE hF⟩)
  obtain ⟨_, rfl, a, ea9, ha9, rfl⟩ := hp
  have hP := zpk hP hF
  have hP : va_P G.1 zCl ([]) H2 := hP
  have hD : va_D (zA (FC G ρ σ) H0) ([]) := hD
  have hH1 : HC G s0 ρ σ H2 := hH1.ext0 hE hF
  have hS := hS1
  refine lv_astore (lv' := [(4, .ref (ρ (13, a, 0))), (0, .ref (ρ (0, 0, 0))), (1, .int (iI i)), (2, .int (iI j)), (3, .int (iI k))]) hx hb dX1_mirror_5 hl (by decide) rfl (fun ls hl => ?_)
  refine lv_aload_n hx hb dX1_mirror_7 rfl (lv_at hl 1 rfl) ?_
  refine lv_iload_n hx hb dX1_mirror_8 rfl (lv_at hl 3 rfl) ?_
  obtain ⟨sm, hxx⟩ := id hH1.2.2.1.1
  refine z_goX 2 12 (z_runVx (As := [.int (iI j)]) (rest := []) hC hml hl.1 (m_X1_elementAt hE H2 (hO.ext (zS_F hS) hMo) ρ σ j hH1 hi.2.1) (lw_V q1139 q1141 qs25 q62 q1142) rfl nd_X1_elementAt rfl (z_rv hC (ci := 0) rfl hxx rfl) rfl (Nat.le_of_ble_eq_true rfl) ⟨Nat.le_of_ble_eq_true rfl, Nat.le_of_ble_eq_true rfl⟩ ⟨zfit (k := 1) (z := 16) rfl rfl (by omega), zfit (k := 6) (z := 131) rfl rfl (by omega)⟩ dX1_mirror_9) ⟨zad (k := 1) rfl (by omega), zad (k := 6) rfl (by omega)⟩ hS (fun _ z => z.elim) (fun E ce q9 Hx3 locs hp hF hS1 hce hcv hcl => ?_) (fun r H4 locs hp hF hS1 => ?_)
  · exact z_out hno hlk hX hS1 ⟨zle (z := 16) rfl (by omega), zle (z := 131) rfl (by omega)⟩ hce hcv hcl (⟨Or.inl (Or.inl ⟨hp.1, fun z => hp.2 z.2.1⟩), hH1.ext0 hE hF⟩)
  obtain ⟨_, rfl, b, eb9, hb9, rfl⟩ := hp
  have hP := zpk hP hF
  have hP : va_P G.1 zCl ([]) H4 := hP
  have hD : va_D (zA (FC G ρ σ) H0) ([]) := hD
  have hH1 : HC G s0 ρ σ H4 := hH1.ext0 hE hF
  have hS := hS1
  refine lv_astore (lv' := [(5, .ref (ρ (13, b, 0))), (4, .ref (ρ (13, a, 0))), (0, .ref (ρ (0, 0, 0))), (1, .int (iI i)), (2, .int (iI j)), (3, .int (iI k))]) hx hb dX1_mirror_12 hl (by decide) rfl (fun ls hl => ?_)
  refine lv_aload_n hx hb dX1_mirror_14 rfl (lv_at hl 2 rfl) ?_
  refine lv_iload_n hx hb dX1_mirror_15 rfl (lv_at hl 5 rfl) ?_
  obtain ⟨sm, hxx⟩ := id hH1.2.2.1.1
  refine z_goX 3 18 (z_runVx (As := [.int (iI k)]) (rest := []) hC hml hl.1 (m_X1_elementAt hE H4 (hO.ext (zS_F hS) hMo) ρ σ k hH1 hi.2.2) (lw_V q1139 q1141 qs25 q62 q1142) rfl nd_X1_elementAt rfl (z_rv hC (ci := 0) rfl hxx rfl) rfl (Nat.le_of_ble_eq_true rfl) ⟨Nat.le_of_ble_eq_true rfl, Nat.le_of_ble_eq_true rfl⟩ ⟨zfit (k := 1) (z := 16) rfl rfl (by omega), zfit (k := 6) (z := 131) rfl rfl (by omega)⟩ dX1_mirror_16) ⟨zad (k := 1) rfl (by omega), zad (k := 6) rfl (by omega)⟩ hS (fun _ z => z.elim) (fun E ce q9 Hx5 locs hp hF hS1 hce hcv hcl => ?_) (fun r H6 locs hp hF hS1 => ?_)
  · exact z_out hno hlk hX hS1 ⟨zle (z := 16) rfl (by omega), zle (z := 131) rfl (by omega)⟩ hce hcv hcl (⟨Or.inl (Or.inl ⟨hp.1, fun z => hp.2 z.2.2⟩), hH1.ext0 hE hF⟩)
  obtain ⟨_, rfl, c, ec9, hc9, rfl⟩ := hp
  have hP := zpk hP hF
  have hP : va_P G.1 zCl ([]) H6 := hP
  have hD : va_D (zA (FC G ρ σ) H0) ([]) := hD
  have hH1 : HC G s0 ρ σ H6 := hH1.ext0 hE hF
  have hS := hS1
  refine lv_astore (lv' := [(6, .ref (ρ (13, c, 0))), (5, .ref (ρ (13, b, 0))), (4, .ref (ρ (13, a, 0))), (0, .ref (ρ (0, 0, 0))), (1, .int (iI i)), (2, .int (iI j)), (3, .int (iI k))]) hx hb dX1_mirror_19 hl (by decide) rfl (fun ls hl => ?_)
  refine lv_aload_n hx hb dX1_mirror_21 rfl (lv_at hl 3 rfl) ?_
  refine lv_aload hx hb dX1_mirror_22 (lv_at hl 2 rfl) ?_
  refine lv_aload hx hb dX1_mirror_24 (lv_at hl 1 rfl) ?_
  obtain ⟨sm, hxx⟩ := id hH1.2.2.1.1
  have iE : inE σ i := by unfold inE; omega
  have jE : inE σ j := by unfold inE; omega
  have kE : inE σ k := by unfold inE; omega
  have ea9 : i.toNat = a := by omega
  have eb9 : j.toNat = b := by omega
  have ec9 : k.toNat = c := by omega
  refine z_goX 4 24 (z_runVx (As := [.ref (ρ (13, a, 0)), .ref (ρ (13, b, 0))]) (rest := []) hC hml hl.1 (m_X1_requireOne hE H6 (hO.ext (zS_F hS) hMo) ρ σ a b hH1 ⟨by omega, by omega⟩) (lw_V q1150 q1152 qs26 q62 q1153) rfl nd_X1_requireOne rfl (z_rv hC (ci := 0) rfl hxx rfl) rfl (Nat.le_of_ble_eq_true rfl) ⟨Nat.le_of_ble_eq_true rfl, Nat.le_of_ble_eq_true rfl⟩ ⟨zfit (k := 1) (z := 16) rfl rfl (by omega), zfit (k := 6) (z := 131) rfl rfl (by omega)⟩ dX1_mirror_26) ⟨zad (k := 1) rfl (by omega), zad (k := 6) rfl (by omega)⟩ hS (fun _ z => z.elim) (fun E ce q9 Hx7 locs hp hF hS1 hce hcv hcl => ?_) (fun r H8 locs hp hF hS1 => ?_)
  · exact z_out hno hlk hX hS1 ⟨zle (z := 16) rfl (by omega), zle (z := 131) rfl (by omega)⟩ hce hcv hcl (⟨Or.inl (Or.inr ⟨hp.1, iE, jE, kE, fun z => hp.2 (by rw [ea9, eb9] at z; exact z.1)⟩), hH1.ext0 hE hF⟩)
  obtain ⟨rfl, hone⟩ := hp
  have hP := zpk hP hF
  have hP : va_P G.1 zCl ([]) H8 := hP
  have hD : va_D (zA (FC G ρ σ) H0) ([]) := hD
  have hH1 : HC G s0 ρ σ H8 := hH1.ext0 hE hF
  have hS := hS1
  have hone1 := hone
  refine lv_aload_n hx hb dX1_mirror_29 rfl (lv_at hl 3 rfl) ?_
  refine lv_aload hx hb dX1_mirror_30 (lv_at hl 2 rfl) ?_
  refine lv_aload hx hb dX1_mirror_32 (lv_at hl 0 rfl) ?_
  obtain ⟨sm, hxx⟩ := id hH1.2.2.1.1
  refine z_goX 5 30 (z_runVx (As := [.ref (ρ (13, a, 0)), .ref (ρ (13, c, 0))]) (rest := []) hC hml hl.1 (m_X1_requireOne hE H8 (hO.ext (zS_F hS) hMo) ρ σ a c hH1 ⟨by omega, by omega⟩) (lw_V q1150 q1152 qs26 q62 q1153) rfl nd_X1_requireOne rfl (z_rv hC (ci := 0) rfl hxx rfl) rfl (Nat.le_of_ble_eq_true rfl) ⟨Nat.le_of_ble_eq_true rfl, Nat.le_of_ble_eq_true rfl⟩ ⟨zfit (k := 1) (z := 16) rfl rfl (by omega), zfit (k := 6) (z := 131) rfl rfl (by omega)⟩ dX1_mirror_34) ⟨zad (k := 1) rfl (by omega), zad (k := 6) rfl (by omega)⟩ hS (fun _ z => z.elim) (fun E ce q9 Hx9 locs hp hF hS1 hce hcv hcl => ?_) (fun r H10 locs hp hF hS1 => ?_)
  · exact z_out hno hlk hX hS1 ⟨zle (z := 16) rfl (by omega), zle (z := 131) rfl (by omega)⟩ hce hcv hcl (⟨Or.inl (Or.inr ⟨hp.1, iE, jE, kE, fun z => hp.2 (by rw [ea9, ec9] at z; exact z.2)⟩), hH1.ext0 hE hF⟩)
  obtain ⟨rfl, hone⟩ := hp
  have hP := zpk hP hF
  have hP : va_P G.1 zCl ([]) H10 := hP
  have hD : va_D (zA (FC G ρ σ) H0) ([]) := hD
  have hH1 : HC G s0 ρ σ H10 := hH1.ext0 hE hF
  have hS := hS1
  have hone2 := hone
  refine lv_aload hx hb dX1_mirror_37 (lv_at hl 1 rfl) ?_
  have hvb := hH1.row (j := b) (by omega)
  have hvc := hH1.row (j := c) (by omega)
  have hEb := hH1.el (j := b) (by omega)
  have hEc := hH1.el (j := c) (by omega)
  rw [← hone1] at hvb hEb
  rw [← hone2] at hvc hEc
  have hea := hH1.ea (j := a) (by omega)
  refine z_go 7 49 (z_runV (As := []) (rest := []) hC hml hl.1 (m_X7_square hE H10 (hO.ext (zS_F hS) hMo) (ρ (0, 0, 0)) (ρ (6, St_ea σ a, 0)) (St_p σ) (St_d σ (St_ea σ a)) (St_n σ (St_ea σ a)) (St_kd σ (St_ea σ a)) (St_dv σ (St_ea σ a)) (St_sg σ (St_ea σ a)) (ρ (13, b, 0)) (ρ (14, b, 0)) (St_ev σ b) (hH1.ag (k := St_ea σ a) (by omega)) hEb hvb) (lw_V q521 q522 q523 q92 q524) rfl nd_X7_square rfl (z_rv hC (ci := 6) rfl hEb.1 rfl) rfl (Nat.le_of_ble_eq_true rfl) ⟨Nat.le_of_ble_eq_true rfl, Nat.le_of_ble_eq_true rfl⟩ ⟨zfit (k := 2) (z := 16) rfl rfl (by omega), zfit (k := 19) (z := 131) rfl rfl (by omega)⟩ dX1_mirror_39) ⟨zad (k := 2) rfl (by omega), zad (k := 19) rfl (by omega)⟩ hS (fun _ z => z.elim) (fun r H11 locs hp hF hS1 => ?_)
  obtain ⟨_, rfl, rfl⟩ := hp
  have hP := zpk hP hF
  have hP : va_P G.1 zCl ([]) H11 := hP
  have hD : va_D (zA (FC G ρ σ) H0) ([]) := hD
  have hH1 : HC G s0 ρ σ H11 := hH1.ext0 hE hF
  have hS := hS1
  have hsq9 := sqV_in hp (St_n σ (St_ea σ a)) (St_kd σ (St_ea σ a)) (St_sg σ (St_ea σ a)) (St_ev σ b)
  refine z_zle (tgt := 49) hx hb dX1_mirror_42 (by decide) (by omega) (fun c12 => ?_) (fun c12 => ?_)
  · refine lv_iconst (v := iI 0) hx hb dX1_mirror_49 rfl ?_
    refine z_goX 8 55 (z_runSx (As := [.int (iI 0)]) (rest := []) hC hml hl.1 (m_X1_requireState hE H11 (hO.ext (zS_F hS) hMo) 0 (by decide)) (lw_S q919 q920 q62 q921) nd_X1_requireState rfl rfl (Nat.le_of_ble_eq_true rfl) ⟨Nat.le_of_ble_eq_true rfl, Nat.le_of_ble_eq_true rfl⟩ ⟨zfit (k := 1) (z := 16) rfl rfl (by omega), zfit (k := 6) (z := 131) rfl rfl (by omega)⟩ dX1_mirror_50) ⟨zad (k := 1) rfl (by omega), zad (k := 6) rfl (by omega)⟩ hS (fun _ z => z.elim) (fun E ce q9 Hx13 locs hp hF hS1 hce hcv hcl => ?_) (fun r H14 locs hp hF hS1 => ?_)
    · exact z_out hno hlk hX hS1 ⟨zle (z := 16) rfl (by omega), zle (z := 131) rfl (by omega)⟩ hce hcv hcl (⟨Or.inr ⟨hp.1, iE, jE, kE, by rw [ea9, eb9, ec9]; exact ⟨hone1, hone2⟩, by rw [eb9]; simp only [← hone1]; omega⟩, hH1.ext0 hE hF⟩)
    exact (show False from by have h9 : (0 : Nat) = 1 := hp.2; omega).elim
  · refine lv_iconst (v := iI 1) hx hb dX1_mirror_45 rfl ?_
    refine lv_goto (tgt := 50) hx hb dX1_mirror_46 (by decide) ?_
    refine z_goX 8 55 (z_runSx (As := [.int (iI 1)]) (rest := []) hC hml hl.1 (m_X1_requireState hE H11 (hO.ext (zS_F hS) hMo) 1 (by decide)) (lw_S q919 q920 q62 q921) nd_X1_requireState rfl rfl (Nat.le_of_ble_eq_true rfl) ⟨Nat.le_of_ble_eq_true rfl, Nat.le_of_ble_eq_true rfl⟩ ⟨zfit (k := 1) (z := 16) rfl rfl (by omega), zfit (k := 6) (z := 131) rfl rfl (by omega)⟩ dX1_mirror_50) ⟨zad (k := 1) rfl (by omega), zad (k := 6) rfl (by omega)⟩ hS (fun _ z => z.elim) (fun E ce q9 Hx15 locs hp hF hS1 hce hcv hcl => ?_) (fun r H16 locs hp hF hS1 => ?_)
    · exact z_out hno hlk hX hS1 ⟨zle (z := 16) rfl (by omega), zle (z := 131) rfl (by omega)⟩ hce hcv hcl (absurd hp.2 (by decide))
    obtain ⟨rfl, -⟩ := hp
    have hP := zpk hP hF
    have hP : va_P G.1 zCl ([]) H16 := hP
    have hD : va_D (zA (FC G ρ σ) H0) ([]) := hD
    have hH1 : HC G s0 ρ σ H16 := hH1.ext0 hE hF
    have hS := hS1
    refine lv_aload hx hb dX1_mirror_53 (lv_at hl 2 rfl) ?_
    refine lv_aload hx hb dX1_mirror_55 (lv_at hl 1 rfl) ?_
    refine lv_aload hx hb dX1_mirror_57 (lv_at hl 0 rfl) ?_
    have hEb2 := hH1.el (j := b) (by omega)
    have hEc2 := hH1.el (j := c) (by omega)
    rw [← hone1] at hEb2
    rw [← hone2] at hEc2
    have hsz9 : H0.size ≤ H16.size := hS.1
    refine z_go 16 131 (z_runV (As := [.ref (ρ (13, c, 0))]) (rest := [.ref (ρ (13, a, 0))]) hC hml hl.1 (m_X7_mirrored hE H16 (hO.ext (zS_F hS) hMo) (ρ (0, 0, 0)) (ρ (6, St_ea σ a, 0)) (St_p σ) (St_d σ (St_ea σ a)) (St_n σ (St_ea σ a)) (St_kd σ (St_ea σ a)) (St_dv σ (St_ea σ a)) (St_sg σ (St_ea σ a)) (ρ (13, b, 0)) (ρ (14, b, 0)) (St_ev σ b) (ρ (13, c, 0)) (ρ (14, c, 0)) (St_ev σ c)  (hH1.ag (k := St_ea σ a) (by omega)) hEb2 hvb hEc2 hvc (by omega)) (lw_V q1360 q1361 q1362 q92 q1363) rfl nd_X7_mirrored rfl (z_rv hC (ci := 6) rfl hEb2.1 rfl) rfl (Nat.le_of_ble_eq_true rfl) ⟨Nat.le_of_ble_eq_true rfl, Nat.le_of_ble_eq_true rfl⟩ ⟨zfit (k := 8) (z := 16) rfl rfl (by omega), zfit (k := 76) (z := 131) rfl rfl (by omega)⟩ dX1_mirror_59) ⟨zad (k := 8) rfl (by omega), zad (k := 76) rfl (by omega)⟩ hS (fun _ z => z.elim) (fun r H19 locs hp hF hS1 => ?_)
    obtain ⟨qe17, rfl, re18, hN⟩ := hp
    obtain ⟨hP, hD⟩ := zjn hP hD hS.1 hF hN
    have hP : va_P G.1 zCl ([(qe17, zOb 6 [.ref (ρ (6, St_ea σ a, 0)), .ref re18, .ref (ρ (0, 0, 0))]), (re18, zI G (St_n σ (St_ea σ a)) (mirV (St_p σ) (St_n σ (St_ea σ a)) (St_kd σ (St_ea σ a)) (St_sg σ (St_ea σ a)) (St_ev σ b) (St_ev σ c)))]) H19 := hP
    have hD : va_D (zA (FC G ρ σ) H0) ([(qe17, zOb 6 [.ref (ρ (6, St_ea σ a, 0)), .ref re18, .ref (ρ (0, 0, 0))]), (re18, zI G (St_n σ (St_ea σ a)) (mirV (St_p σ) (St_n σ (St_ea σ a)) (St_kd σ (St_ea σ a)) (St_sg σ (St_ea σ a)) (St_ev σ b) (St_ev σ c)))]) := hD
    have hH1 : HC G s0 ρ σ H19 := hH1.ext0 hE hF
    have hS := hS1
    have hDn : va_D (fun z => H0.size ≤ z) _ := va_D.weaken hN.2 (fun _ _ _ z => Nat.le_trans hsz9 z)
    have hq9 : H0.size ≤ qe17 := hDn.2 0 _ rfl
    have hr9 : H0.size ≤ re18 := hDn.2 1 _ rfl
    have hlt9 := hh.lt hE hO _ (domE 13 a (Or.inl rfl) (by omega))
    have hqn : qe17 ≠ ρ (13, a, 0) := by omega
    have hH2 := hH1
    have hR2 := hP 1 _ rfl
    refine z_go 16 131 (z_runS (As := [.ref (ρ (13, a, 0)), .ref qe17]) (rest := []) hC hml hl.1 (m_X1_keep hE H19 (hO.ext (zS_F hS) hMo) ρ σ a qe17 re18 (mirV (St_p σ) (St_n σ (St_ea σ a)) (St_kd σ (St_ea σ a)) (St_sg σ (St_ea σ a)) (St_ev σ b) (St_ev σ c)) hH2 (by omega) ⟨hP 0 _ rfl, hP 1 _ rfl⟩ (scV_ok hp _ _ _) hqn) (lw_S q1155 q1156 q62 q1157) nd_X1_keep rfl rfl (Nat.le_of_ble_eq_true rfl) ⟨Nat.le_of_ble_eq_true rfl, Nat.le_of_ble_eq_true rfl⟩ ⟨zfit (k := 0) (z := 16) rfl rfl (by omega), zfit (k := 0) (z := 131) rfl rfl (by omega)⟩ dX1_mirror_62) ⟨zad (k := 0) rfl (by omega), zad (k := 0) rfl (by omega)⟩ hS (fun z hz => Or.inl (hz ▸ FC.in hE hh.sep (domE 13 a (Or.inl rfl) (by omega)) (by simp))) (fun r H20 locs hp hF hS1 => ?_)
    obtain ⟨_, rfl, rfl, hm9⟩ := hp
    have hP : va_P G.1 zCl [] H20 := va_nil
    have hD : va_D (zA (FC G ρ σ) H0) [] := va_nilD
    have hpo := hH2.keepP hE (show a < St_ne σ by omega) hF hm9 (zAt.ext hR2 hF (Ne.symm (z_noArr hE (ci := 6) (t := 0) rfl (hH2.el (j := a) (by omega)).1 rfl hR2))) hO hh hr9 (scV_ok hp _ _ _)
    have hP : va_P G.1 zCl ([]) H20 := hP
    have hD : va_D (zA (FC G ρ σ) H0) ([]) := hD
    have hS := hS1
    exact z_iret hC hrt hlk hQ hS ⟨zle (z := 16) rfl (by omega), zle (z := 131) rfl (by omega)⟩ ⟨_, rfl, stEl σ a (mirV (St_p σ) (St_n σ (St_ea σ a)) (St_kd σ (St_ea σ a)) (St_sg σ (St_ea σ a)) (St_ev σ b) (St_ev σ c)), ⟨a, b, c, ⟨by omega, by omega⟩, ⟨by omega, by omega⟩, ⟨by omega, by omega⟩, ⟨hone1, hone2⟩, by omega, rfl, rfl⟩, hpo⟩ dX1_mirror_65

