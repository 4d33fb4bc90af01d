/-! THE HOUSE: what there may not be -/
set_option maxRecDepth 100000
theorem PoC.ext0 {l : Launch} {G : zG} {s0 : State} {H0 h1 h2 : Heap} {ρ : Ro → Nat} {σ σ' : St} (h : PoC G s0 H0 ρ σ σ' h1) (hE : zE l s0 G) (hF : zF M0 h1 h2) : PoC G s0 H0 ρ σ σ' h2 := by
  obtain ⟨ρ', a, b⟩ := h
  exact ⟨ρ', a.ext0 hE hF, b⟩
theorem lsV_ker {w : Nat → Int} {c : Nat} (h : w c = 1) : ∀ n, c < n → (∀ k, c < k → k < n → w k = 0) → lsV w n = c
  | 0, h1, _ => absurd h1 (Nat.not_lt_zero c)
  | n + 1, h1, h2 => by
    simp only [lsV]
    by_cases e : c = n
    · subst e; rw [if_neg (by rw [h]; decide)]
    · rw [if_pos (h2 n (by omega) (by omega))]
      exact lsV_ker h n (by omega) (fun k a b => h2 k a (by omega))
abbrev rm_m_X1_invert : Room := { frames := 8, cells := 13, slots := 101, locals := 132 }
set_option maxHeartbeats 4000000 in
theorem m_X1_invert {l : Launch} {s0 : State} {G : zG} (hE : zE l s0 G) (H0 : Heap) (hO : zO s0 H0) (ρ : Ro → Nat) (σ : St) (i j : Int) (hh : HC G s0 ρ σ H0) (hi : zi i ∧ zi j) : zMX l s0 yX1_invert cX1_invert 5 (some FieldType.int) rm_m_X1_invert [.ref (ρ (0, 0, 0)), .int (iI i), .int (iI j)] H0 (FC G ρ σ) (HP G s0 H0 ρ σ (fun y σ' => ∃ a b : Nat, (i = a ∧ a < St_ne σ) ∧ (j = b ∧ b < St_ne σ) ∧ St_ea σ a = St_ea σ b ∧ (inOk (St_p σ) (St_n σ (St_ea σ a)) (St_kd σ (St_ea σ a)) (St_sg σ (St_ea σ a)) (St_ev σ b)) ∧ σ' = stEl σ a (inV (St_p σ) (St_n σ (St_ea σ a)) (St_kd σ (St_ea σ a)) (St_sg σ (St_ea σ a)) (St_ev σ b)) ∧ y = (szV (inV (St_p σ) (St_n σ (St_ea σ a)) (St_kd σ (St_ea σ a)) (St_sg σ (St_ea σ a)) (St_ev σ b)) (St_n σ (St_ea σ a)) : Nat))) (HX G s0 ρ σ (X2s σ i j (fun _ b => ¬ inOk (St_p σ) (St_n σ (St_ea σ b)) (St_kd σ (St_ea σ b)) (St_sg σ (St_ea σ b)) (St_ev σ b)))) := by
  refine z_metX hE (by decide +kernel) (Nat.le_of_ble_eq_true rfl) ?_
  intro pp ee ss mm args below meth cd Q ls hC hml hrt hlk hnm hH hQ hno hX hS hl
  have hx := hC.x
  have hb := hC.b
  have hl : lv_has ls 5 [(0, .ref (ρ (0, 0, 0))), (1, .int (iI i)), (2, .int (iI j))] := hl
  have hP : va_P G.1 zCl [] H0 := va_nil
  have hD : va_D (zA (FC G ρ σ) H0) [] := va_nilD
  have hMo : ∀ z, FC G ρ σ z → s0.heap.size ≤ z := fun z hz => FC.ge hh.sep hz
  have hH1 := hh
  obtain ⟨hp, hna, hal, hne9, hel9, hmr9⟩ := id hh.ok
  have hp7 : 0 < St_p σ ∧ St_p σ ≤ 7 := by rcases hp with h | h | h <;> rw [h] <;> decide
  obtain ⟨sm9, -⟩ := id hh.2.2.1.1
  refine lv_aload_n hx hb dX1_invert_0 rfl (lv_at hl 0 rfl) ?_
  refine lv_iload_n hx hb dX1_invert_1 rfl (lv_at hl 1 rfl) ?_
  obtain ⟨sm, hxx⟩ := id hH1.2.2.1.1
  refine z_goX 1 6 (z_runVx (As := [.int (iI i)]) (rest := []) hC hml hl.1 (m_X1_elementAt hE H0 (hO.ext (zS_F hS) hMo) ρ σ i hH1 hi.1) (lw_V q1139 q1141 qs25 q62 q1142) rfl nd_X1_elementAt rfl (z_rv hC (ci := 0) rfl hxx rfl) rfl (Nat.le_of_ble_eq_true rfl) ⟨Nat.le_of_ble_eq_true rfl, Nat.le_of_ble_eq_true rfl⟩ ⟨zfit (k := 1) (z := 13) rfl rfl (by omega), zfit (k := 6) (z := 101) rfl rfl (by omega)⟩ dX1_invert_2) ⟨zad (k := 1) rfl (by omega), zad (k := 6) rfl (by omega)⟩ hS (fun _ z => z.elim) (fun E ce q9 Hx1 locs hp hF hS1 hce hcv hcl => ?_) (fun r H2 locs hp hF hS1 => ?_)
  · exact z_out hno hlk hX hS1 ⟨zle (z := 13) rfl (by omega), zle (z := 101) rfl (by omega)⟩ hce hcv hcl (⟨Or.inl (Or.inl ⟨hp.1, fun z => hp.2 z.1⟩), hH1.ext0 hE hF⟩)
  obtain ⟨_, rfl, a, ea9, ha9, rfl⟩ := hp
  have hP := zpk hP hF
  have hP : va_P G.1 zCl ([]) H2 := hP
  have hD : va_D (zA (FC G ρ σ) H0) ([]) := hD
  have hH1 : HC G s0 ρ σ H2 := hH1.ext0 hE hF
  have hS := hS1
  refine lv_astore_n (lv' := [(3, .ref (ρ (13, a, 0))), (0, .ref (ρ (0, 0, 0))), (1, .int (iI i)), (2, .int (iI j))]) hx hb dX1_invert_5 rfl hl (by decide) rfl (fun ls hl => ?_)
  refine lv_aload_n hx hb dX1_invert_6 rfl (lv_at hl 1 rfl) ?_
  refine lv_iload_n hx hb dX1_invert_7 rfl (lv_at hl 3 rfl) ?_
  obtain ⟨sm, hxx⟩ := id hH1.2.2.1.1
  refine z_goX 2 12 (z_runVx (As := [.int (iI j)]) (rest := []) hC hml hl.1 (m_X1_elementAt hE H2 (hO.ext (zS_F hS) hMo) ρ σ j hH1 hi.2) (lw_V q1139 q1141 qs25 q62 q1142) rfl nd_X1_elementAt rfl (z_rv hC (ci := 0) rfl hxx rfl) rfl (Nat.le_of_ble_eq_true rfl) ⟨Nat.le_of_ble_eq_true rfl, Nat.le_of_ble_eq_true rfl⟩ ⟨zfit (k := 1) (z := 13) rfl rfl (by omega), zfit (k := 6) (z := 101) rfl rfl (by omega)⟩ dX1_invert_8) ⟨zad (k := 1) rfl (by omega), zad (k := 6) rfl (by omega)⟩ hS (fun _ z => z.elim) (fun E ce q9 Hx3 locs hp hF hS1 hce hcv hcl => ?_) (fun r H4 locs hp hF hS1 => ?_)
  · exact z_out hno hlk hX hS1 ⟨zle (z := 13) rfl (by omega), zle (z := 101) rfl (by omega)⟩ hce hcv hcl (⟨Or.inl (Or.inl ⟨hp.1, fun z => hp.2 z.2⟩), hH1.ext0 hE hF⟩)
  obtain ⟨_, rfl, b, eb9, hb9, rfl⟩ := hp
  have hP := zpk hP hF
  have hP : va_P G.1 zCl ([]) H4 := hP
  have hD : va_D (zA (FC G ρ σ) H0) ([]) := hD
  have hH1 : HC G s0 ρ σ H4 := hH1.ext0 hE hF
  have hS := hS1
  refine lv_astore (lv' := [(4, .ref (ρ (13, b, 0))), (3, .ref (ρ (13, a, 0))), (0, .ref (ρ (0, 0, 0))), (1, .int (iI i)), (2, .int (iI j))]) hx hb dX1_invert_11 hl (by decide) rfl (fun ls hl => ?_)
  refine lv_aload_n hx hb dX1_invert_13 rfl (lv_at hl 2 rfl) ?_
  refine lv_aload_n hx hb dX1_invert_14 rfl (lv_at hl 1 rfl) ?_
  refine lv_aload hx hb dX1_invert_15 (lv_at hl 0 rfl) ?_
  obtain ⟨sm, hxx⟩ := id hH1.2.2.1.1
  have ea9 : i.toNat = a := by omega
  have eb9 : j.toNat = b := by omega
  have iE : inE σ i := by unfold inE; omega
  have jE : inE σ j := by unfold inE; omega
  refine z_goX 3 18 (z_runVx (As := [.ref (ρ (13, a, 0)), .ref (ρ (13, b, 0))]) (rest := []) hC hml hl.1 (m_X1_requireOne hE H4 (hO.ext (zS_F hS) hMo) ρ σ a b hH1 ⟨by omega, by omega⟩) (lw_V q1150 q1152 qs26 q62 q1153) rfl nd_X1_requireOne rfl (z_rv hC (ci := 0) rfl hxx rfl) rfl (Nat.le_of_ble_eq_true rfl) ⟨Nat.le_of_ble_eq_true rfl, Nat.le_of_ble_eq_true rfl⟩ ⟨zfit (k := 1) (z := 13) rfl rfl (by omega), zfit (k := 6) (z := 101) rfl rfl (by omega)⟩ dX1_invert_17) ⟨zad (k := 1) rfl (by omega), zad (k := 6) rfl (by omega)⟩ hS (fun _ z => z.elim) (fun E ce q9 Hx5 locs hp hF hS1 hce hcv hcl => ?_) (fun r H6 locs hp hF hS1 => ?_)
  · exact z_out hno hlk hX hS1 ⟨zle (z := 13) rfl (by omega), zle (z := 101) rfl (by omega)⟩ hce hcv hcl (⟨Or.inl (Or.inr ⟨hp.1, iE, jE, fun z => hp.2 (by rw [ea9, eb9] at z; exact z.1)⟩), hH1.ext0 hE hF⟩)
  obtain ⟨rfl, hone⟩ := hp
  have hP := zpk hP hF
  have hP : va_P G.1 zCl ([]) H6 := hP
  have hD : va_D (zA (FC G ρ σ) H0) ([]) := hD
  have hH1 : HC G s0 ρ σ H6 := hH1.ext0 hE hF
  have hS := hS1
  refine lv_aload_n hx hb dX1_invert_20 rfl (lv_at hl 1 rfl) ?_
  refine lv_aload hx hb dX1_invert_21 (lv_at hl 0 rfl) ?_
  have hsz9 : H0.size ≤ H6.size := hS.1
  have hvb := hH1.row (j := b) (by omega)
  have hEb := hH1.el (j := b) (by omega)
  rw [← hone] at hvb hEb
  have hea := hH1.ea (j := a) (by omega)
  refine z_go 12 95 (z_runV (As := []) (rest := [.ref (ρ (13, a, 0))]) hC hml hl.1 (m_X7_inverse hE H6 (hO.ext (zS_F hS) hMo) (ρ (0, 0, 0)) (ρ (6, St_ea σ a, 0)) (St_p σ) (St_d σ (St_ea σ a)) (St_n σ (St_ea σ a)) (St_kd σ (St_ea σ a)) (St_dv σ (St_ea σ a)) (St_sg σ (St_ea σ a)) (ρ (13, b, 0)) (ρ (14, b, 0)) (St_ev σ b) (hH1.ag (k := St_ea σ a) (by omega)) hEb hvb) (lw_V q1202 q1203 q1204 q92 q1205) rfl nd_X7_inverse rfl (z_rv hC (ci := 6) rfl hEb.1 rfl) rfl (Nat.le_of_ble_eq_true rfl) ⟨Nat.le_of_ble_eq_true rfl, Nat.le_of_ble_eq_true rfl⟩ ⟨zfit (k := 9) (z := 13) rfl rfl (by omega), zfit (k := 77) (z := 101) rfl rfl (by omega)⟩ dX1_invert_23) ⟨zad (k := 9) rfl (by omega), zad (k := 77) rfl (by omega)⟩ hS (fun _ z => z.elim) (fun r H7 locs hp hF hS1 => ?_)
  obtain ⟨qo, rfl, hor⟩ := hp
  have hP := zpk hP hF
  have hP : va_P G.1 zCl ([]) H7 := hP
  have hD : va_D (zA (FC G ρ σ) H0) ([]) := hD
  have hH1 : HC G s0 ρ σ H7 := hH1.ext0 hE hF
  have hS := hS1
  rcases hor with hor | hor
  · obtain ⟨hcd, a1, r1, hN⟩ := hor
    have hP : va_P G.1 zCl [(qo, zOb 10 [.ref a1]), (a1, zOb 6 [.ref (ρ (6, St_ea σ a, 0)), .ref r1, .ref (ρ (0, 0, 0))]), (r1, zI G (St_n σ (St_ea σ a)) (inV (St_p σ) (St_n σ (St_ea σ a)) (St_kd σ (St_ea σ a)) (St_sg σ (St_ea σ a)) (St_ev σ b)))] H7 := hN.1
    have hD : va_D (zA (FC G ρ σ) H0) [(qo, zOb 10 [.ref a1]), (a1, zOb 6 [.ref (ρ (6, St_ea σ a, 0)), .ref r1, .ref (ρ (0, 0, 0))]), (r1, zI G (St_n σ (St_ea σ a)) (inV (St_p σ) (St_n σ (St_ea σ a)) (St_kd σ (St_ea σ a)) (St_sg σ (St_ea σ a)) (St_ev σ b)))] := va_D.weaken hN.2 (fun _ _ _ z => Or.inr (Nat.le_trans hsz9 z))
    have hDn : va_D (fun z => H0.size ≤ z) _ := va_D.weaken hN.2 (fun _ _ _ z => Nat.le_trans hsz9 z)
    refine z_goX 13 101 (z_runSx (As := [.ref qo]) (rest := [.ref (ρ (13, a, 0))]) hC hml hl.1 (m_X1_found hE H7 (hO.ext (zS_F hS) hMo) qo a1 [.ref (ρ (6, St_ea σ a, 0)), .ref r1, .ref (ρ (0, 0, 0))] (hP 0 _ rfl) (hP 1 _ rfl)) (lw_S q1228 q1229 q62 q1230) nd_X1_found rfl rfl (Nat.le_of_ble_eq_true rfl) ⟨Nat.le_of_ble_eq_true rfl, Nat.le_of_ble_eq_true rfl⟩ ⟨zfit (k := 1) (z := 13) rfl rfl (by omega), zfit (k := 6) (z := 101) rfl rfl (by omega)⟩ dX1_invert_26) ⟨zad (k := 1) rfl (by omega), zad (k := 6) rfl (by omega)⟩ hS (fun _ z => z.elim) (fun E ce q9 Hx8 locs hp hF hS1 hce hcv hcl => ?_) (fun r H9 locs hp hF hS1 => ?_)
    · exact z_out hno hlk hX hS1 ⟨zle (z := 13) rfl (by omega), zle (z := 101) rfl (by omega)⟩ hce hcv hcl (hp.elim)
    obtain ⟨y9, rfl, hy9⟩ := hp
    have hP := zpk hP hF
    have hP : va_P G.1 zCl ([(qo, zOb 10 [.ref a1]), (a1, zOb 6 [.ref (ρ (6, St_ea σ a, 0)), .ref r1, .ref (ρ (0, 0, 0))]), (r1, zI G (St_n σ (St_ea σ a)) (inV (St_p σ) (St_n σ (St_ea σ a)) (St_kd σ (St_ea σ a)) (St_sg σ (St_ea σ a)) (St_ev σ b)))]) H9 := hP
    have hD : va_D (zA (FC G ρ σ) H0) ([(qo, zOb 10 [.ref a1]), (a1, zOb 6 [.ref (ρ (6, St_ea σ a, 0)), .ref r1, .ref (ρ (0, 0, 0))]), (r1, zI G (St_n σ (St_ea σ a)) (inV (St_p σ) (St_n σ (St_ea σ a)) (St_kd σ (St_ea σ a)) (St_sg σ (St_ea σ a)) (St_ev σ b)))]) := hD
    have hH1 : HC G s0 ρ σ H9 := hH1.ext0 hE hF
    have hS := hS1
    have hy9 := hy9.symm
    subst hy9
    have hq9 : H0.size ≤ a1 := hDn.2 1 _ rfl
    have hr9 : H0.size ≤ r1 := hDn.2 2 _ rfl
    have hlt9 := hh.lt hE hO _ (domE 13 a (Or.inl rfl) (by omega))
    have hqn : a1 ≠ ρ (13, a, 0) := by omega
    have hH2 := hH1
    have hR2 := hP 2 _ rfl
    refine z_go 13 101 (z_runS (As := [.ref (ρ (13, a, 0)), .ref a1]) (rest := []) hC hml hl.1 (m_X1_keep hE H9 (hO.ext (zS_F hS) hMo) ρ σ a a1 r1 (inV (St_p σ) (St_n σ (St_ea σ a)) (St_kd σ (St_ea σ a)) (St_sg σ (St_ea σ a)) (St_ev σ b)) hH2 (by omega) ⟨hP 1 _ rfl, hP 2 _ rfl⟩ (scV_ok hp _ _ _) hqn) (lw_S q1155 q1156 q62 q1157) nd_X1_keep rfl rfl (Nat.le_of_ble_eq_true rfl) ⟨Nat.le_of_ble_eq_true rfl, Nat.le_of_ble_eq_true rfl⟩ ⟨zfit (k := 0) (z := 13) rfl rfl (by omega), zfit (k := 0) (z := 101) rfl rfl (by omega)⟩ dX1_invert_29) ⟨zad (k := 0) rfl (by omega), zad (k := 0) rfl (by omega)⟩ hS (fun z hz => Or.inl (hz ▸ FC.in hE hh.sep (domE 13 a (Or.inl rfl) (by omega)) (by simp))) (fun r H10 locs hp hF hS1 => ?_)
    obtain ⟨_, rfl, rfl, hm9⟩ := hp
    have hP : va_P G.1 zCl [] H10 := va_nil
    have hD : va_D (zA (FC G ρ σ) H0) [] := va_nilD
    have hpo := hH2.keepP hE (show a < St_ne σ by omega) hF hm9 (zAt.ext hR2 hF (Ne.symm (z_noArr hE (ci := 6) (t := 0) rfl (hH2.el (j := a) (by omega)).1 rfl hR2))) hO hh hr9 (scV_ok hp _ _ _)
    have hP : va_P G.1 zCl ([]) H10 := hP
    have hD : va_D (zA (FC G ρ σ) H0) ([]) := hD
    have hS := hS1
    exact z_iret hC hrt hlk hQ hS ⟨zle (z := 13) rfl (by omega), zle (z := 101) rfl (by omega)⟩ ⟨_, rfl, stEl σ a (inV (St_p σ) (St_n σ (St_ea σ a)) (St_kd σ (St_ea σ a)) (St_sg σ (St_ea σ a)) (St_ev σ b)), ⟨a, b, ⟨by omega, by omega⟩, ⟨by omega, by omega⟩, hone, hcd, rfl, rfl⟩, hpo⟩ dX1_invert_32
  · obtain ⟨hcd, hqo⟩ := hor
    subst hqo
    refine z_goX 13 101 (z_runSx (As := [.ref (G.2 13)]) (rest := [.ref (ρ (13, a, 0))]) hC hml hl.1 (m_X1_found_n hE H7 (hO.ext (zS_F hS) hMo)  ) (lw_S q1228 q1229 q62 q1230) nd_X1_found rfl rfl (Nat.le_of_ble_eq_true rfl) ⟨Nat.le_of_ble_eq_true rfl, Nat.le_of_ble_eq_true rfl⟩ ⟨zfit (k := 1) (z := 13) rfl rfl (by omega), zfit (k := 6) (z := 101) rfl rfl (by omega)⟩ dX1_invert_26) ⟨zad (k := 1) rfl (by omega), zad (k := 6) rfl (by omega)⟩ hS (fun _ z => z.elim) (fun E ce q9 Hx11 locs hp hF hS1 hce hcv hcl => ?_) (fun r H12 locs hp hF hS1 => ?_)
    · exact z_out hno hlk hX hS1 ⟨zle (z := 13) rfl (by omega), zle (z := 101) rfl (by omega)⟩ hce hcv hcl (⟨Or.inr ⟨hp, iE, jE, by rw [ea9, eb9]; exact hone, (by rw [eb9]; simp only [← hone]; exact hcd)⟩, hH1.ext0 hE hF⟩)
    obtain ⟨_, -, hf9⟩ := hp
    exact hf9.elim

abbrev rm_m_X1_series : Room := { frames := 8, cells := 224, slots := 2224, locals := 134 }
set_option maxHeartbeats 4000000 in
theorem m_X1_series {l : Launch} {s0 : State} {G : zG} (hE : zE l s0 G) (H0 : Heap) (hO : zO s0 H0) (ρ : Ro → Nat) (σ : St) (i j : Int) (hh : HC G s0 ρ σ H0) (hi : zi i ∧ zi j) : zMX l s0 yX1_series cX1_series 5 (some FieldType.int) rm_m_X1_series [.ref (ρ (0, 0, 0)), .int (iI i), .int (iI j)] H0 (FC G ρ σ) (HP G s0 H0 ρ σ (fun y σ' => ∃ a b : Nat, (i = a ∧ a < St_ne σ) ∧ (j = b ∧ b < St_ne σ) ∧ St_ea σ a = St_ea σ b ∧ (enV (St_p σ) (St_n σ (St_ea σ a)) (St_sg σ (St_ea σ a)) (St_ev σ b) ≠ -1) ∧ σ' = stEl σ a (suV (St_p σ) (St_n σ (St_ea σ a)) (St_sg σ (St_ea σ a)) (St_ev σ b) (enV (St_p σ) (St_n σ (St_ea σ a)) (St_sg σ (St_ea σ a)) (St_ev σ b)).toNat) ∧ y = (szV (suV (St_p σ) (St_n σ (St_ea σ a)) (St_sg σ (St_ea σ a)) (St_ev σ b) (enV (St_p σ) (St_n σ (St_ea σ a)) (St_sg σ (St_ea σ a)) (St_ev σ b)).toNat) (St_n σ (St_ea σ a)) : Nat))) (HX G s0 ρ σ (X2s σ i j (fun _ b => ¬ (enV (St_p σ) (St_n σ (St_ea σ b)) (St_sg σ (St_ea σ b)) (St_ev σ b) ≠ -1)))) := by
  refine z_metX hE (by decide +kernel) (Nat.le_of_ble_eq_true rfl) ?_
  intro pp ee ss mm args below meth cd Q ls hC hml hrt hlk hnm hH hQ hno hX hS hl
  have hx := hC.x
  have hb := hC.b
  have hl : lv_has ls 5 [(0, .ref (ρ (0, 0, 0))), (1, .int (iI i)), (2, .int (iI j))] := hl
  have hP : va_P G.1 zCl [] H0 := va_nil
  have hD : va_D (zA (FC G ρ σ) H0) [] := va_nilD
  have hMo : ∀ z, FC G ρ σ z → s0.heap.size ≤ z := fun z hz => FC.ge hh.sep hz
  have hH1 := hh
  obtain ⟨hp, hna, hal, hne9, hel9, hmr9⟩ := id hh.ok
  have hp7 : 0 < St_p σ ∧ St_p σ ≤ 7 := by rcases hp with h | h | h <;> rw [h] <;> decide
  obtain ⟨sm9, -⟩ := id hh.2.2.1.1
  refine lv_aload_n hx hb dX1_series_0 rfl (lv_at hl 0 rfl) ?_
  refine lv_iload_n hx hb dX1_series_1 rfl (lv_at hl 1 rfl) ?_
  obtain ⟨sm, hxx⟩ := id hH1.2.2.1.1
  refine z_goX 1 6 (z_runVx (As := [.int (iI i)]) (rest := []) hC hml hl.1 (m_X1_elementAt hE H0 (hO.ext (zS_F hS) hMo) ρ σ i hH1 hi.1) (lw_V q1139 q1141 qs25 q62 q1142) rfl nd_X1_elementAt rfl (z_rv hC (ci := 0) rfl hxx rfl) rfl (Nat.le_of_ble_eq_true rfl) ⟨Nat.le_of_ble_eq_true rfl, Nat.le_of_ble_eq_true rfl⟩ ⟨zfit (k := 1) (z := 224) rfl rfl (by omega), zfit (k := 6) (z := 2224) rfl rfl (by omega)⟩ dX1_series_2) ⟨zad (k := 1) rfl (by omega), zad (k := 6) rfl (by omega)⟩ hS (fun _ z => z.elim) (fun E ce q9 Hx1 locs hp hF hS1 hce hcv hcl => ?_) (fun r H2 locs hp hF hS1 => ?_)
  · exact z_out hno hlk hX hS1 ⟨zle (z := 224) rfl (by omega), zle (z := 2224) rfl (by omega)⟩ hce hcv hcl (⟨Or.inl (Or.inl ⟨hp.1, fun z => hp.2 z.1⟩), hH1.ext0 hE hF⟩)
  obtain ⟨_, rfl, a, ea9, ha9, rfl⟩ := hp
  have hP := zpk hP hF
  have hP : va_P G.1 zCl ([]) H2 := hP
  have hD : va_D (zA (FC G ρ σ) H0) ([]) := hD
  have hH1 : HC G s0 ρ σ H2 := hH1.ext0 hE hF
  have hS := hS1
  refine lv_astore_n (lv' := [(3, .ref (ρ (13, a, 0))), (0, .ref (ρ (0, 0, 0))), (1, .int (iI i)), (2, .int (iI j))]) hx hb dX1_series_5 rfl hl (by decide) rfl (fun ls hl => ?_)
  refine lv_aload_n hx hb dX1_series_6 rfl (lv_at hl 1 rfl) ?_
  refine lv_iload_n hx hb dX1_series_7 rfl (lv_at hl 3 rfl) ?_
  obtain ⟨sm, hxx⟩ := id hH1.2.2.1.1
  refine z_goX 2 12 (z_runVx (As := [.int (iI j)]) (rest := []) hC hml hl.1 (m_X1_elementAt hE H2 (hO.ext (zS_F hS) hMo) ρ σ j hH1 hi.2) (lw_V q1139 q1141 qs25 q62 q1142) rfl nd_X1_elementAt rfl (z_rv hC (ci := 0) rfl hxx rfl) rfl (Nat.le_of_ble_eq_true rfl) ⟨Nat.le_of_ble_eq_true rfl, Nat.le_of_ble_eq_true rfl⟩ ⟨zfit (k := 1) (z := 224) rfl rfl (by omega), zfit (k := 6) (z := 2224) rfl rfl (by omega)⟩ dX1_series_8) ⟨zad (k := 1) rfl (by omega), zad (k := 6) rfl (by omega)⟩ hS (fun _ z => z.elim) (fun E ce q9 Hx3 locs hp hF hS1 hce hcv hcl => ?_) (fun r H4 locs hp hF hS1 => ?_)
  · exact z_out hno hlk hX hS1 ⟨zle (z := 224) rfl (by omega), zle (z := 2224) rfl (by omega)⟩ hce hcv hcl (⟨Or.inl (Or.inl ⟨hp.1, fun z => hp.2 z.2⟩), hH1.ext0 hE hF⟩)
  obtain ⟨_, rfl, b, eb9, hb9, rfl⟩ := hp
  have hP := zpk hP hF
  have hP : va_P G.1 zCl ([]) H4 := hP
  have hD : va_D (zA (FC G ρ σ) H0) ([]) := hD
  have hH1 : HC G s0 ρ σ H4 := hH1.ext0 hE hF
  have hS := hS1
  refine lv_astore (lv' := [(4, .ref (ρ (13, b, 0))), (3, .ref (ρ (13, a, 0))), (0, .ref (ρ (0, 0, 0))), (1, .int (iI i)), (2, .int (iI j))]) hx hb dX1_series_11 hl (by decide) rfl (fun ls hl => ?_)
  refine lv_aload_n hx hb dX1_series_13 rfl (lv_at hl 2 rfl) ?_
  refine lv_aload_n hx hb dX1_series_14 rfl (lv_at hl 1 rfl) ?_
  refine lv_aload hx hb dX1_series_15 (lv_at hl 0 rfl) ?_
  obtain ⟨sm, hxx⟩ := id hH1.2.2.1.1
  have ea9 : i.toNat = a := by omega
  have eb9 : j.toNat = b := by omega
  have iE : inE σ i := by unfold inE; omega
  have jE : inE σ j := by unfold inE; omega
  refine z_goX 3 18 (z_runVx (As := [.ref (ρ (13, a, 0)), .ref (ρ (13, b, 0))]) (rest := []) hC hml hl.1 (m_X1_requireOne hE H4 (hO.ext (zS_F hS) hMo) ρ σ a b hH1 ⟨by omega, by omega⟩) (lw_V q1150 q1152 qs26 q62 q1153) rfl nd_X1_requireOne rfl (z_rv hC (ci := 0) rfl hxx rfl) rfl (Nat.le_of_ble_eq_true rfl) ⟨Nat.le_of_ble_eq_true rfl, Nat.le_of_ble_eq_true rfl⟩ ⟨zfit (k := 1) (z := 224) rfl rfl (by omega), zfit (k := 6) (z := 2224) rfl rfl (by omega)⟩ dX1_series_17) ⟨zad (k := 1) rfl (by omega), zad (k := 6) rfl (by omega)⟩ hS (fun _ z => z.elim) (fun E ce q9 Hx5 locs hp hF hS1 hce hcv hcl => ?_) (fun r H6 locs hp hF hS1 => ?_)
  · exact z_out hno hlk hX hS1 ⟨zle (z := 224) rfl (by omega), zle (z := 2224) rfl (by omega)⟩ hce hcv hcl (⟨Or.inl (Or.inr ⟨hp.1, iE, jE, fun z => hp.2 (by rw [ea9, eb9] at z; exact z.1)⟩), hH1.ext0 hE hF⟩)
  obtain ⟨rfl, hone⟩ := hp
  have hP := zpk hP hF
  have hP : va_P G.1 zCl ([]) H6 := hP
  have hD : va_D (zA (FC G ρ σ) H0) ([]) := hD
  have hH1 : HC G s0 ρ σ H6 := hH1.ext0 hE hF
  have hS := hS1
  refine lv_aload_n hx hb dX1_series_20 rfl (lv_at hl 1 rfl) ?_
  refine lv_aload hx hb dX1_series_21 (lv_at hl 0 rfl) ?_
  have hsz9 : H0.size ≤ H6.size := hS.1
  have hvb := hH1.row (j := b) (by omega)
  have hEb := hH1.el (j := b) (by omega)
  rw [← hone] at hvb hEb
  have hea := hH1.ea (j := a) (by omega)
  refine z_go 223 2218 (z_runV (As := []) (rest := [.ref (ρ (13, a, 0))]) hC hml hl.1 (m_X7_series hE H6 (hO.ext (zS_F hS) hMo) (ρ (0, 0, 0)) (ρ (6, St_ea σ a, 0)) (St_p σ) (St_d σ (St_ea σ a)) (St_n σ (St_ea σ a)) (St_kd σ (St_ea σ a)) (St_dv σ (St_ea σ a)) (St_sg σ (St_ea σ a)) (ρ (13, b, 0)) (ρ (14, b, 0)) (St_ev σ b) (hH1.ag (k := St_ea σ a) (by omega)) hEb hvb) (lw_V q1246 q1247 q1248 q92 q1249) rfl nd_X7_series rfl (z_rv hC (ci := 6) rfl hEb.1 rfl) rfl (Nat.le_of_ble_eq_true rfl) ⟨Nat.le_of_ble_eq_true rfl, Nat.le_of_ble_eq_true rfl⟩ ⟨zfit (k := 220) (z := 224) rfl rfl (by omega), zfit (k := 2200) (z := 2224) rfl rfl (by omega)⟩ dX1_series_23) ⟨zad (k := 220) rfl (by omega), zad (k := 2200) rfl (by omega)⟩ hS (fun _ z => z.elim) (fun r H7 locs hp hF hS1 => ?_)
  obtain ⟨qo, rfl, hor⟩ := hp
  have hP := zpk hP hF
  have hP : va_P G.1 zCl ([]) H7 := hP
  have hD : va_D (zA (FC G ρ σ) H0) ([]) := hD
  have hH1 : HC G s0 ρ σ H7 := hH1.ext0 hE hF
  have hS := hS1
  rcases hor with hor | hor
  · obtain ⟨hcd, a1, r1, hN⟩ := hor
    have hP : va_P G.1 zCl [(qo, zOb 10 [.ref a1]), (a1, zOb 6 [.ref (ρ (6, St_ea σ a, 0)), .ref r1, .ref (ρ (0, 0, 0))]), (r1, zI G (St_n σ (St_ea σ a)) (suV (St_p σ) (St_n σ (St_ea σ a)) (St_sg σ (St_ea σ a)) (St_ev σ b) (enV (St_p σ) (St_n σ (St_ea σ a)) (St_sg σ (St_ea σ a)) (St_ev σ b)).toNat))] H7 := hN.1
    have hD : va_D (zA (FC G ρ σ) H0) [(qo, zOb 10 [.ref a1]), (a1, zOb 6 [.ref (ρ (6, St_ea σ a, 0)), .ref r1, .ref (ρ (0, 0, 0))]), (r1, zI G (St_n σ (St_ea σ a)) (suV (St_p σ) (St_n σ (St_ea σ a)) (St_sg σ (St_ea σ a)) (St_ev σ b) (enV (St_p σ) (St_n σ (St_ea σ a)) (St_sg σ (St_ea σ a)) (St_ev σ b)).toNat))] := va_D.weaken hN.2 (fun _ _ _ z => Or.inr (Nat.le_trans hsz9 z))
    have hDn : va_D (fun z => H0.size ≤ z) _ := va_D.weaken hN.2 (fun _ _ _ z => Nat.le_trans hsz9 z)
    refine z_goX 224 2224 (z_runSx (As := [.ref qo]) (rest := [.ref (ρ (13, a, 0))]) hC hml hl.1 (m_X1_found hE H7 (hO.ext (zS_F hS) hMo) qo a1 [.ref (ρ (6, St_ea σ a, 0)), .ref r1, .ref (ρ (0, 0, 0))] (hP 0 _ rfl) (hP 1 _ rfl)) (lw_S q1228 q1229 q62 q1230) nd_X1_found rfl rfl (Nat.le_of_ble_eq_true rfl) ⟨Nat.le_of_ble_eq_true rfl, Nat.le_of_ble_eq_true rfl⟩ ⟨zfit (k := 1) (z := 224) rfl rfl (by omega), zfit (k := 6) (z := 2224) rfl rfl (by omega)⟩ dX1_series_26) ⟨zad (k := 1) rfl (by omega), zad (k := 6) rfl (by omega)⟩ hS (fun _ z => z.elim) (fun E ce q9 Hx8 locs hp hF hS1 hce hcv hcl => ?_) (fun r H9 locs hp hF hS1 => ?_)
    · exact z_out hno hlk hX hS1 ⟨zle (z := 224) rfl (by omega), zle (z := 2224) rfl (by omega)⟩ hce hcv hcl (hp.elim)
    obtain ⟨y9, rfl, hy9⟩ := hp
    have hP := zpk hP hF
    have hP : va_P G.1 zCl ([(qo, zOb 10 [.ref a1]), (a1, zOb 6 [.ref (ρ (6, St_ea σ a, 0)), .ref r1, .ref (ρ (0, 0, 0))]), (r1, zI G (St_n σ (St_ea σ a)) (suV (St_p σ) (St_n σ (St_ea σ a)) (St_sg σ (St_ea σ a)) (St_ev σ b) (enV (St_p σ) (St_n σ (St_ea σ a)) (St_sg σ (St_ea σ a)) (St_ev σ b)).toNat))]) H9 := hP
    have hD : va_D (zA (FC G ρ σ) H0) ([(qo, zOb 10 [.ref a1]), (a1, zOb 6 [.ref (ρ (6, St_ea σ a, 0)), .ref r1, .ref (ρ (0, 0, 0))]), (r1, zI G (St_n σ (St_ea σ a)) (suV (St_p σ) (St_n σ (St_ea σ a)) (St_sg σ (St_ea σ a)) (St_ev σ b) (enV (St_p σ) (St_n σ (St_ea σ a)) (St_sg σ (St_ea σ a)) (St_ev σ b)).toNat))]) := hD
    have hH1 : HC G s0 ρ σ H9 := hH1.ext0 hE hF
    have hS := hS1
    have hy9 := hy9.symm
    subst hy9
    have hq9 : H0.size ≤ a1 := hDn.2 1 _ rfl
    have hr9 : H0.size ≤ r1 := hDn.2 2 _ rfl
    have hlt9 := hh.lt hE hO _ (domE 13 a (Or.inl rfl) (by omega))
    have hqn : a1 ≠ ρ (13, a, 0) := by omega
    have hH2 := hH1
    have hR2 := hP 2 _ rfl
    refine z_go 224 2224 (z_runS (As := [.ref (ρ (13, a, 0)), .ref a1]) (rest := []) hC hml hl.1 (m_X1_keep hE H9 (hO.ext (zS_F hS) hMo) ρ σ a a1 r1 (suV (St_p σ) (St_n σ (St_ea σ a)) (St_sg σ (St_ea σ a)) (St_ev σ b) (enV (St_p σ) (St_n σ (St_ea σ a)) (St_sg σ (St_ea σ a)) (St_ev σ b)).toNat) hH2 (by omega) ⟨hP 1 _ rfl, hP 2 _ rfl⟩ (suV_ok hp _ _ _ _) hqn) (lw_S q1155 q1156 q62 q1157) nd_X1_keep rfl rfl (Nat.le_of_ble_eq_true rfl) ⟨Nat.le_of_ble_eq_true rfl, Nat.le_of_ble_eq_true rfl⟩ ⟨zfit (k := 0) (z := 224) rfl rfl (by omega), zfit (k := 0) (z := 2224) rfl rfl (by omega)⟩ dX1_series_29) ⟨zad (k := 0) rfl (by omega), zad (k := 0) rfl (by omega)⟩ hS (fun z hz => Or.inl (hz ▸ FC.in hE hh.sep (domE 13 a (Or.inl rfl) (by omega)) (by simp))) (fun r H10 locs hp hF hS1 => ?_)
    obtain ⟨_, rfl, rfl, hm9⟩ := hp
    have hP : va_P G.1 zCl [] H10 := va_nil
    have hD : va_D (zA (FC G ρ σ) H0) [] := va_nilD
    have hpo := hH2.keepP hE (show a < St_ne σ by omega) hF hm9 (zAt.ext hR2 hF (Ne.symm (z_noArr hE (ci := 6) (t := 0) rfl (hH2.el (j := a) (by omega)).1 rfl hR2))) hO hh hr9 (suV_ok hp _ _ _ _)
    have hP : va_P G.1 zCl ([]) H10 := hP
    have hD : va_D (zA (FC G ρ σ) H0) ([]) := hD
    have hS := hS1
    exact z_iret hC hrt hlk hQ hS ⟨zle (z := 224) rfl (by omega), zle (z := 2224) rfl (by omega)⟩ ⟨_, rfl, stEl σ a (suV (St_p σ) (St_n σ (St_ea σ a)) (St_sg σ (St_ea σ a)) (St_ev σ b) (enV (St_p σ) (St_n σ (St_ea σ a)) (St_sg σ (St_ea σ a)) (St_ev σ b)).toNat), ⟨a, b, ⟨by omega, by omega⟩, ⟨by omega, by omega⟩, hone, hcd, rfl, rfl⟩, hpo⟩ dX1_series_32
  · obtain ⟨hcd, hqo⟩ := hor
    subst hqo
    refine z_goX 224 2224 (z_runSx (As := [.ref (G.2 13)]) (rest := [.ref (ρ (13, a, 0))]) hC hml hl.1 (m_X1_found_n hE H7 (hO.ext (zS_F hS) hMo)  ) (lw_S q1228 q1229 q62 q1230) nd_X1_found rfl rfl (Nat.le_of_ble_eq_true rfl) ⟨Nat.le_of_ble_eq_true rfl, Nat.le_of_ble_eq_true rfl⟩ ⟨zfit (k := 1) (z := 224) rfl rfl (by omega), zfit (k := 6) (z := 2224) rfl rfl (by omega)⟩ dX1_series_26) ⟨zad (k := 1) rfl (by omega), zad (k := 6) rfl (by omega)⟩ hS (fun _ z => z.elim) (fun E ce q9 Hx11 locs hp hF hS1 hce hcv hcl => ?_) (fun r H12 locs hp hF hS1 => ?_)
    · exact z_out hno hlk hX hS1 ⟨zle (z := 224) rfl (by omega), zle (z := 2224) rfl (by omega)⟩ hce hcv hcl (⟨Or.inr ⟨hp, iE, jE, by rw [ea9, eb9]; exact hone, (by rw [eb9]; simp only [← hone]; exact hcd)⟩, hH1.ext0 hE hF⟩)
    obtain ⟨_, -, hf9⟩ := hp
    exact hf9.elim

abbrev rm_m_X1_killer : Room := { frames := 8, cells := 25, slots := 332, locals := 132 }
set_option maxHeartbeats 4000000 in
theorem m_X1_killer {l : Launch} {s0 : State} {G : zG} (hE : zE l s0 G) (H0 : Heap) (hO : zO s0 H0) (ρ : Ro → Nat) (σ : St) (i j : Int) (hh : HC G s0 ρ σ H0) (hi : zi i ∧ zi j) : zMX l s0 yX1_killer cX1_killer 5 (some FieldType.int) rm_m_X1_killer [.ref (ρ (0, 0, 0)), .int (iI i), .int (iI j)] H0 (FC G ρ σ) (HP G s0 H0 ρ σ (fun y σ' => ∃ (a b c : Nat) (w : Nat → Int), (i = a ∧ a < St_ne σ) ∧ (j = b ∧ b < St_ne σ) ∧ St_ea σ a = St_ea σ b ∧ KIL (St_p σ) (St_n σ (St_ea σ a)) (mxV (St_p σ) (St_ev σ b) (St_sg σ (St_ea σ a)) 1) c w ∧ σ' = stEl σ a w ∧ y = (c : Nat))) (HX G s0 ρ σ (X2s σ i j (fun _ b => ∀ c, c < St_n σ (St_ea σ b) → ¬ freeCol (St_p σ) (St_n σ (St_ea σ b)) (mxV (St_p σ) (St_ev σ b) (St_sg σ (St_ea σ b)) 1) c))) := by
  refine z_metX hE (by decide +kernel) (Nat.le_of_ble_eq_true rfl) ?_
  intro pp ee ss mm args below meth cd Q ls hC hml hrt hlk hnm hH hQ hno hX hS hl
  have hx := hC.x
  have hb := hC.b
  have hl : lv_has ls 5 [(0, .ref (ρ (0, 0, 0))), (1, .int (iI i)), (2, .int (iI j))] := hl
  have hP : va_P G.1 zCl [] H0 := va_nil
  have hD : va_D (zA (FC G ρ σ) H0) [] := va_nilD
  have hMo : ∀ z, FC G ρ σ z → s0.heap.size ≤ z := fun z hz => FC.ge hh.sep hz
  have hH1 := hh
  obtain ⟨hp, hna, hal, hne9, hel9, hmr9⟩ := id hh.ok
  have hp7 : 0 < St_p σ ∧ St_p σ ≤ 7 := by rcases hp with h | h | h <;> rw [h] <;> decide
  obtain ⟨sm9, -⟩ := id hh.2.2.1.1
  refine lv_aload_n hx hb dX1_killer_0 rfl (lv_at hl 0 rfl) ?_
  refine lv_iload_n hx hb dX1_killer_1 rfl (lv_at hl 1 rfl) ?_
  obtain ⟨sm, hxx⟩ := id hH1.2.2.1.1
  refine z_goX 1 6 (z_runVx (As := [.int (iI i)]) (rest := []) hC hml hl.1 (m_X1_elementAt hE H0 (hO.ext (zS_F hS) hMo) ρ σ i hH1 hi.1) (lw_V q1139 q1141 qs25 q62 q1142) rfl nd_X1_elementAt rfl (z_rv hC (ci := 0) rfl hxx rfl) rfl (Nat.le_of_ble_eq_true rfl) ⟨Nat.le_of_ble_eq_true rfl, Nat.le_of_ble_eq_true rfl⟩ ⟨zfit (k := 1) (z := 25) rfl rfl (by omega), zfit (k := 6) (z := 332) rfl rfl (by omega)⟩ dX1_killer_2) ⟨zad (k := 1) rfl (by omega), zad (k := 6) rfl (by omega)⟩ hS (fun _ z => z.elim) (fun E ce q9 Hx1 locs hp hF hS1 hce hcv hcl => ?_) (fun r H2 locs hp hF hS1 => ?_)
  · exact z_out hno hlk hX hS1 ⟨zle (z := 25) rfl (by omega), zle (z := 332) rfl (by omega)⟩ hce hcv hcl (⟨Or.inl (Or.inl ⟨hp.1, fun z => hp.2 z.1⟩), hH1.ext0 hE hF⟩)
  obtain ⟨_, rfl, a, ea9, ha9, rfl⟩ := hp
  have hP := zpk hP hF
  have hP : va_P G.1 zCl ([]) H2 := hP
  have hD : va_D (zA (FC G ρ σ) H0) ([]) := hD
  have hH1 : HC G s0 ρ σ H2 := hH1.ext0 hE hF
  have hS := hS1
  refine lv_astore_n (lv' := [(3, .ref (ρ (13, a, 0))), (0, .ref (ρ (0, 0, 0))), (1, .int (iI i)), (2, .int (iI j))]) hx hb dX1_killer_5 rfl hl (by decide) rfl (fun ls hl => ?_)
  refine lv_aload_n hx hb dX1_killer_6 rfl (lv_at hl 1 rfl) ?_
  refine lv_iload_n hx hb dX1_killer_7 rfl (lv_at hl 3 rfl) ?_
  obtain ⟨sm, hxx⟩ := id hH1.2.2.1.1
  refine z_goX 2 12 (z_runVx (As := [.int (iI j)]) (rest := []) hC hml hl.1 (m_X1_elementAt hE H2 (hO.ext (zS_F hS) hMo) ρ σ j hH1 hi.2) (lw_V q1139 q1141 qs25 q62 q1142) rfl nd_X1_elementAt rfl (z_rv hC (ci := 0) rfl hxx rfl) rfl (Nat.le_of_ble_eq_true rfl) ⟨Nat.le_of_ble_eq_true rfl, Nat.le_of_ble_eq_true rfl⟩ ⟨zfit (k := 1) (z := 25) rfl rfl (by omega), zfit (k := 6) (z := 332) rfl rfl (by omega)⟩ dX1_killer_8) ⟨zad (k := 1) rfl (by omega), zad (k := 6) rfl (by omega)⟩ hS (fun _ z => z.elim) (fun E ce q9 Hx3 locs hp hF hS1 hce hcv hcl => ?_) (fun r H4 locs hp hF hS1 => ?_)
  · exact z_out hno hlk hX hS1 ⟨zle (z := 25) rfl (by omega), zle (z := 332) rfl (by omega)⟩ hce hcv hcl (⟨Or.inl (Or.inl ⟨hp.1, fun z => hp.2 z.2⟩), hH1.ext0 hE hF⟩)
  obtain ⟨_, rfl, b, eb9, hb9, rfl⟩ := hp
  have hP := zpk hP hF
  have hP : va_P G.1 zCl ([]) H4 := hP
  have hD : va_D (zA (FC G ρ σ) H0) ([]) := hD
  have hH1 : HC G s0 ρ σ H4 := hH1.ext0 hE hF
  have hS := hS1
  refine lv_astore (lv' := [(4, .ref (ρ (13, b, 0))), (3, .ref (ρ (13, a, 0))), (0, .ref (ρ (0, 0, 0))), (1, .int (iI i)), (2, .int (iI j))]) hx hb dX1_killer_11 hl (by decide) rfl (fun ls hl => ?_)
  refine lv_aload_n hx hb dX1_killer_13 rfl (lv_at hl 2 rfl) ?_
  refine lv_aload_n hx hb dX1_killer_14 rfl (lv_at hl 1 rfl) ?_
  refine lv_aload hx hb dX1_killer_15 (lv_at hl 0 rfl) ?_
  obtain ⟨sm, hxx⟩ := id hH1.2.2.1.1
  have ea9 : i.toNat = a := by omega
  have eb9 : j.toNat = b := by omega
  have iE : inE σ i := by unfold inE; omega
  have jE : inE σ j := by unfold inE; omega
  refine z_goX 3 18 (z_runVx (As := [.ref (ρ (13, a, 0)), .ref (ρ (13, b, 0))]) (rest := []) hC hml hl.1 (m_X1_requireOne hE H4 (hO.ext (zS_F hS) hMo) ρ σ a b hH1 ⟨by omega, by omega⟩) (lw_V q1150 q1152 qs26 q62 q1153) rfl nd_X1_requireOne rfl (z_rv hC (ci := 0) rfl hxx rfl) rfl (Nat.le_of_ble_eq_true rfl) ⟨Nat.le_of_ble_eq_true rfl, Nat.le_of_ble_eq_true rfl⟩ ⟨zfit (k := 1) (z := 25) rfl rfl (by omega), zfit (k := 6) (z := 332) rfl rfl (by omega)⟩ dX1_killer_17) ⟨zad (k := 1) rfl (by omega), zad (k := 6) rfl (by omega)⟩ hS (fun _ z => z.elim) (fun E ce q9 Hx5 locs hp hF hS1 hce hcv hcl => ?_) (fun r H6 locs hp hF hS1 => ?_)
  · exact z_out hno hlk hX hS1 ⟨zle (z := 25) rfl (by omega), zle (z := 332) rfl (by omega)⟩ hce hcv hcl (⟨Or.inl (Or.inr ⟨hp.1, iE, jE, fun z => hp.2 (by rw [ea9, eb9] at z; exact z.1)⟩), hH1.ext0 hE hF⟩)
  obtain ⟨rfl, hone⟩ := hp
  have hP := zpk hP hF
  have hP : va_P G.1 zCl ([]) H6 := hP
  have hD : va_D (zA (FC G ρ σ) H0) ([]) := hD
  have hH1 : HC G s0 ρ σ H6 := hH1.ext0 hE hF
  have hS := hS1
  refine lv_aload_n hx hb dX1_killer_20 rfl (lv_at hl 1 rfl) ?_
  refine lv_aload hx hb dX1_killer_21 (lv_at hl 0 rfl) ?_
  have hsz9 : H0.size ≤ H6.size := hS.1
  have hvb := hH1.row (j := b) (by omega)
  have hEb := hH1.el (j := b) (by omega)
  rw [← hone] at hvb hEb
  have hea := hH1.ea (j := a) (by omega)
  refine z_go 24 326 (z_runV (As := []) (rest := [.ref (ρ (13, a, 0))]) hC hml hl.1 (m_X7_killer hE H6 (hO.ext (zS_F hS) hMo) (ρ (0, 0, 0)) (ρ (6, St_ea σ a, 0)) (St_p σ) (St_d σ (St_ea σ a)) (St_n σ (St_ea σ a)) (St_kd σ (St_ea σ a)) (St_dv σ (St_ea σ a)) (St_sg σ (St_ea σ a)) (ρ (13, b, 0)) (ρ (14, b, 0)) (St_ev σ b) (hH1.ag (k := St_ea σ a) (by omega)) hEb hvb) (lw_V q1258 q1259 q1260 q92 q1261) rfl nd_X7_killer rfl (z_rv hC (ci := 6) rfl hEb.1 rfl) rfl (Nat.le_of_ble_eq_true rfl) ⟨Nat.le_of_ble_eq_true rfl, Nat.le_of_ble_eq_true rfl⟩ ⟨zfit (k := 21) (z := 25) rfl rfl (by omega), zfit (k := 308) (z := 332) rfl rfl (by omega)⟩ dX1_killer_23) ⟨zad (k := 21) rfl (by omega), zad (k := 308) rfl (by omega)⟩ hS (fun _ z => z.elim) (fun r H7 locs hp hF hS1 => ?_)
  obtain ⟨qo, rfl, hor⟩ := hp
  have hP := zpk hP hF
  have hP : va_P G.1 zCl ([]) H7 := hP
  have hD : va_D (zA (FC G ρ σ) H0) ([]) := hD
  have hH1 : HC G s0 ρ σ H7 := hH1.ext0 hE hF
  have hS := hS1
  rcases hor with hor | hor
  · obtain ⟨c, w, hcd, a1, r1, hN⟩ := hor
    have hP : va_P G.1 zCl [(qo, zOb 10 [.ref a1]), (a1, zOb 6 [.ref (ρ (6, St_ea σ a, 0)), .ref r1, .ref (ρ (0, 0, 0))]), (r1, zI G (St_n σ (St_ea σ a)) w)] H7 := hN.1
    have hD : va_D (zA (FC G ρ σ) H0) [(qo, zOb 10 [.ref a1]), (a1, zOb 6 [.ref (ρ (6, St_ea σ a, 0)), .ref r1, .ref (ρ (0, 0, 0))]), (r1, zI G (St_n σ (St_ea σ a)) w)] := va_D.weaken hN.2 (fun _ _ _ z => Or.inr (Nat.le_trans hsz9 z))
    have hDn : va_D (fun z => H0.size ≤ z) _ := va_D.weaken hN.2 (fun _ _ _ z => Nat.le_trans hsz9 z)
    refine z_goX 25 332 (z_runSx (As := [.ref qo]) (rest := [.ref (ρ (13, a, 0))]) hC hml hl.1 (m_X1_found hE H7 (hO.ext (zS_F hS) hMo) qo a1 [.ref (ρ (6, St_ea σ a, 0)), .ref r1, .ref (ρ (0, 0, 0))] (hP 0 _ rfl) (hP 1 _ rfl)) (lw_S q1228 q1229 q62 q1230) nd_X1_found rfl rfl (Nat.le_of_ble_eq_true rfl) ⟨Nat.le_of_ble_eq_true rfl, Nat.le_of_ble_eq_true rfl⟩ ⟨zfit (k := 1) (z := 25) rfl rfl (by omega), zfit (k := 6) (z := 332) rfl rfl (by omega)⟩ dX1_killer_26) ⟨zad (k := 1) rfl (by omega), zad (k := 6) rfl (by omega)⟩ hS (fun _ z => z.elim) (fun E ce q9 Hx8 locs hp hF hS1 hce hcv hcl => ?_) (fun r H9 locs hp hF hS1 => ?_)
    · exact z_out hno hlk hX hS1 ⟨zle (z := 25) rfl (by omega), zle (z := 332) rfl (by omega)⟩ hce hcv hcl (hp.elim)
    obtain ⟨y9, rfl, hy9⟩ := hp
    have hP := zpk hP hF
    have hP : va_P G.1 zCl ([(qo, zOb 10 [.ref a1]), (a1, zOb 6 [.ref (ρ (6, St_ea σ a, 0)), .ref r1, .ref (ρ (0, 0, 0))]), (r1, zI G (St_n σ (St_ea σ a)) w)]) H9 := hP
    have hD : va_D (zA (FC G ρ σ) H0) ([(qo, zOb 10 [.ref a1]), (a1, zOb 6 [.ref (ρ (6, St_ea σ a, 0)), .ref r1, .ref (ρ (0, 0, 0))]), (r1, zI G (St_n σ (St_ea σ a)) w)]) := hD
    have hH1 : HC G s0 ρ σ H9 := hH1.ext0 hE hF
    have hS := hS1
    have hy9 := hy9.symm
    subst hy9
    have hq9 : H0.size ≤ a1 := hDn.2 1 _ rfl
    have hr9 : H0.size ≤ r1 := hDn.2 2 _ rfl
    have hlt9 := hh.lt hE hO _ (domE 13 a (Or.inl rfl) (by omega))
    have hqn : a1 ≠ ρ (13, a, 0) := by omega
    have hH2 := hH1
    have hR2 := hP 2 _ rfl
    refine z_go 25 332 (z_runS (As := [.ref (ρ (13, a, 0)), .ref a1]) (rest := []) hC hml hl.1 (m_X1_keep hE H9 (hO.ext (zS_F hS) hMo) ρ σ a a1 r1 (w) hH2 (by omega) ⟨hP 1 _ rfl, hP 2 _ rfl⟩ hcd.2.2.2.2.1 hqn) (lw_S q1155 q1156 q62 q1157) nd_X1_keep rfl rfl (Nat.le_of_ble_eq_true rfl) ⟨Nat.le_of_ble_eq_true rfl, Nat.le_of_ble_eq_true rfl⟩ ⟨zfit (k := 0) (z := 25) rfl rfl (by omega), zfit (k := 0) (z := 332) rfl rfl (by omega)⟩ dX1_killer_29) ⟨zad (k := 0) rfl (by omega), zad (k := 0) rfl (by omega)⟩ hS (fun z hz => Or.inl (hz ▸ FC.in hE hh.sep (domE 13 a (Or.inl rfl) (by omega)) (by simp))) (fun r H10 locs hp hF hS1 => ?_)
    obtain ⟨_, rfl, rfl, hm9⟩ := hp
    have hP : va_P G.1 zCl [] H10 := va_nil
    have hD : va_D (zA (FC G ρ σ) H0) [] := va_nilD
    have hR3 := zAt.ext hR2 hF (Ne.symm (z_noArr hE (ci := 6) (t := 0) rfl (hH2.el (j := a) (by omega)).1 rfl hR2))
    have hHpo := hH2.keepP hE (show a < St_ne σ by omega) hF hm9 hR3 hO hh hr9 hcd.2.2.2.2.1
    have hA9 := (hH2.ag (k := St_ea σ a) (by omega)).extq hE (hH2.el (j := a) (by omega)).1 hF
    have hP : va_P G.1 zCl ([]) H10 := hP
    have hD : va_D (zA (FC G ρ σ) H0) ([]) := hD
    have hS := hS1
    refine lv_pop hx hb dX1_killer_32 rfl ?_
    refine lv_aload_n hx hb dX1_killer_33 rfl (lv_at hl 1 rfl) ?_
    refine z_go 25 332 (z_runV (As := []) (rest := []) hC hml hl.1 (m_X7_last hE H10 (hO.ext (zS_F hS) hMo) (ρ (0, 0, 0)) (ρ (6, St_ea σ a, 0)) (St_p σ) (St_d σ (St_ea σ a)) (St_n σ (St_ea σ a)) (St_kd σ (St_ea σ a)) (St_dv σ (St_ea σ a)) (St_sg σ (St_ea σ a)) (ρ (13, a, 0)) r1 w hA9 ⟨hm9, hR3⟩ hcd.2.2.2.2.1) (lw_V q1262 q1263 q1264 q92 q1265) rfl nd_X7_last rfl (z_rv hC (ci := 6) rfl hm9 rfl) rfl (Nat.le_of_ble_eq_true rfl) ⟨Nat.le_of_ble_eq_true rfl, Nat.le_of_ble_eq_true rfl⟩ ⟨zfit (k := 0) (z := 25) rfl rfl (by omega), zfit (k := 0) (z := 332) rfl rfl (by omega)⟩ dX1_killer_34) ⟨zad (k := 0) rfl (by omega), zad (k := 0) rfl (by omega)⟩ hS (fun _ z => z.elim) (fun r H11 locs hp hF hS1 => ?_)
    obtain ⟨_, rfl, rfl⟩ := hp
    have hP := zpk hP hF
    have hP : va_P G.1 zCl ([]) H11 := hP
    have hD : va_D (zA (FC G ρ σ) H0) ([]) := hD
    have hHpo : PoC G s0 H0 ρ σ (stEl σ a w) H11 := hHpo.ext0 hE hF
    have hS := hS1
    have els := lsV_ker hcd.2.2.1 _ hcd.1 hcd.2.2.2.1
    refine z_top (b := ((c : Nat) : Int)) (els) ?_
    exact z_iret hC hrt hlk hQ hS ⟨zle (z := 25) rfl (by omega), zle (z := 332) rfl (by omega)⟩ ⟨_, rfl, stEl σ a w, ⟨a, b, c, w, ⟨by omega, by omega⟩, ⟨by omega, by omega⟩, hone, hcd, rfl, rfl⟩, hHpo⟩ dX1_killer_37
  · obtain ⟨hcd, hqo⟩ := hor
    subst hqo
    refine z_goX 25 332 (z_runSx (As := [.ref (G.2 13)]) (rest := [.ref (ρ (13, a, 0))]) hC hml hl.1 (m_X1_found_n hE H7 (hO.ext (zS_F hS) hMo)  ) (lw_S q1228 q1229 q62 q1230) nd_X1_found rfl rfl (Nat.le_of_ble_eq_true rfl) ⟨Nat.le_of_ble_eq_true rfl, Nat.le_of_ble_eq_true rfl⟩ ⟨zfit (k := 1) (z := 25) rfl rfl (by omega), zfit (k := 6) (z := 332) rfl rfl (by omega)⟩ dX1_killer_26) ⟨zad (k := 1) rfl (by omega), zad (k := 6) rfl (by omega)⟩ hS (fun _ z => z.elim) (fun E ce q9 Hx12 locs hp hF hS1 hce hcv hcl => ?_) (fun r H13 locs hp hF hS1 => ?_)
    · exact z_out hno hlk hX hS1 ⟨zle (z := 25) rfl (by omega), zle (z := 332) rfl (by omega)⟩ hce hcv hcl (⟨Or.inr ⟨hp, iE, jE, by rw [ea9, eb9]; exact hone, (by rw [eb9]; simp only [← hone]; exact hcd)⟩, hH1.ext0 hE hF⟩)
    obtain ⟨_, -, hf9⟩ := hp
    exact hf9.elim

