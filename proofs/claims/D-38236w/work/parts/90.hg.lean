/-! THE HOUSE: mirrors are hung; they are taken down -/
set_option maxRecDepth 100000
/-- another state of the door -/
theorem HC.door {l : Launch} {G : zG} {s0 : State} {ρ : Ro → Nat} {σ : St} {H H1 : Heap} {t : Int} (hE : zE l s0 G) (h : HC G s0 ρ σ H) (hF : zF (fun z => z = ρ (5, 0, 0)) H H1) (hx : zAt G (ρ (5, 0, 0)) (zOb 1 [.int (iI t)]) H1) : HC G s0 ρ σ H1 := by
  have r := h.rest (S := fun a => a = (5, 0, 0)) hE hF (fun a ha h12 e => h.2.1.one hE ha (dom0 5 (by omega)) h12 e)
  have z : ∀ a i j : Nat, a ≠ 5 → ¬ ((a, i, j) : Ro) = (5, 0, 0) := fun a i j ha e => ha (by cases e; rfl)
  obtain ⟨r1, r2, r3, -, r5, r6⟩ := r
  refine ⟨h.1, h.2.1, ⟨r1 (z _ _ _ (by omega)), r2 (z _ _ _ (by omega)) (z _ _ _ (by omega)), r3 (z _ _ _ (by omega)) (z _ _ _ (by omega)), ⟨t, hx⟩⟩, fun k hk => ?_, fun j hj => r6 j hj (z _ _ _ (by omega)) (z _ _ _ (by omega))⟩
  obtain ⟨a1, a2, a3, a4, a5, a6⟩ := r5 k hk
  exact ⟨a1 (z _ _ _ (by omega)), a2 (z _ _ _ (by omega)) (z _ _ _ (by omega)), a3 (z _ _ _ (by omega)) (z _ _ _ (by omega)), a4 (z _ _ _ (by omega)), fun i hi => a5 i hi (z _ _ _ (by omega)), fun i hi => a6 i hi (z _ _ _ (by omega)) (z _ _ _ (by omega))⟩
/-- the cells that hanging and clearing change -/
def mZ (G : zG) (ρ : Ro → Nat) (k : Nat) : Nat → Prop := fun z => z = ρ (5, 0, 0) ∨ z = ρ (9, k, 0) ∨ (z = ρ (10, k, 0) ∧ ρ (10, k, 0) ≠ G.2 12)
theorem mZ.d {G : zG} {ρ : Ro → Nat} {k : Nat} {H H1 : Heap} (h : zF (fun z => z = ρ (5, 0, 0)) H H1) : zF (mZ G ρ k) H H1 := h.mono (fun _ _ w => Or.inl w)
theorem mZ.l {G : zG} {ρ : Ro → Nat} {k : Nat} {H H1 : Heap} (h : zF (fun z => z = ρ (9, k, 0) ∨ (z = ρ (10, k, 0) ∧ ρ (10, k, 0) ≠ G.2 12)) H H1) : zF (mZ G ρ k) H H1 := h.mono (fun _ _ w => Or.inr w)
def XHa (σ : St) (a : Nat) : Prop := 0 < sqV (St_p σ) (St_n σ (St_ea σ a)) (St_kd σ (St_ea σ a)) (St_sg σ (St_ea σ a)) (St_ev σ a) ∧ St_nm σ (St_ea σ a) < 6
abbrev rm_m_X1_hang : Room := { frames := 8, cells := 100, slots := 1000, locals := 221 }
set_option maxHeartbeats 4000000 in
theorem m_X1_hang {l : Launch} {s0 : State} {G : zG} (hE : zE l s0 G) (H0 : Heap) (hO : zO s0 H0) (ρ : Ro → Nat) (σ : St) (i : Int) (hh : HC G s0 ρ σ H0) (hdm : zMn (ρ (5, 0, 0)) {} H0) (hi : zi i) : zMW l s0 yX1_hang cX1_hang 6 (some FieldType.int) [((46 : Nat), (82 : Nat), (83 : Nat), (0 : Nat)), ((83 : Nat), (88 : Nat), (83 : Nat), (0 : Nat))] rm_m_X1_hang [.ref (ρ (0, 0, 0)), .int (iI i)] H0 (FC G ρ σ) (HP G s0 H0 ρ σ (fun y σ' => ∃ a : Nat, (i = a ∧ a < St_ne σ) ∧ XHa σ a ∧ σ' = stMi σ (St_ea σ a) (St_ev σ a) ∧ y = (St_nm σ (St_ea σ a) + 1 : Nat))) (HX G s0 ρ σ (X1s σ i (fun a => ¬ XHa σ a))) := by
  refine z_metW hE (by decide +kernel) (Nat.le_of_ble_eq_true rfl) ?_
  intro pp ee ss mm args below meth cd Q ls hC hml hrt hlk hnm hH hQ htb hX hS hl
  have hx := hC.x
  have hb := hC.b
  have hl : lv_has ls 6 [(0, .ref (ρ (0, 0, 0))), (1, .int (iI i))] := hl
  have hP : va_P G.1 zCl [] H0 := va_nil
  have hD : va_D (zA (FC G ρ σ) H0) [] := va_nilD
  have hMo : ∀ z, FC G ρ σ z → s0.heap.size ≤ z := fun z hz => FC.ge hh.sep hz
  have hH1 := hh
  obtain ⟨hp, hna, hal, hne9, hel9, hmr9⟩ := id hh.ok
  have hp7 : 0 < St_p σ ∧ St_p σ ≤ 7 := by rcases hp with h | h | h <;> rw [h] <;> decide
  obtain ⟨sm9, -⟩ := id hh.2.2.1.1
  have hMn := hdm
  refine lv_aload_n hx hb dX1_hang_0 rfl (lv_at hl 0 rfl) ?_
  refine lv_iload_n hx hb dX1_hang_1 rfl (lv_at hl 1 rfl) ?_
  obtain ⟨sm, hxx⟩ := id hH1.2.2.1.1
  refine z_goX 1 6 (z_runVx (As := [.int (iI i)]) (rest := []) hC hml hl.1 (m_X1_elementAt hE H0 (hO.ext (zS_F hS) hMo) ρ σ i hH1 hi) (lw_V q1139 q1141 qs25 q62 q1142) rfl nd_X1_elementAt rfl (z_rv hC (ci := 0) rfl hxx rfl) rfl (Nat.le_of_ble_eq_true rfl) ⟨Nat.le_of_ble_eq_true rfl, Nat.le_of_ble_eq_true rfl⟩ ⟨zfit (k := 1) (z := 100) rfl rfl (by omega), zfit (k := 6) (z := 1000) rfl rfl (by omega)⟩ dX1_hang_2) ⟨zad (k := 1) rfl (by omega), zad (k := 6) rfl (by omega)⟩ hS (fun _ z => z.elim) (fun E ce q9 Hx1 locs hp hF hS1 hce hcv hcl => ?_) (fun r H2 locs hp hF hS1 => ?_)
  · exact z_outW htb (by decide) hlk hX hS1 ⟨zle (z := 100) rfl (by omega), zle (z := 1000) rfl (by omega)⟩ hce hcv hcl (⟨Or.inl ⟨hp.1, hp.2⟩, hH1.ext0 hE hF⟩)
  obtain ⟨_, rfl, a, ea9, ha9, rfl⟩ := hp
  have hP := zpk hP hF
  have hP : va_P G.1 zCl ([]) H2 := hP
  have hD : va_D (zA (FC G ρ σ) H0) ([]) := hD
  have hH1 : HC G s0 ρ σ H2 := hH1.ext0 hE hF
  have hMn : zMn (ρ (5, 0, 0)) {} H2 := hMn.ext0 hF
  have hS := hS1
  have ea9 : i.toNat = a := by omega
  have iE : inE σ i := by unfold inE; omega
  have hea0 := hh.ea (j := a) (by omega)
  have hnm9 := (hmr9 _ hea0).1
  have hva := hH1.row (j := a) (by omega)
  have hEa := hH1.el (j := a) (by omega)
  have heaa := hH1.ea (j := a) (by omega)
  obtain ⟨hn16a, -⟩ := (hH1.ag heaa).n
  refine lv_astore_n (lv' := [(2, .ref (ρ (13, a, 0))), (0, .ref (ρ (0, 0, 0))), (1, .int (iI i))]) hx hb dX1_hang_5 rfl hl (by decide) rfl (fun ls hl => ?_)
  refine lv_aload_n hx hb dX1_hang_6 rfl (lv_at hl 0 rfl) ?_
  refine z_getn hC (k := 0) rfl in_X7 hEa.1 (by decide) q323 (fun _ h => h) rfl dX1_hang_7 ?_
  have hkk := hH1.2.2.2.1 (St_ea σ a) (by omega)
  refine z_getn hC (k := 2) rfl in_X5 hkk.1 (by decide) q961 (fun _ h => h) rfl dX1_hang_10 ?_
  refine lv_astore_n (lv' := [(3, .ref (ρ (9, St_ea σ a, 0))), (2, .ref (ρ (13, a, 0))), (0, .ref (ρ (0, 0, 0))), (1, .int (iI i))]) hx hb dX1_hang_13 rfl hl (by decide) rfl (fun ls hl => ?_)
  refine lv_aload_n hx hb dX1_hang_14 rfl (lv_at hl 1 rfl) ?_
  refine z_go 3 25 (z_runV (As := []) (rest := []) hC hml hl.1 (m_X7_square hE H2 (hO.ext (zS_F hS) hMo) (ρ (0, 0, 0)) (ρ (6, St_ea σ a, 0)) (St_p σ) (St_d σ (St_ea σ a)) (St_n σ (St_ea σ a)) (St_kd σ (St_ea σ a)) (St_dv σ (St_ea σ a)) (St_sg σ (St_ea σ a)) (ρ (13, a, 0)) (ρ (14, a, 0)) (St_ev σ a)  (hH1.ag (hH1.ea (j := a) (by omega))) (hH1.el (j := a) (by omega)) hva ) (lw_V q521 q522 q523 q92 q524) rfl nd_X7_square rfl (z_rv hC (ci := 6) rfl hEa.1 rfl) rfl (Nat.le_of_ble_eq_true rfl) ⟨Nat.le_of_ble_eq_true rfl, Nat.le_of_ble_eq_true rfl⟩ ⟨zfit (k := 2) (z := 100) rfl rfl (by omega), zfit (k := 19) (z := 1000) rfl rfl (by omega)⟩ dX1_hang_15) ⟨zad (k := 2) rfl (by omega), zad (k := 19) rfl (by omega)⟩ hS (fun _ z => z.elim) (fun r H3 locs hp hF hS1 => ?_)
  obtain ⟨_, rfl, rfl⟩ := hp
  have hP := zpk hP hF
  have hP : va_P G.1 zCl ([]) H3 := hP
  have hD : va_D (zA (FC G ρ σ) H0) ([]) := hD
  have hH1 : HC G s0 ρ σ H3 := hH1.ext0 hE hF
  have hMn : zMn (ρ (5, 0, 0)) {} H3 := hMn.ext0 hF
  have hS := hS1
  have hsqb := sqV_in hp (St_n σ (St_ea σ a)) (St_kd σ (St_ea σ a)) (St_sg σ (St_ea σ a)) (St_ev σ a)
  refine z_zle (tgt := 34) hx hb dX1_hang_18 (by decide) (by omega) (fun c4 => ?_) (fun c4 => ?_)
  · refine lv_iconst (v := iI 0) hx hb dX1_hang_34 rfl ?_
    refine z_goX 4 31 (z_runSx (As := [.int (iI 0)]) (rest := []) hC hml hl.1 (m_X1_requireState hE H3 (hO.ext (zS_F hS) hMo) 0 (by decide)) (lw_S q919 q920 q62 q921) nd_X1_requireState rfl rfl (Nat.le_of_ble_eq_true rfl) ⟨Nat.le_of_ble_eq_true rfl, Nat.le_of_ble_eq_true rfl⟩ ⟨zfit (k := 1) (z := 100) rfl rfl (by omega), zfit (k := 6) (z := 1000) rfl rfl (by omega)⟩ dX1_hang_35) ⟨zad (k := 1) rfl (by omega), zad (k := 6) rfl (by omega)⟩ hS (fun _ z => z.elim) (fun E ce q9 Hx5 locs hp hF hS1 hce hcv hcl => ?_) (fun r H6 locs hp hF hS1 => ?_)
    · exact z_outW htb (by decide) hlk hX hS1 ⟨zle (z := 100) rfl (by omega), zle (z := 1000) rfl (by omega)⟩ hce hcv hcl (⟨Or.inr ⟨hp.1, iE, by rw [ea9]; exact fun z => by have h9 := z.1; have h8 := z.2; omega⟩, hH1.ext0 hE hF⟩)
    exact (show False from by have h9 : (0 : Nat) = 1 := hp.2; omega).elim
  · refine lv_aload_n hx hb dX1_hang_21 rfl (lv_at hl 0 rfl) ?_
    obtain ⟨mdl, hLb⟩ := id (hH1.2.2.2.1 (St_ea σ a) (by omega)).2.2.1
    refine z_go 3 25 (z_runV (As := []) (rest := []) hC hml hl.1 (m_J2_size hE H3 (hO.ext (zS_F hS) hMo) (ρ (9, St_ea σ a, 0)) (St_nm σ (St_ea σ a)) (fun i => ρ (15, St_ea σ a, i)) (ρ (10, St_ea σ a, 0)) mdl hLb) (lw_V q229 q230 q231 q65 q232) rfl nd_J2_size rfl (z_rv hC (ci := 8) rfl hLb.1 rfl) rfl (Nat.le_of_ble_eq_true rfl) ⟨Nat.le_of_ble_eq_true rfl, Nat.le_of_ble_eq_true rfl⟩ ⟨zfit (k := 0) (z := 100) rfl rfl (by omega), zfit (k := 0) (z := 1000) rfl rfl (by omega)⟩ dX1_hang_22) ⟨zad (k := 0) rfl (by omega), zad (k := 0) rfl (by omega)⟩ hS (fun _ z => z.elim) (fun r H7 locs hp hF hS1 => ?_)
    obtain ⟨_, rfl, rfl⟩ := hp
    have hP := zpk hP hF
    have hP : va_P G.1 zCl ([]) H7 := hP
    have hD : va_D (zA (FC G ρ σ) H0) ([]) := hD
    have hH1 : HC G s0 ρ σ H7 := hH1.ext0 hE hF
    have hMn : zMn (ρ (5, 0, 0)) {} H7 := hMn.ext0 hF
    have hS := hS1
    refine lv_bipush (v := iI 6) hx hb dX1_hang_25 (by decide) ?_
    refine z_cge (tgt := 34) hx hb dX1_hang_27 (by decide) (by omega) (fun c8 => ?_) (fun c8 => ?_)
    · refine lv_iconst (v := iI 0) hx hb dX1_hang_34 rfl ?_
      refine z_goX 4 31 (z_runSx (As := [.int (iI 0)]) (rest := []) hC hml hl.1 (m_X1_requireState hE H7 (hO.ext (zS_F hS) hMo) 0 (by decide)) (lw_S q919 q920 q62 q921) nd_X1_requireState rfl rfl (Nat.le_of_ble_eq_true rfl) ⟨Nat.le_of_ble_eq_true rfl, Nat.le_of_ble_eq_true rfl⟩ ⟨zfit (k := 1) (z := 100) rfl rfl (by omega), zfit (k := 6) (z := 1000) rfl rfl (by omega)⟩ dX1_hang_35) ⟨zad (k := 1) rfl (by omega), zad (k := 6) rfl (by omega)⟩ hS (fun _ z => z.elim) (fun E ce q9 Hx9 locs hp hF hS1 hce hcv hcl => ?_) (fun r H10 locs hp hF hS1 => ?_)
      · exact z_outW htb (by decide) hlk hX hS1 ⟨zle (z := 100) rfl (by omega), zle (z := 1000) rfl (by omega)⟩ hce hcv hcl (⟨Or.inr ⟨hp.1, iE, by rw [ea9]; exact fun z => by have h9 := z.1; have h8 := z.2; omega⟩, hH1.ext0 hE hF⟩)
      exact (show False from by have h9 : (0 : Nat) = 1 := hp.2; omega).elim
    · have hxa : XHa σ a := ⟨by omega, by omega⟩
      refine lv_iconst (v := iI 1) hx hb dX1_hang_30 rfl ?_
      refine lv_goto (tgt := 35) hx hb dX1_hang_31 (by decide) ?_
      refine z_goX 4 31 (z_runSx (As := [.int (iI 1)]) (rest := []) hC hml hl.1 (m_X1_requireState hE H7 (hO.ext (zS_F hS) hMo) 1 (by decide)) (lw_S q919 q920 q62 q921) nd_X1_requireState rfl rfl (Nat.le_of_ble_eq_true rfl) ⟨Nat.le_of_ble_eq_true rfl, Nat.le_of_ble_eq_true rfl⟩ ⟨zfit (k := 1) (z := 100) rfl rfl (by omega), zfit (k := 6) (z := 1000) rfl rfl (by omega)⟩ dX1_hang_35) ⟨zad (k := 1) rfl (by omega), zad (k := 6) rfl (by omega)⟩ hS (fun _ z => z.elim) (fun E ce q9 Hx11 locs hp hF hS1 hce hcv hcl => ?_) (fun r H12 locs hp hF hS1 => ?_)
      · exact z_outW htb (by decide) hlk hX hS1 ⟨zle (z := 100) rfl (by omega), zle (z := 1000) rfl (by omega)⟩ hce hcv hcl (absurd hp.2 (by decide))
      obtain ⟨rfl, -⟩ := hp
      have hP := zpk hP hF
      have hP : va_P G.1 zCl ([]) H12 := hP
      have hD : va_D (zA (FC G ρ σ) H0) ([]) := hD
      have hH1 : HC G s0 ρ σ H12 := hH1.ext0 hE hF
      have hMn : zMn (ρ (5, 0, 0)) {} H12 := hMn.ext0 hF
      have hS := hS1
      obtain ⟨sm, hxx⟩ := id hH1.2.2.1.1
      refine lv_aload_n hx hb dX1_hang_38 rfl (lv_at hl 2 rfl) ?_
      refine z_get hC (k := 3) rfl in_X1 hxx (by decide) q154 (fun _ h => h) rfl dX1_hang_39 ?_
      refine lv_dup hx hb dX1_hang_42 rfl ?_
      refine lv_astore (lv' := [(4, .ref (ρ (5, 0, 0))), (3, .ref (ρ (9, St_ea σ a, 0))), (2, .ref (ρ (13, a, 0))), (0, .ref (ρ (0, 0, 0))), (1, .int (iI i))]) hx hb dX1_hang_43 hl (by decide) rfl (fun ls hl => ?_)
      obtain ⟨t9, hdo⟩ := id hH1.2.2.1.2.2.2
      have hHb := hH1
      refine fx_enter hC hml hl.1 hlk (by rw [hnm]; decide) (ci := 1) hS (Or.inl (FC.in hE hh.sep (dom0 5 (by omega)) (by simp))) (by rw [hH]; exact hdm) hdo hMn (Nat.le_of_ble_eq_true rfl) dX1_hang_45 (fun cell9 H13 hc19 hc29 hdo hMn hF hS => ?_)
      have hC9 := hC
      have hC := hC9.ent (ρ (5, 0, 0)) (cell9.withEntry ss.cur)
      have hFb : zF (mZ G ρ (St_ea σ a)) H12 H13 := mZ.d hF
      have hH1 := hHb.door hE hF hdo
      have hP : va_P G.1 zCl [] H13 := va_nil
      refine fx_aload_n hx hb dX1_hang_46 rfl (lv_at hl 1 rfl) ?_
      refine fx_aload_n hx hb dX1_hang_47 rfl (lv_at hl 2 rfl) ?_
      have hva := hH1.row (j := a) (by omega)
      have hEa := hH1.el (j := a) (by omega)
      have heaa := hH1.ea (j := a) (by omega)
      obtain ⟨hn16a, -⟩ := (hH1.ag heaa).n
      have hsz9 : H0.size ≤ H13.size := hS.1
      refine fx_go 6 50 (fx_runV (mr := 1) (As := []) (rest := [.ref (ρ (9, St_ea σ a, 0))]) hC hml hl.1 (m_X7_copy hE H13 (hO.ext (zS_F hS) hMo) (ρ (0, 0, 0)) (ρ (6, St_ea σ a, 0)) (St_p σ) (St_d σ (St_ea σ a)) (St_n σ (St_ea σ a)) (St_kd σ (St_ea σ a)) (St_dv σ (St_ea σ a)) (St_sg σ (St_ea σ a)) (ρ (13, a, 0)) (ρ (14, a, 0)) (St_ev σ a) (hH1.ag (by omega)) hEa hva) (lw_V q1273 q1274 q1275 q92 q1276) rfl nd_X7_copy rfl (z_rv hC (ci := 6) rfl hEa.1 rfl) rfl (Nat.le_of_ble_eq_true rfl) ⟨Nat.le_of_ble_eq_true rfl, Nat.le_of_ble_eq_true rfl⟩ ⟨zfit (k := 2) (z := 100) rfl rfl (by omega), zfit (k := 19) (z := 1000) rfl rfl (by omega)⟩ dX1_hang_48) ⟨zad (k := 2) rfl (by omega), zad (k := 19) rfl (by omega)⟩ hS (fun _ z => z.elim) (fun r H16 locs hp hF hS1 => ?_)
      obtain ⟨qe14, rfl, re15, hN⟩ := hp
      obtain ⟨hP, hD⟩ := zjn hP hD hS.1 hF hN
      have hP : va_P G.1 zCl ([(qe14, zOb 6 [.ref (ρ (6, St_ea σ a, 0)), .ref re15, .ref (ρ (0, 0, 0))]), (re15, zI G (St_n σ (St_ea σ a)) (St_ev σ a))]) H16 := hP
      have hD : va_D (zA (FC G ρ σ) H0) ([(qe14, zOb 6 [.ref (ρ (6, St_ea σ a, 0)), .ref re15, .ref (ρ (0, 0, 0))]), (re15, zI G (St_n σ (St_ea σ a)) (St_ev σ a))]) := hD
      have hH1 : HC G s0 ρ σ H16 := hH1.ext0 hE hF
      have hMn : zMn (ρ (5, 0, 0)) (mnT ss.cur) H16 := hMn.ext0 hF
      have hdo : zAt G (ρ (5, 0, 0)) (zOb 1 [.int (iI t9)]) H16 := hdo.ext0 hF
      have hFb : zF (mZ G ρ (St_ea σ a)) H12 H16 := hFb.trans hF.of0
      have hS := hS1
      have hqn : H0.size ≤ qe14 := Nat.le_trans hsz9 (hN.2.2 0 _ rfl)
      have hrn : H0.size ≤ re15 := Nat.le_trans hsz9 (hN.2.2 1 _ rfl)
      have hDn : va_D (fun z => H0.size ≤ z) [(qe14, zOb 6 [.ref (ρ (6, St_ea σ a, 0)), .ref re15, .ref (ρ (0, 0, 0))]), (re15, zI G (St_n σ (St_ea σ a)) (St_ev σ a))] := va_D.weaken hN.2 (fun _ _ _ z => Nat.le_trans hsz9 z)
      have hl9 := hh.lt hE hO _ (domA 9 (St_ea σ a) (by omega) (by omega))
      have hl10 := hh.lt hE hO _ (domA 10 (St_ea σ a) (by omega) (by omega))
      have hl5 := hh.lt hE hO _ (dom0 5 (by omega))
      have h59 : (ρ (5, 0, 0)) ≠ (ρ (9, St_ea σ a, 0)) := hh.sep.ne hE (dom0 5 (by omega)) (domA 9 (St_ea σ a) (by omega) (by omega)) (fun y => by cases y) (by simp)
      have h510 : (ρ (5, 0, 0)) ≠ (ρ (10, St_ea σ a, 0)) := hh.sep.ne hE (dom0 5 (by omega)) (domA 10 (St_ea σ a) (by omega) (by omega)) (fun y => by cases y) (by simp)
      have hsep9 : (ρ (10, St_ea σ a, 0)) ≠ G.2 12 → s0.heap.size ≤ (ρ (10, St_ea σ a, 0)) ∧ (ρ (9, St_ea σ a, 0)) ≠ (ρ (10, St_ea σ a, 0)) := fun w => ⟨(hh.sep.1 _ (domA 10 (St_ea σ a) (by omega) (by omega))).resolve_right (fun y => w y.1), hh.sep.ne hE (domA 9 (St_ea σ a) (by omega) (by omega)) (domA 10 (St_ea σ a) (by omega) (by omega)) (fun y => by cases y) (by simp)⟩
      obtain ⟨mdl, hLb⟩ := id (hH1.2.2.2.1 (St_ea σ a) (by omega)).2.2.1
      have hPb := hP
      have hHc : H0.size ≤ H16.size := hS.1
      obtain ⟨sm8, hx8⟩ := id hH1.2.2.1.1
      have hMb := hMn
      have hdb := hdo
      refine fx_go 7 60 (fx_runV (mr := 1) (As := [.ref qe14]) (rest := []) hC hml hl.1 (m_J2_add hE H16 (hO.ext (zS_F hS) hMo) (ρ (9, St_ea σ a, 0)) (St_nm σ (St_ea σ a)) (fun i => ρ (15, St_ea σ a, i)) (ρ (10, St_ea σ a, 0)) mdl qe14 (hh.sep.ge (domA 9 (St_ea σ a) (by omega) (by omega)) (by simp)) hsep9 (by omega) hLb (zAny.of hE (ci := 6) rfl (hPb 0 _ rfl) q1979) (by omega)) (lw_V q977 q978 q979 q65 q980) rfl nd_J2_add rfl (z_rv hC (ci := 8) rfl hLb.1 rfl) rfl (Nat.le_of_ble_eq_true rfl) ⟨Nat.le_of_ble_eq_true rfl, Nat.le_of_ble_eq_true rfl⟩ ⟨zfit (k := 1) (z := 100) rfl rfl (by omega), zfit (k := 10) (z := 1000) rfl rfl (by omega)⟩ dX1_hang_51) ⟨zad (k := 1) rfl (by omega), zad (k := 10) rfl (by omega)⟩ hS (fun z hz => Or.inl (hz.elim (fun w => w ▸ FC.in hE hh.sep (domA 9 (St_ea σ a) (by omega) (by omega)) (by simp)) (fun w => ⟨by rw [w.1]; exact w.2, (10, St_ea σ a, 0), domA 10 (St_ea σ a) (by omega) (by omega), w.1.symm⟩))) (fun r H17 locs hp hF hS1 => ?_)
      obtain ⟨_, rfl, rfl, arr1, hL1, hor⟩ := hp
      have hP : va_P G.1 zCl [(qe14, zOb 6 [.ref (ρ (6, St_ea σ a, 0)), .ref re15, .ref (ρ (0, 0, 0))]), (re15, zI G (St_n σ (St_ea σ a)) (St_ev σ a))] H17 := zkeep hPb hDn hF (fun z hz => by rcases hz with hz | hz <;> omega)
      have hx9 := hx8.ext hF (fun z => z.elim (fun w => by have := hh.sep.ne hE (dom0 0 (by omega)) (domA 9 (St_ea σ a) (by omega) (by omega)) (fun y => by cases y) (by simp); exact this w) (fun w => by have := hh.sep.ne hE (dom0 0 (by omega)) (domA 10 (St_ea σ a) (by omega) (by omega)) (fun y => by cases y) (by simp); exact this w.1))
      have hMn := hMb.ext hF (fun z => z.elim h59 (fun w => h510 w.1))
      have hdo := hdb.ext hF (fun z => z.elim h59 (fun w => h510 w.1))
      have hFb := hFb.trans (mZ.l hF)
      have hP : va_P G.1 zCl ([(qe14, zOb 6 [.ref (ρ (6, St_ea σ a, 0)), .ref re15, .ref (ρ (0, 0, 0))]), (re15, zI G (St_n σ (St_ea σ a)) (St_ev σ a))]) H17 := hP
      have hD : va_D (zA (FC G ρ σ) H0) ([(qe14, zOb 6 [.ref (ρ (6, St_ea σ a, 0)), .ref re15, .ref (ρ (0, 0, 0))]), (re15, zI G (St_n σ (St_ea σ a)) (St_ev σ a))]) := hD
      have hS := hS1
      have h5a : (ρ (5, 0, 0)) ≠ arr1 := fun z => hor.elim (fun w => h510 (z.trans w.1)) (fun w => by omega)
      refine fx_pop hx hb dX1_hang_54 rfl ?_
      refine fx_aload_n hx hb dX1_hang_55 rfl (lv_at hl 3 rfl) ?_
      refine fx_get hC (k := 3) rfl in_X1 hx9 (by decide) q154 (fun _ h => h) rfl dX1_hang_56 ?_
      refine fx_dup hx hb dX1_hang_59 rfl ?_
      refine fx_getn hC (k := 0) rfl in_X2 hdo (by decide) q145 (fun _ h => h) rfl dX1_hang_60 ?_
      refine fx_iconst (v := iI 1) hx hb dX1_hang_63 rfl ?_
      refine fx_iadd hx hb dX1_hang_64 ?_
      rw [iI_add]
      refine fx_putn hC hS (ci := 1) (k := 0) hdo hMn (Or.inl (FC.in hE hh.sep (dom0 5 (by omega)) (by simp))) rfl in_X2 tyX2_ok nmX2 (by decide) q145 (fun _ h => h) rfl rfl rfl rfl (Nat.le_of_ble_eq_true rfl) dX1_hang_65 (fun H18 locs hdo hMn hS hF => ?_)
      have hdo : zAt G (ρ (5, 0, 0)) (zOb 1 [.int (iI (t9 + 1))]) H18 := hdo
      have hFb := hFb.trans (mZ.d hF)
      have hx9 := hx9.ext hF (fun z => hh.sep.ne hE (dom0 0 (by omega)) (dom0 5 (by omega)) (fun y => by cases y) (by simp) z)
      have hL1 := hL1.ext hF (fun z => h59 z.symm) (fun _ z => h5a z.symm)
      have hP : va_P G.1 zCl [(qe14, zOb 6 [.ref (ρ (6, St_ea σ a, 0)), .ref re15, .ref (ρ (0, 0, 0))]), (re15, zI G (St_n σ (St_ea σ a)) (St_ev σ a))] H18 := zkeep hP hDn hF (fun z hz => by omega)
      refine fx_aload_n hx hb dX1_hang_68 rfl (lv_at hl 3 rfl) ?_
      refine fx_get hC (k := 3) rfl in_X1 hx9 (by decide) q154 (fun _ h => h) rfl dX1_hang_69 ?_
      refine fx_note hC hml hl.1 (C := "Versorhall$Door") q1278 q1280 q1302 q1279 q1283 (z_rv hC (ci := 1) rfl hdo rfl) hMn (zr_pay2 (hC.t _ q1302) (hC.t _ q1279) (Nat.le_of_ble_eq_true rfl) (Nat.le_of_ble_eq_true rfl)) (Nat.le_of_ble_eq_true rfl) dX1_hang_72 ?_
      refine fx_aload_n hx hb dX1_hang_75 rfl (lv_at hl 1 rfl) ?_
      refine fx_go 7 60 (fx_runV (mr := 1) (As := []) (rest := []) hC hml hl.1 (m_J2_size hE H18 (hO.ext (zS_F hS) hMo) (ρ (9, St_ea σ a, 0)) (St_nm σ (St_ea σ a) + 1) _ arr1 _ hL1) (lw_V q229 q230 q231 q65 q232) rfl nd_J2_size rfl (z_rv hC (ci := 8) rfl hL1.1 rfl) rfl (Nat.le_of_ble_eq_true rfl) ⟨Nat.le_of_ble_eq_true rfl, Nat.le_of_ble_eq_true rfl⟩ ⟨zfit (k := 0) (z := 100) rfl rfl (by omega), zfit (k := 0) (z := 1000) rfl rfl (by omega)⟩ dX1_hang_76) ⟨zad (k := 0) rfl (by omega), zad (k := 0) rfl (by omega)⟩ hS (fun _ z => z.elim) (fun r H19 locs hp hF hS1 => ?_)
      obtain ⟨_, rfl, rfl⟩ := hp
      have hP := zpk hP hF
      have hP : va_P G.1 zCl ([(qe14, zOb 6 [.ref (ρ (6, St_ea σ a, 0)), .ref re15, .ref (ρ (0, 0, 0))]), (re15, zI G (St_n σ (St_ea σ a)) (St_ev σ a))]) H19 := hP
      have hD : va_D (zA (FC G ρ σ) H0) ([(qe14, zOb 6 [.ref (ρ (6, St_ea σ a, 0)), .ref re15, .ref (ρ (0, 0, 0))]), (re15, zI G (St_n σ (St_ea σ a)) (St_ev σ a))]) := hD
      have hMn : zMn (ρ (5, 0, 0)) (mnT ss.cur) H19 := hMn.ext0 hF
      have hdo : zAt G (ρ (5, 0, 0)) (zOb 1 [.int (iI (t9 + 1))]) H19 := hdo.ext0 hF
      have hFb : zF (mZ G ρ (St_ea σ a)) H12 H19 := hFb.trans hF.of0
      have hL1 : zLs G (ρ (9, St_ea σ a, 0)) (St_nm σ (St_ea σ a) + 1) (va_up (fun i => ρ (15, St_ea σ a, i)) (St_nm σ (St_ea σ a)) qe14) arr1 (mdl + 1) H19 := hL1.ext0 hF
      have hS := hS1
      refine fx_aload hx hb dX1_hang_79 (lv_at hl 0 rfl) ?_
      refine fx_exit hC9 (ci := 1) hS (Or.inl (FC.in hE hh.sep (dom0 5 (by omega)) (by simp))) hc19 hc29 hdo hMn dX1_hang_81 (fun H20 hdo hMn hF hS => ?_)
      have hC := hC9
      have hFb := hFb.trans (mZ.d hF)
      have hL1 := hL1.ext hF (fun z => h59 z.symm) (fun _ z => h5a z.symm)
      have hP : va_P G.1 zCl [(qe14, zOb 6 [.ref (ρ (6, St_ea σ a, 0)), .ref re15, .ref (ρ (0, 0, 0))]), (re15, zI G (St_n σ (St_ea σ a)) (St_ev σ a))] H20 := zkeep hP hDn hF (fun z hz => by omega)
      have hpo : PoC G s0 H0 ρ σ (stMi σ (St_ea σ a) (St_ev σ a)) H20 := HC.newmi hE hO hh hHb hFb (by omega) hxa.2 ⟨a, by omega, rfl⟩ hva hxa.1 hqn hrn (hor.imp id (fun w => Nat.le_trans hHc w)) hdo hL1 ⟨hP 0 _ rfl, hP 1 _ rfl⟩
      exact fx_iret hC hrt hlk hQ hS ⟨zle (z := 100) rfl (by omega), zle (z := 1000) rfl (by omega)⟩ ⟨_, rfl, _, ⟨a, ⟨by omega, by omega⟩, hxa, rfl, rfl⟩, hpo⟩ dX1_hang_82

abbrev rm_m_X1_clear : Room := { frames := 8, cells := 100, slots := 1000, locals := 10260 }
set_option maxHeartbeats 4000000 in
theorem m_X1_clear {l : Launch} {s0 : State} {G : zG} (hE : zE l s0 G) (H0 : Heap) (hO : zO s0 H0) (ρ : Ro → Nat) (σ : St) (i : Int) (hh : HC G s0 ρ σ H0) (hdm : zMn (ρ (5, 0, 0)) {} H0) (hi : zi i) : zMW l s0 yX1_clear cX1_clear 6 (some FieldType.int) [((26 : Nat), (53 : Nat), (56 : Nat), (0 : Nat)), ((56 : Nat), (61 : Nat), (56 : Nat), (0 : Nat)), ((66 : Nat), (73 : Nat), (76 : Nat), (215 : Nat))] rm_m_X1_clear [.ref (ρ (0, 0, 0)), .int (iI i)] H0 (FC G ρ σ) (HP G s0 H0 ρ σ (fun y σ' => ∃ k : Nat, (i = k ∧ k < St_na σ) ∧ σ' = (if St_nm σ k = 0 then stKn σ (St_kn σ + 1) else stCl σ k) ∧ y = (St_nm σ k : Nat))) (HX G s0 ρ σ (fun E => E = IOB ∧ ¬ inA σ i)) := by
  refine z_metW hE (by decide +kernel) (Nat.le_of_ble_eq_true rfl) ?_
  intro pp ee ss mm args below meth cd Q ls hC hml hrt hlk hnm hH hQ htb hX hS hl
  have hx := hC.x
  have hb := hC.b
  have hl : lv_has ls 6 [(0, .ref (ρ (0, 0, 0))), (1, .int (iI i))] := hl
  have hP : va_P G.1 zCl [] H0 := va_nil
  have hD : va_D (zA (FC G ρ σ) H0) [] := va_nilD
  have hMo : ∀ z, FC G ρ σ z → s0.heap.size ≤ z := fun z hz => FC.ge hh.sep hz
  have hH1 := hh
  obtain ⟨hp, hna, hal, hne9, hel9, hmr9⟩ := id hh.ok
  have hp7 : 0 < St_p σ ∧ St_p σ ≤ 7 := by rcases hp with h | h | h <;> rw [h] <;> decide
  obtain ⟨sm9, -⟩ := id hh.2.2.1.1
  have hMn := hdm
  refine lv_aload_n hx hb dX1_clear_0 rfl (lv_at hl 0 rfl) ?_
  refine lv_iload_n hx hb dX1_clear_1 rfl (lv_at hl 1 rfl) ?_
  obtain ⟨sm, hxx⟩ := id hH1.2.2.1.1
  refine z_goX 1 6 (z_runVx (As := [.int (iI i)]) (rest := []) hC hml hl.1 (m_X1_algebraAt hE H0 (hO.ext (zS_F hS) hMo) ρ σ i hH1 hi) (lw_V q1056 q1058 qs23 q62 q1059) rfl nd_X1_algebraAt rfl (z_rv hC (ci := 0) rfl hxx rfl) rfl (Nat.le_of_ble_eq_true rfl) ⟨Nat.le_of_ble_eq_true rfl, Nat.le_of_ble_eq_true rfl⟩ ⟨zfit (k := 1) (z := 100) rfl rfl (by omega), zfit (k := 6) (z := 1000) rfl rfl (by omega)⟩ dX1_clear_2) ⟨zad (k := 1) rfl (by omega), zad (k := 6) rfl (by omega)⟩ hS (fun _ z => z.elim) (fun E ce q9 Hx1 locs hp hF hS1 hce hcv hcl => ?_) (fun r H2 locs hp hF hS1 => ?_)
  · exact z_outW htb (by decide) hlk hX hS1 ⟨zle (z := 100) rfl (by omega), zle (z := 1000) rfl (by omega)⟩ hce hcv hcl (⟨⟨hp.1, hp.2⟩, hH1.ext0 hE hF⟩)
  obtain ⟨_, rfl, k, ek9, hk9, rfl⟩ := hp
  have hP := zpk hP hF
  have hP : va_P G.1 zCl ([]) H2 := hP
  have hD : va_D (zA (FC G ρ σ) H0) ([]) := hD
  have hH1 : HC G s0 ρ σ H2 := hH1.ext0 hE hF
  have hMn : zMn (ρ (5, 0, 0)) {} H2 := hMn.ext0 hF
  have hS := hS1
  have hkk := hH1.2.2.2.1 k (by omega)
  have hAk := hH1.ag (k := k) (by omega)
  obtain ⟨hn16k, -⟩ := hAk.n
  have halk := hal k (by omega)
  refine z_getn hC (k := 2) rfl in_X5 hkk.1 (by decide) q961 (fun _ h => h) rfl dX1_clear_5 ?_
  refine lv_astore_n (lv' := [(2, .ref (ρ (9, k, 0))), (0, .ref (ρ (0, 0, 0))), (1, .int (iI i))]) hx hb dX1_clear_8 rfl hl (by decide) rfl (fun ls hl => ?_)
  refine lv_aload_n hx hb dX1_clear_9 rfl (lv_at hl 0 rfl) ?_
  obtain ⟨mdl, hLb⟩ := id (hH1.2.2.2.1 (k) (by omega)).2.2.1
  refine z_go 1 6 (z_runV (As := []) (rest := []) hC hml hl.1 (m_J2_size hE H2 (hO.ext (zS_F hS) hMo) (ρ (9, k, 0)) (St_nm σ (k)) (fun i => ρ (15, k, i)) (ρ (10, k, 0)) mdl hLb) (lw_V q229 q230 q231 q65 q232) rfl nd_J2_size rfl (z_rv hC (ci := 8) rfl hLb.1 rfl) rfl (Nat.le_of_ble_eq_true rfl) ⟨Nat.le_of_ble_eq_true rfl, Nat.le_of_ble_eq_true rfl⟩ ⟨zfit (k := 0) (z := 100) rfl rfl (by omega), zfit (k := 0) (z := 1000) rfl rfl (by omega)⟩ dX1_clear_10) ⟨zad (k := 0) rfl (by omega), zad (k := 0) rfl (by omega)⟩ hS (fun _ z => z.elim) (fun r H3 locs hp hF hS1 => ?_)
  obtain ⟨_, rfl, rfl⟩ := hp
  have hP := zpk hP hF
  have hP : va_P G.1 zCl ([]) H3 := hP
  have hD : va_D (zA (FC G ρ σ) H0) ([]) := hD
  have hH1 : HC G s0 ρ σ H3 := hH1.ext0 hE hF
  have hMn : zMn (ρ (5, 0, 0)) {} H3 := hMn.ext0 hF
  have hS := hS1
  have hnk9 := (hmr9 k (by omega)).1
  refine lv_istore_n (lv' := [(3, .int (iI ((St_nm σ (k) : Nat) : Int))), (2, .ref (ρ (9, k, 0))), (0, .ref (ρ (0, 0, 0))), (1, .int (iI i))]) hx hb dX1_clear_13 rfl hl (by decide) rfl (fun ls hl => ?_)
  refine lv_iload_n hx hb dX1_clear_14 rfl (lv_at hl 0 rfl) ?_
  refine z_zle (tgt := 66) hx hb dX1_clear_15 (by decide) (by omega) (fun c4 => ?_) (fun c4 => ?_)
  · have h09 : St_nm σ k = 0 := by omega
    obtain ⟨sm, hxx⟩ := id hH1.2.2.1.1
    refine lv_aload_n hx hb dX1_clear_66 rfl (lv_at hl 2 rfl) ?_
    refine z_get hC (k := 3) rfl in_X1 hxx (by decide) q154 (fun _ h => h) rfl dX1_clear_67 ?_
    obtain ⟨t9, hdo⟩ := id hH1.2.2.1.2.2.2
    have hHb := hH1
    refine fx_notX hC hH hO hMo hml hl.1 hS (C := "Versorhall$Door") q1328 q1333 (z_rv hC (ci := 1) rfl hdo rfl) hMn (Nat.le_of_ble_eq_true rfl) dX1_clear_70 ⟨Nat.le_of_ble_eq_true rfl, Nat.le_of_ble_eq_true rfl, zle (z := 100) rfl (by omega), zle (z := 1000) rfl (by omega)⟩ (fun H5 q9 ce hF hmk hS hce hcv hcl => ?_)
    have hH1 := hHb.ext0 hE hF
    refine vx_catch hC.o [⟨46 - 20, 53, 56, 0⟩, ⟨56, 61, 56, 0⟩] ⟨66, 73, 76, 215⟩ [] (by rw [htb]; decide) (fun z hz => Or.inl (by simp only [List.mem_cons, List.not_mem_nil, or_false] at hz; rcases hz with rfl | rfl <;> decide)) (by decide) (by decide) (hC.t _ q1310) (z_cst hC q1322) hce hcv hcl ?_
    obtain ⟨sm8, hx8⟩ := id hH1.2.2.1.1
    have hP : va_P G.1 zCl [((ρ (0, 0, 0)), zOb 0 [.int (iI (St_p σ)), .ref (ρ (1, 0, 0)), .ref (ρ (3, 0, 0)), .ref (ρ (5, 0, 0)), .int (iI ((St_kn σ : Nat) : Int)), .long (lI sm8)])] H5 := zP1 hx8
    have hD : va_D (zA (FC G ρ σ) H0) [((ρ (0, 0, 0)), zOb 0 [.int (iI (St_p σ)), .ref (ρ (1, 0, 0)), .ref (ρ (3, 0, 0)), .ref (ρ (5, 0, 0)), .int (iI ((St_kn σ : Nat) : Int)), .long (lI sm8)])] := zD1 (Or.inl (FC.in hE hh.sep (dom0 0 (by omega)) (by simp)))
    refine lv_astore (lv' := [(4, .ref q9), (3, .int (iI ((St_nm σ (k) : Nat) : Int))), (2, .ref (ρ (9, k, 0))), (0, .ref (ρ (0, 0, 0))), (1, .int (iI i))]) hx hb dX1_clear_76 hl (by decide) rfl (fun ls hl => ?_)
    refine lv_aload_n hx hb dX1_clear_78 rfl (lv_at hl 3 rfl) ?_
    refine lv_dup hx hb dX1_clear_79 rfl ?_
    refine z_get hC (k := 4) rfl in_X1 (hP 0 _ rfl) (by decide) q155 (fun _ h => h) rfl dX1_clear_80 ?_
    refine lv_iconst (v := iI 1) hx hb dX1_clear_83 rfl ?_
    refine z_add hx hb (z := ((St_kn σ : Nat) : Int) + 1) dX1_clear_84 rfl ?_
    refine z_top (b := ((St_kn σ + 1 : Nat) : Int)) (by omega) ?_
    refine z_putO hC hP hD hS 0 (k := 4) rfl rfl in_X1 tyX1_ok nmX1 (by decide) q155 (fun _ h => h) rfl rfl rfl rfl (Nat.le_of_ble_eq_true rfl) (ws' := [((ρ (0, 0, 0)), zOb 0 [.int (iI (St_p σ)), .ref (ρ (1, 0, 0)), .ref (ρ (3, 0, 0)), .ref (ρ (5, 0, 0)), .int (iI ((St_kn σ + 1 : Nat) : Int)), .long (lI sm8)])]) rfl dX1_clear_85 (fun H6 locs hP hD hS hZ1 hZ2 => ?_)
    have hpo := hH1.kn (kn := St_kn σ + 1) hE (zF.one hZ1 hZ2) (hP 0 _ rfl)
    refine lv_iconst (v := iI 0) hx hb dX1_clear_88 rfl ?_
    exact z_iret hC hrt hlk hQ hS ⟨zle (z := 100) rfl (by omega), zle (z := 1000) rfl (by omega)⟩ ⟨_, rfl, _, ⟨k, ⟨by omega, by omega⟩, by rw [if_pos h09], by rw [h09]; rfl⟩, ρ, hpo, ⟨rfl, rfl⟩, fun _ w => Or.inl w⟩ dX1_clear_89
  · obtain ⟨sm, hxx⟩ := id hH1.2.2.1.1
    refine lv_aload_n hx hb dX1_clear_18 rfl (lv_at hl 2 rfl) ?_
    refine z_get hC (k := 3) rfl in_X1 hxx (by decide) q154 (fun _ h => h) rfl dX1_clear_19 ?_
    refine lv_dup hx hb dX1_clear_22 rfl ?_
    refine lv_astore (lv' := [(4, .ref (ρ (5, 0, 0))), (3, .int (iI ((St_nm σ (k) : Nat) : Int))), (2, .ref (ρ (9, k, 0))), (0, .ref (ρ (0, 0, 0))), (1, .int (iI i))]) hx hb dX1_clear_23 hl (by decide) rfl (fun ls hl => ?_)
    obtain ⟨t9, hdo⟩ := id hH1.2.2.1.2.2.2
    have hHb := hH1
    refine fx_enter hC hml hl.1 hlk (by rw [hnm]; decide) (ci := 1) hS (Or.inl (FC.in hE hh.sep (dom0 5 (by omega)) (by simp))) (by rw [hH]; exact hdm) hdo hMn (Nat.le_of_ble_eq_true rfl) dX1_clear_25 (fun cell9 H7 hc19 hc29 hdo hMn hF hS => ?_)
    have hC9 := hC
    have hC := hC9.ent (ρ (5, 0, 0)) (cell9.withEntry ss.cur)
    have hFb : zF (mZ G ρ (k)) H3 H7 := mZ.d hF
    have hH1 := hHb.door hE hF hdo
    have hP : va_P G.1 zCl [] H7 := va_nil
    refine fx_aload_n hx hb dX1_clear_26 rfl (lv_at hl 2 rfl) ?_
    have hl9 := hh.lt hE hO _ (domA 9 k (by omega) (by omega))
    have hl10 := hh.lt hE hO _ (domA 10 k (by omega) (by omega))
    have hl5 := hh.lt hE hO _ (dom0 5 (by omega))
    have h59 : (ρ (5, 0, 0)) ≠ (ρ (9, k, 0)) := hh.sep.ne hE (dom0 5 (by omega)) (domA 9 k (by omega) (by omega)) (fun y => by cases y) (by simp)
    have h510 : (ρ (5, 0, 0)) ≠ (ρ (10, k, 0)) := hh.sep.ne hE (dom0 5 (by omega)) (domA 10 k (by omega) (by omega)) (fun y => by cases y) (by simp)
    obtain ⟨mdl, hLb⟩ := id (hH1.2.2.2.1 (k) (by omega)).2.2.1
    obtain ⟨hn10, h1012, hR10⟩ := hLb.2.resolve_left (fun z => by have := z.2; omega)
    obtain ⟨sm8, hx8⟩ := id hH1.2.2.1.1
    have hMb := hMn
    have hdb := hdo
    refine fx_go 1 6 (fx_runV (mr := 1) (As := []) (rest := []) hC hml hl.1 (m_J2_clear hE H7 (hO.ext (zS_F hS) hMo) (ρ (9, k, 0)) (St_nm σ k) (fun i => ρ (15, k, i)) (ρ (10, k, 0)) mdl (hh.sep.ge (domA 9 k (by omega) (by omega)) (by simp)) ((hh.sep.1 _ (domA 10 k (by omega) (by omega))).resolve_right (fun y => h1012 y.1)) (hh.sep.ne hE (domA 9 k (by omega) (by omega)) (domA 10 k (by omega) (by omega)) (fun y => by cases y) (by simp)) (by omega) hLb.1 hR10) (lw_V q1324 q1325 q1326 q65 q1327) rfl nd_J2_clear rfl (z_rv hC (ci := 8) rfl hLb.1 rfl) rfl (Nat.le_of_ble_eq_true rfl) ⟨Nat.le_of_ble_eq_true rfl, Nat.le_of_ble_eq_true rfl⟩ ⟨zfit (k := 0) (z := 100) rfl rfl (by omega), zfit (k := 0) (z := 1000) rfl rfl (by omega)⟩ dX1_clear_27) ⟨zad (k := 0) rfl (by omega), zad (k := 0) rfl (by omega)⟩ hS (fun z hz => Or.inl (hz.elim (fun w => w ▸ FC.in hE hh.sep (domA 9 k (by omega) (by omega)) (by simp)) (fun w => ⟨by rw [w]; exact h1012, (10, k, 0), domA 10 k (by omega) (by omega), w.symm⟩))) (fun r H8 locs hp hF hS1 => ?_)
    obtain ⟨rfl, hq1, hq2⟩ := hp
    have hP : va_P G.1 zCl [] H8 := va_nil
    have hD : va_D (zA (FC G ρ σ) H0) [] := va_nilD
    have hx9 := hx8.ext hF (fun z => z.elim (fun w => hh.sep.ne hE (dom0 0 (by omega)) (domA 9 k (by omega) (by omega)) (fun y => by cases y) (by simp) w) (fun w => hh.sep.ne hE (dom0 0 (by omega)) (domA 10 k (by omega) (by omega)) (fun y => by cases y) (by simp) w))
    have hMn := hMb.ext hF (fun z => z.elim h59 h510)
    have hdo := hdb.ext hF (fun z => z.elim h59 h510)
    have hFb := hFb.trans (mZ.l (hF.mono (fun q _ w => w.imp id (fun w => ⟨w, h1012⟩))))
    have hL1 : zLs G (ρ (9, k, 0)) 0 (fun i => ρ (15, k, i)) (ρ (10, k, 0)) (mdl + 1) H8 := ⟨hq1, Or.inr ⟨by omega, h1012, hq2⟩⟩
    have hP : va_P G.1 zCl ([]) H8 := hP
    have hD : va_D (zA (FC G ρ σ) H0) ([]) := hD
    have hS := hS1
    refine fx_aload_n hx hb dX1_clear_30 rfl (lv_at hl 3 rfl) ?_
    refine fx_get hC (k := 3) rfl in_X1 hx9 (by decide) q154 (fun _ h => h) rfl dX1_clear_31 ?_
    refine fx_dup hx hb dX1_clear_34 rfl ?_
    refine fx_getn hC (k := 0) rfl in_X2 hdo (by decide) q145 (fun _ h => h) rfl dX1_clear_35 ?_
    refine fx_iconst (v := iI 1) hx hb dX1_clear_38 rfl ?_
    refine fx_iadd hx hb dX1_clear_39 ?_
    rw [iI_add]
    refine fx_putn hC hS (ci := 1) (k := 0) hdo hMn (Or.inl (FC.in hE hh.sep (dom0 5 (by omega)) (by simp))) rfl in_X2 tyX2_ok nmX2 (by decide) q145 (fun _ h => h) rfl rfl rfl rfl (Nat.le_of_ble_eq_true rfl) dX1_clear_40 (fun H9 locs hdo hMn hS hF => ?_)
    have hdo : zAt G (ρ (5, 0, 0)) (zOb 1 [.int (iI (t9 + 1))]) H9 := hdo
    have hFb := hFb.trans (mZ.d hF)
    have hx9 := hx9.ext hF (fun z => hh.sep.ne hE (dom0 0 (by omega)) (dom0 5 (by omega)) (fun y => by cases y) (by simp) z)
    have hL1 := hL1.ext hF (fun z => h59 z.symm) (fun _ z => h510 z.symm)
    refine fx_aload_n hx hb dX1_clear_43 rfl (lv_at hl 3 rfl) ?_
    refine fx_get hC (k := 3) rfl in_X1 hx9 (by decide) q154 (fun _ h => h) rfl dX1_clear_44 ?_
    refine fx_note hC hml hl.1 (C := "Versorhall$Door") q1328 q1330 q1352 q1329 q1333 (z_rv hC (ci := 1) rfl hdo rfl) hMn (zr_pay1 (hC.t _ q1352) (hC.t _ q1329) (Nat.le_of_ble_eq_true rfl) (Nat.le_of_ble_eq_true rfl)) (Nat.le_of_ble_eq_true rfl) dX1_clear_47 ?_
    refine fx_aload hx hb dX1_clear_50 (lv_at hl 0 rfl) ?_
    refine fx_exit hC9 (ci := 1) hS (Or.inl (FC.in hE hh.sep (dom0 5 (by omega)) (by simp))) hc19 hc29 hdo hMn dX1_clear_52 (fun H10 hdo hMn hF hS => ?_)
    have hC := hC9
    have hFb := hFb.trans (mZ.d hF)
    have hL1 := hL1.ext hF (fun z => h59 z.symm) (fun _ z => h510 z.symm)
    refine fx_goto (tgt := 64) hx hb dX1_clear_53 (by decide) ?_
    refine fx_iload_n hx hb dX1_clear_64 rfl (lv_at hl 1 rfl) ?_
    have hpo : HC G s0 ρ (stCl σ k) H10 := HC.nomi hE hHb hFb (by omega) hdo hL1
    exact fx_iret hC hrt hlk hQ hS ⟨zle (z := 100) rfl (by omega), zle (z := 1000) rfl (by omega)⟩ ⟨_, rfl, _, ⟨k, ⟨by omega, by omega⟩, by rw [if_neg (by omega)], rfl⟩, ρ, hpo, ⟨rfl, rfl⟩, fun z w => Or.inl ⟨w.1, w.2.elim (fun a9 h9 => ⟨a9, stCl_dom h9.1, h9.2⟩)⟩⟩ dX1_clear_65

