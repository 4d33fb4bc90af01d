/-! THE MODEL: mirrors are hung; they are taken down -/
set_option maxRecDepth 100000
abbrev rm_m_X3_hang : Room := { frames := 7, cells := 60, slots := 800, locals := 221 }
set_option maxHeartbeats 4000000 in
theorem m_X3_hang {l : Launch} {s0 : State} {G : zG} (hE : zE l s0 G) (H0 : Heap) (hO : zO s0 H0) (μ : Ro → Nat) (σ : St) (th : Int) (i : Int) (hh : HM G s0 μ σ th H0) (hi : zi i) : zM l s0 yX3_hang cX3_hang 3 (some FieldType.int) rm_m_X3_hang [.ref (μ (0, 0, 0)), .int (iI i)] H0 (FM G μ σ) (HPM G s0 H0 μ σ [IOB, ISE] ((fun y σ' => ∃ a : Nat, (i = a ∧ a < St_ne σ) ∧ XHa σ a ∧ σ' = stMi σ (St_ea σ a) (St_ev σ a) ∧ y = (St_nm σ (St_ea σ a) + 1 : Nat))) ((X1s σ i (fun a => ¬ XHa σ a)))) := by
  refine z_met hE (by decide +kernel) (Nat.le_of_ble_eq_true rfl) ?_
  intro pp ee ss mm args below meth cd Q ls hC hml hrt hlk hnm hH hQ hS hl
  have hx := hC.x
  have hb := hC.b
  have hl : lv_has ls 3 [(0, .ref (μ (0, 0, 0))), (1, .int (iI i))] := hl
  have hP : va_P G.1 zCl [] H0 := va_nil
  have hD : va_D (zA (FM G μ σ) H0) [] := va_nilD
  have hMo : ∀ z, (FM G μ σ) z → s0.heap.size ≤ z := fun z hz => FM.ge hh.sep hz
  have hH1 := hh
  obtain ⟨hp, hna, hal, hne9, hel9, hmr9⟩ := id hh.ok
  have hp7 : 0 < St_p σ ∧ St_p σ ≤ 7 := by rcases hp with h | h | h <;> rw [h] <;> decide
  have hP : va_P G.1 zCl [((μ (0, 0, 0)), zOb 2 [.int (iI th), .int (iI (St_p σ)), .int (iI ((St_kn σ : Nat) : Int)), .ref (μ (1, 0, 0)), .ref (μ (3, 0, 0))])] H0 := zP1 hh.2.2.1.1
  have hD : va_D (zA (FM G μ σ) H0) [((μ (0, 0, 0)), zOb 2 [.int (iI th), .int (iI (St_p σ)), .int (iI ((St_kn σ : Nat) : Int)), .ref (μ (1, 0, 0)), .ref (μ (3, 0, 0))])] := zD1 (Or.inl (FM.in hE hh.sep (domM0 0 (by omega)) (by simp [rAm])))
  refine lv_aload_n hx hb dX3_hang_0 rfl (lv_at hl 0 rfl) ?_
  refine lv_iconst (v := iI 0) hx hb dX3_hang_1 rfl ?_
  refine z_putO hC hP hD hS 0 (k := 0) rfl rfl in_X3 tyX3_ok nmX3 (by decide) q1495 (fun _ h => h) rfl rfl rfl rfl (Nat.le_of_ble_eq_true rfl) (ws' := [((μ (0, 0, 0)), zOb 2 [.int (iI 0), .int (iI (St_p σ)), .int (iI ((St_kn σ : Nat) : Int)), .ref (μ (1, 0, 0)), .ref (μ (3, 0, 0))])]) rfl dX3_hang_2 (fun H1 locs hP hD hS hZ1 hZ2 => ?_)
  have hH1 : HM G s0 μ σ 0 H1 := HM.thr hE hH1 (zF.one hZ1 hZ2) (hP 0 _ rfl)
  have hP : va_P G.1 zCl [] H1 := va_nil
  have hD : va_D (zA (FM G μ σ) H0) [] := va_nilD
  refine lv_aload_n hx hb dX3_hang_5 rfl (lv_at hl 0 rfl) ?_
  refine lv_iload_n hx hb dX3_hang_6 rfl (lv_at hl 1 rfl) ?_
  refine z_go 0 0 (z_runV (As := [.int (iI i)]) (rest := []) hC hml hl.1 (m_X3_isElement hE H1 (hO.ext (zS_F hS) hMo) μ σ 0 i hH1 hi) (lw_V q1650 q1652 qs35 q67 q1653) rfl nd_X3_isElement rfl (z_rv hC (ci := 2) rfl hH1.2.2.1.1 rfl) rfl (Nat.le_of_ble_eq_true rfl) ⟨Nat.le_of_ble_eq_true rfl, Nat.le_of_ble_eq_true rfl⟩ ⟨zfit (k := 0) (z := 60) rfl rfl (by omega), zfit (k := 0) (z := 800) rfl rfl (by omega)⟩ dX3_hang_7) ⟨zad (k := 0) rfl (by omega), zad (k := 0) rfl (by omega)⟩ hS (fun _ z => z.elim) (fun r H2 locs hp hF hS1 => ?_)
  obtain ⟨_, rfl, rfl⟩ := hp
  have hP := zpk hP hF
  have hP : va_P G.1 zCl ([]) H2 := hP
  have hD : va_D (zA (FM G μ σ) H0) ([]) := hD
  have hH1 : HM G s0 μ σ 0 H2 := hH1.ext0 hE hF
  have hS := hS1
  obtain ⟨fl, hfl, hfl2⟩ : ∃ fl : Nat, fl ≤ 1 ∧ (if 0 ≤ i ∧ i < (((St_ne σ) : Nat) : Int) then (1 : Int) else 0) = fl ∧ (fl = 1 ↔ 0 ≤ i ∧ i < (((St_ne σ) : Nat) : Int)) := by by_cases h : 0 ≤ i ∧ i < (((St_ne σ) : Nat) : Int); exact ⟨1, by decide, by rw [if_pos h]; rfl, ⟨fun _ => h, fun _ => rfl⟩⟩; exact ⟨0, by decide, by rw [if_neg h]; rfl, ⟨fun z => absurd z (by decide), fun z => absurd z h⟩⟩
  refine z_top (b := ((fl : Nat) : Int)) (hfl2.1) ?_
  refine z_zne (tgt := 19) hx hb dX3_hang_10 (by decide) (by omega) (fun c3 => ?_) (fun c3 => ?_)
  · have hok9 := hfl2.2.mp (by omega)
    obtain ⟨a, rfl⟩ : ∃ a : Nat, i = a := ⟨i.toNat, by omega⟩
    have ha9 : a < St_ne σ := by omega
    have hea := hh.ea (j := a) (by omega)
    have hnm9 := (hmr9 _ hea).1
    refine lv_aload_n hx hb dX3_hang_19 rfl (lv_at hl 0 rfl) ?_
    refine lv_iload_n hx hb dX3_hang_20 rfl (lv_at hl 1 rfl) ?_
    refine z_go 0 0 (z_runV (As := [.int (iI ((a : Nat) : Int))]) (rest := []) hC hml hl.1 (m_X3_home hE H2 (hO.ext (zS_F hS) hMo) μ σ 0 a hH1 (by omega)) (lw_V q1682 q1684 qs40 q67 q1685) rfl nd_X3_home rfl (z_rv hC (ci := 2) rfl hH1.2.2.1.1 rfl) rfl (Nat.le_of_ble_eq_true rfl) ⟨Nat.le_of_ble_eq_true rfl, Nat.le_of_ble_eq_true rfl⟩ ⟨zfit (k := 0) (z := 60) rfl rfl (by omega), zfit (k := 0) (z := 800) rfl rfl (by omega)⟩ dX3_hang_21) ⟨zad (k := 0) rfl (by omega), zad (k := 0) rfl (by omega)⟩ hS (fun _ z => z.elim) (fun r H4 locs hp hF hS1 => ?_)
    obtain ⟨_, rfl, rfl⟩ := hp
    have hP := zpk hP hF
    have hP : va_P G.1 zCl ([]) H4 := hP
    have hD : va_D (zA (FM G μ σ) H0) ([]) := hD
    have hH1 : HM G s0 μ σ 0 H4 := hH1.ext0 hE hF
    have hS := hS1
    have hASt_eaσa := hH1.al (k := St_ea σ a) hea
    have hn16St_eaσa := hH1.n (k := St_ea σ a) hea
    refine z_get hC (k := 4) rfl in_X6 hASt_eaσa.1 (by decide) q1557 (fun _ h => h) rfl dX3_hang_24 ?_
    refine lv_astore_n (lv' := [(2, .ref (μ (9, St_ea σ a, 0))), (0, .ref (μ (0, 0, 0))), (1, .int (iI ((a : Nat) : Int)))]) hx hb dX3_hang_27 rfl hl (by decide) rfl (fun ls hl => ?_)
    refine lv_aload_n hx hb dX3_hang_28 rfl (lv_at hl 1 rfl) ?_
    refine lv_iload_n hx hb dX3_hang_29 rfl (lv_at hl 2 rfl) ?_
    refine z_go 0 0 (z_runV (As := [.int (iI ((a : Nat) : Int))]) (rest := []) hC hml hl.1 (m_X3_isVector hE H4 (hO.ext (zS_F hS) hMo) μ σ 0 a hH1 (by omega)) (lw_V q1761 q1763 qs46 q67 q1764) rfl nd_X3_isVector rfl (z_rv hC (ci := 2) rfl hH1.2.2.1.1 rfl) rfl (Nat.le_of_ble_eq_true rfl) ⟨Nat.le_of_ble_eq_true rfl, Nat.le_of_ble_eq_true rfl⟩ ⟨zfit (k := 0) (z := 60) rfl rfl (by omega), zfit (k := 0) (z := 800) rfl rfl (by omega)⟩ dX3_hang_30) ⟨zad (k := 0) rfl (by omega), zad (k := 0) rfl (by omega)⟩ hS (fun _ z => z.elim) (fun r H5 locs hp hF hS1 => ?_)
    obtain ⟨_, rfl, rfl⟩ := hp
    have hP := zpk hP hF
    have hP : va_P G.1 zCl ([]) H5 := hP
    have hD : va_D (zA (FM G μ σ) H0) ([]) := hD
    have hH1 : HM G s0 μ σ 0 H5 := hH1.ext0 hE hF
    have hS := hS1
    refine z_zeq (tgt := 55) hx hb dX3_hang_33 (by decide) (by unfold b2i; split <;> omega) (fun cv => ?_) (fun cv => ?_)
    · refine lv_aload_n hx hb dX3_hang_55 rfl (lv_at hl 1 rfl) ?_
      refine lv_iconst (v := iI 2) hx hb dX3_hang_56 rfl ?_
      have hHb := hH1
      refine z_go 0 0 (z_runV (As := [.int (iI 2)]) (rest := []) hC hml hl.1 (m_X3_no hE H5 (hO.ext (zS_F hS) hMo) μ σ 0 2 hHb) (lw_V q1520 q1522 qs29 q67 q1523) rfl nd_X3_no rfl (z_rv hC (ci := 2) rfl hHb.2.2.1.1 rfl) rfl (Nat.le_of_ble_eq_true rfl) ⟨Nat.le_of_ble_eq_true rfl, Nat.le_of_ble_eq_true rfl⟩ ⟨zfit (k := 0) (z := 60) rfl rfl (by omega), zfit (k := 0) (z := 800) rfl rfl (by omega)⟩ dX3_hang_57) ⟨zad (k := 0) rfl (by omega), zad (k := 0) rfl (by omega)⟩ hS (fun z hz => Or.inl (hz ▸ FM.in hE hh.sep (domM0 0 (by omega)) (by simp [rAm]))) (fun r H6 locs hp hF hS1 => ?_)
      obtain ⟨_, rfl, rfl, hx9⟩ := hp
      have hP : va_P G.1 zCl [] H6 := va_nil
      have hD : va_D (zA (FM G μ σ) H0) [] := va_nilD
      have hP : va_P G.1 zCl ([]) H6 := hP
      have hD : va_D (zA (FM G μ σ) H0) ([]) := hD
      have hS := hS1
      have hH9 : HM G s0 μ σ ((2 : Nat) : Int) H6 := HM.thr hE hHb hF hx9
      exact z_iret hC hrt hlk hQ hS ⟨zle (z := 60) rfl (by omega), zle (z := 800) rfl (by omega)⟩ ⟨_, rfl, 2, σ, PoM.same hH9, Or.inr ⟨by decide, rfl, by decide, Or.inr ⟨rfl, inE_n (by omega), fun z => by have z : XHa σ a := z; have h9 := ((veB_sq hp).mp z.1).1; rw [b2i_z cv] at h9; cases h9⟩⟩⟩ dX3_hang_60
    · refine lv_aload_n hx hb dX3_hang_36 rfl (lv_at hl 1 rfl) ?_
      refine lv_iload_n hx hb dX3_hang_37 rfl (lv_at hl 2 rfl) ?_
      refine z_go 1 16 (z_runV (As := [.int (iI ((a : Nat) : Int))]) (rest := []) hC hml hl.1 (m_X3_squareOf hE H5 (hO.ext (zS_F hS) hMo) μ σ 0 a hH1 (by omega)) (lw_V q1766 q1768 qs47 q67 q1769) rfl nd_X3_squareOf rfl (z_rv hC (ci := 2) rfl hH1.2.2.1.1 rfl) rfl (Nat.le_of_ble_eq_true rfl) ⟨Nat.le_of_ble_eq_true rfl, Nat.le_of_ble_eq_true rfl⟩ ⟨zfit (k := 1) (z := 60) rfl rfl (by omega), zfit (k := 16) (z := 800) rfl rfl (by omega)⟩ dX3_hang_38) ⟨zad (k := 1) rfl (by omega), zad (k := 16) rfl (by omega)⟩ hS (fun _ z => z.elim) (fun r H7 locs hp hF hS1 => ?_)
      obtain ⟨_, rfl, rfl⟩ := hp
      have hP := zpk hP hF
      have hP : va_P G.1 zCl ([]) H7 := hP
      have hD : va_D (zA (FM G μ σ) H0) ([]) := hD
      have hH1 : HM G s0 μ σ 0 H7 := hH1.ext0 hE hF
      have hS := hS1
      have htb := tmV_ok hp (St_n σ (St_ea σ a)) (St_sg σ (St_ea σ a)) (St_ev σ a) (St_ev σ a) 0 (by have := hh.n hea; omega)
      refine z_zeq (tgt := 55) hx hb dX3_hang_41 (by decide) (by omega) (fun c8 => ?_) (fun c8 => ?_)
      · refine lv_aload_n hx hb dX3_hang_55 rfl (lv_at hl 1 rfl) ?_
        refine lv_iconst (v := iI 2) hx hb dX3_hang_56 rfl ?_
        have hHb := hH1
        refine z_go 1 16 (z_runV (As := [.int (iI 2)]) (rest := []) hC hml hl.1 (m_X3_no hE H7 (hO.ext (zS_F hS) hMo) μ σ 0 2 hHb) (lw_V q1520 q1522 qs29 q67 q1523) rfl nd_X3_no rfl (z_rv hC (ci := 2) rfl hHb.2.2.1.1 rfl) rfl (Nat.le_of_ble_eq_true rfl) ⟨Nat.le_of_ble_eq_true rfl, Nat.le_of_ble_eq_true rfl⟩ ⟨zfit (k := 0) (z := 60) rfl rfl (by omega), zfit (k := 0) (z := 800) rfl rfl (by omega)⟩ dX3_hang_57) ⟨zad (k := 0) rfl (by omega), zad (k := 0) rfl (by omega)⟩ hS (fun z hz => Or.inl (hz ▸ FM.in hE hh.sep (domM0 0 (by omega)) (by simp [rAm]))) (fun r H9 locs hp hF hS1 => ?_)
        obtain ⟨_, rfl, rfl, hx9⟩ := hp
        have hP : va_P G.1 zCl [] H9 := va_nil
        have hD : va_D (zA (FM G μ σ) H0) [] := va_nilD
        have hP : va_P G.1 zCl ([]) H9 := hP
        have hD : va_D (zA (FM G μ σ) H0) ([]) := hD
        have hS := hS1
        have hH9 : HM G s0 μ σ ((2 : Nat) : Int) H9 := HM.thr hE hHb hF hx9
        exact z_iret hC hrt hlk hQ hS ⟨zle (z := 60) rfl (by omega), zle (z := 800) rfl (by omega)⟩ ⟨_, rfl, 2, σ, PoM.same hH9, Or.inr ⟨by decide, rfl, by decide, Or.inr ⟨rfl, inE_n (by omega), fun z => by have z : XHa σ a := z; exact absurd ((veB_sq hp).mp z.1).2 (fun w => w (by assumption))⟩⟩⟩ dX3_hang_60
      · refine lv_aload_n hx hb dX3_hang_44 rfl (lv_at hl 0 rfl) ?_
        obtain ⟨mdk, hLk⟩ := id (hH1.al (k := St_ea σ a) (by omega)).2.2.1
        refine z_go5 1 16 (z_runF (n := 0) (As := []) (rest := []) (ci := 8) hC hml hl.1 (m_J2_size hE H7 (hO.ext (zS_F hS) hMo) (μ (9, St_ea σ a, 0)) (St_nm σ (St_ea σ a)) (fun i => μ (15, St_ea σ a, i)) (μ (10, St_ea σ a, 0)) mdk hLk) q232 q1525 q1529 q230 q65 q1527 q1526 q1531 q1530 q1528 ⟨by decide +kernel, by decide +kernel, by decide +kernel⟩ rfl rfl rfl (z_rv hC (ci := 8) rfl hLk.1 rfl) rfl (Nat.le_of_ble_eq_true rfl) ⟨Nat.le_of_ble_eq_true rfl, Nat.le_of_ble_eq_true rfl⟩ ⟨zfit (k := 0) (z := 60) rfl rfl (by omega), zfit (k := 0) (z := 800) rfl rfl (by omega)⟩ dX3_hang_45) ⟨zad (k := 0) rfl (by omega), zad (k := 0) rfl (by omega)⟩ hS (fun _ z => z.elim) (fun r H10 locs hp hF hS1 => ?_)
        obtain ⟨_, rfl, rfl⟩ := hp
        have hP := zpk hP hF
        have hP : va_P G.1 zCl ([]) H10 := hP
        have hD : va_D (zA (FM G μ σ) H0) ([]) := hD
        have hH1 : HM G s0 μ σ 0 H10 := hH1.ext0 hE hF
        have hS := hS1
        refine lv_bipush (v := iI 6) hx hb dX3_hang_50 (by decide) ?_
        refine z_cne (tgt := 61) hx hb dX3_hang_52 (by decide) (by omega) (fun c11 => ?_) (fun c11 => ?_)
        · have hxa : XHa σ a := ⟨(veB_sq hp).mpr ⟨b2i_nz cv, by omega⟩, by omega⟩
          refine lv_aload_n hx hb dX3_hang_61 rfl (lv_at hl 0 rfl) ?_
          refine lv_aload_n hx hb dX3_hang_62 rfl (lv_at hl 1 rfl) ?_
          refine lv_iload_n hx hb dX3_hang_63 rfl (lv_at hl 2 rfl) ?_
          refine z_go 1 16 (z_runV (As := [.int (iI ((a : Nat) : Int))]) (rest := [.ref (μ (9, St_ea σ a, 0))]) hC hml hl.1 (m_X3_home hE H10 (hO.ext (zS_F hS) hMo) μ σ 0 a hH1 (by omega)) (lw_V q1682 q1684 qs40 q67 q1685) rfl nd_X3_home rfl (z_rv hC (ci := 2) rfl hH1.2.2.1.1 rfl) rfl (Nat.le_of_ble_eq_true rfl) ⟨Nat.le_of_ble_eq_true rfl, Nat.le_of_ble_eq_true rfl⟩ ⟨zfit (k := 0) (z := 60) rfl rfl (by omega), zfit (k := 0) (z := 800) rfl rfl (by omega)⟩ dX3_hang_64) ⟨zad (k := 0) rfl (by omega), zad (k := 0) rfl (by omega)⟩ hS (fun _ z => z.elim) (fun r H12 locs hp hF hS1 => ?_)
          obtain ⟨_, rfl, rfl⟩ := hp
          have hP := zpk hP hF
          have hP : va_P G.1 zCl ([]) H12 := hP
          have hD : va_D (zA (FM G μ σ) H0) ([]) := hD
          have hH1 : HM G s0 μ σ 0 H12 := hH1.ext0 hE hF
          have hS := hS1
          have hRa := (hH1.el (j := a) (by omega)).2
          have hVa := hH1.row (j := a) (by omega)
          refine lv_aload_n hx hb dX3_hang_67 rfl (lv_at hl 1 rfl) ?_
          refine lv_iload_n hx hb dX3_hang_68 rfl (lv_at hl 2 rfl) ?_
          refine z_go 1 16 (z_runV (As := [.int (iI ((a : Nat) : Int))]) (rest := [.ref (μ (6, St_ea σ a, 0)), .ref (μ (9, St_ea σ a, 0))]) hC hml hl.1 (m_X3_row hE H12 (hO.ext (zS_F hS) hMo) μ σ 0 a hH1 (by omega)) (lw_V q1654 q1656 qs36 q67 q1657) rfl nd_X3_row rfl (z_rv hC (ci := 2) rfl hH1.2.2.1.1 rfl) rfl (Nat.le_of_ble_eq_true rfl) ⟨Nat.le_of_ble_eq_true rfl, Nat.le_of_ble_eq_true rfl⟩ ⟨zfit (k := 0) (z := 60) rfl rfl (by omega), zfit (k := 0) (z := 800) rfl rfl (by omega)⟩ dX3_hang_69) ⟨zad (k := 0) rfl (by omega), zad (k := 0) rfl (by omega)⟩ hS (fun _ z => z.elim) (fun r H13 locs hp hF hS1 => ?_)
          obtain ⟨_, rfl, rfl⟩ := hp
          have hP := zpk hP hF
          have hP : va_P G.1 zCl ([]) H13 := hP
          have hD : va_D (zA (FM G μ σ) H0) ([]) := hD
          have hH1 : HM G s0 μ σ 0 H13 := hH1.ext0 hE hF
          have hS := hS1
          have hRa := (hH1.el (j := a) (by omega)).2
          have hVa := hH1.row (j := a) (by omega)
          refine lv_iconst (v := iI 1) hx hb dX3_hang_72 rfl ?_
          have hva0 := hVa
          have hsz9 : H0.size ≤ H13.size := hS.1
          have hUSt_eaσa := hH1.al (k := St_ea σ a) hea
          refine z_go 2 32 (z_runV (As := [.ref (μ (14, a, 0)), .int (iI 1)]) (rest := [.ref (μ (9, St_ea σ a, 0))]) hC hml hl.1 (m_X6_scaled hE H13 (hO.ext (zS_F hS) hMo) μ σ 0 (St_ea σ a) (μ (14, a, 0)) (St_ev σ a) 1 hH1 hea hRa hVa (by decide)) (lw_V q1694 q1695 q1696 q82 q1697) rfl nd_X6_scaled rfl (z_rv hC (ci := 5) rfl hUSt_eaσa.1 rfl) rfl (Nat.le_of_ble_eq_true rfl) ⟨Nat.le_of_ble_eq_true rfl, Nat.le_of_ble_eq_true rfl⟩ ⟨zfit (k := 1) (z := 60) rfl rfl (by omega), zfit (k := 16) (z := 800) rfl rfl (by omega)⟩ dX3_hang_73) ⟨zad (k := 1) rfl (by omega), zad (k := 16) rfl (by omega)⟩ hS (fun _ z => z.elim) (fun r H15 locs hp hF hS1 => ?_)
          obtain ⟨qr14, rfl, hN⟩ := hp
          obtain ⟨hP, hD⟩ := zjn hP hD hS.1 hF hN
          have hP : va_P G.1 zCl ([(qr14, zI G (St_n σ (St_ea σ a)) (scV (St_p σ) 1 (St_ev σ a)))]) H15 := hP
          have hD : va_D (zA (FM G μ σ) H0) ([(qr14, zI G (St_n σ (St_ea σ a)) (scV (St_p σ) 1 (St_ev σ a)))]) := hD
          have hH1 : HM G s0 μ σ 0 H15 := hH1.ext0 hE hF
          have hS := hS1
          have hNwqr14 : H0.size ≤ qr14 := Nat.le_trans hsz9 (hN.2.2 0 _ rfl)
          have hP : va_P G.1 zCl ([(qr14, zI G (St_n σ (St_ea σ a)) (St_ev σ a))]) H15 := zcI hP 0 rfl (sc1 hp hva0)
          have hD : va_D (zA (FM G μ σ) H0) ([(qr14, zI G (St_n σ (St_ea σ a)) (St_ev σ a))]) := hD.set (p := 0) rfl
          have hDn : va_D (fun z => H0.size ≤ z) [(qr14, zI G (St_n σ (St_ea σ a)) (St_ev σ a))] := zD1 hNwqr14
          obtain ⟨mdl, hLb⟩ := id (hH1.al (k := St_ea σ a) (by omega)).2.2.1
          have hHb := hH1
          have hPb := hP
          have hl19 := hh.lt hE hO _ (domMA 9 (St_ea σ a) (by omega) (by omega))
          have hl29 := hh.lt hE hO _ (domMA 10 (St_ea σ a) (by omega) (by omega))
          have hxn9 : H0.size ≤ qr14 := hDn.2 0 _ rfl
          have hxne : qr14 ≠ (μ (9, St_ea σ a, 0)) := by omega
          have hHbs : H0.size ≤ H15.size := hS.1
          have hsep9 : (μ (10, St_ea σ a, 0)) ≠ G.2 12 → s0.heap.size ≤ (μ (10, St_ea σ a, 0)) ∧ (μ (9, St_ea σ a, 0)) ≠ (μ (10, St_ea σ a, 0)) := fun w => ⟨(hh.sep.1 _ (domMA 10 (St_ea σ a) (by omega) (by omega))).resolve_right (fun y => w y.1), hh.sep.ne hE (domMA 9 (St_ea σ a) (by omega) (by omega)) (domMA 10 (St_ea σ a) (by omega) (by omega)) (fun y => by cases y) (by simp [rAm])⟩
          have hx8 := hH1.2.2.1.1
          refine z_go5 3 42 (z_runF (n := 1) (As := [.ref qr14]) (rest := []) (ci := 8) hC hml hl.1 (m_J2_add hE H15 (hO.ext (zS_F hS) hMo) (μ (9, St_ea σ a, 0)) (St_nm σ (St_ea σ a)) (fun i => μ (15, St_ea σ a, i)) (μ (10, St_ea σ a, 0)) mdl qr14 (hh.sep.ge (domMA 9 (St_ea σ a) (by omega) (by omega)) (by simp [rAm])) hsep9 (by omega) hLb (zAny.int hE (hPb 0 _ rfl) q1990) hxne) q980 q1573 q1576 q978 q65 q1575 q1574 q1578 q1577 q1528 ⟨by decide +kernel, by decide +kernel, by decide +kernel⟩ rfl rfl rfl (z_rv hC (ci := 8) rfl hLb.1 rfl) rfl (Nat.le_of_ble_eq_true rfl) ⟨Nat.le_of_ble_eq_true rfl, Nat.le_of_ble_eq_true rfl⟩ ⟨zfit (k := 1) (z := 60) rfl rfl (by omega), zfit (k := 10) (z := 800) rfl rfl (by omega)⟩ dX3_hang_76) ⟨zad (k := 1) rfl (by omega), zad (k := 10) rfl (by omega)⟩ hS (fun z hz => Or.inl (hz.elim (fun w => w ▸ FM.in hE hh.sep (domMA 9 (St_ea σ a) (by omega) (by omega)) (by simp [rAm])) (fun w => ⟨by rw [w.1]; exact w.2, (10, St_ea σ a, 0), domMA 10 (St_ea σ a) (by omega) (by omega), w.1.symm⟩))) (fun r H16 locs hp hF hS1 => ?_)
          obtain ⟨_, rfl, rfl, arr1, hL1, hor⟩ := hp
          have hP : va_P G.1 zCl [(qr14, zI G (St_n σ (St_ea σ a)) (St_ev σ a))] H16 := zkeep hPb hDn hF (fun z hz => by rcases hz with hz | hz <;> omega)
          have hx9 := hx8.ext hF (fun z => z.elim (fun w => by have := hh.sep.ne hE (domM0 0 (by omega)) (domMA 9 (St_ea σ a) (by omega) (by omega)) (fun y => by cases y) (by simp [rAm]); exact this w) (fun w => by have := hh.sep.ne hE (domM0 0 (by omega)) (domMA 10 (St_ea σ a) (by omega) (by omega)) (fun y => by cases y) (by simp [rAm]); exact this w.1))
          have hP : va_P G.1 zCl ([(qr14, zI G (St_n σ (St_ea σ a)) (St_ev σ a))]) H16 := hP
          have hD : va_D (zA (FM G μ σ) H0) ([(qr14, zI G (St_n σ (St_ea σ a)) (St_ev σ a))]) := hD
          have hS := hS1
          have hHPo : PoM G s0 H0 μ σ (stMi σ (St_ea σ a) (St_ev σ a)) 0 H16 := HM.newmi hE hO hh hHb hF (by omega) hxa.2 ⟨a, by omega, rfl⟩ hva0 hxa.1 hNwqr14 (hor.imp id (fun z => Nat.le_trans hHbs z)) hL1 (hP 0 _ rfl)
          refine lv_pop hx hb dX3_hang_81 rfl ?_
          refine lv_aload_n hx hb dX3_hang_82 rfl (lv_at hl 0 rfl) ?_
          refine z_go5 3 42 (z_runF (n := 0) (As := []) (rest := []) (ci := 8) hC hml hl.1 (m_J2_size hE H16 (hO.ext (zS_F hS) hMo) (μ (9, St_ea σ a, 0)) (St_nm σ (St_ea σ a) + 1) _ arr1 _ hL1) q232 q1525 q1529 q230 q65 q1527 q1526 q1531 q1530 q1528 ⟨by decide +kernel, by decide +kernel, by decide +kernel⟩ rfl rfl rfl (z_rv hC (ci := 8) rfl hL1.1 rfl) rfl (Nat.le_of_ble_eq_true rfl) ⟨Nat.le_of_ble_eq_true rfl, Nat.le_of_ble_eq_true rfl⟩ ⟨zfit (k := 0) (z := 60) rfl rfl (by omega), zfit (k := 0) (z := 800) rfl rfl (by omega)⟩ dX3_hang_83) ⟨zad (k := 0) rfl (by omega), zad (k := 0) rfl (by omega)⟩ hS (fun _ z => z.elim) (fun r H17 locs hp hF hS1 => ?_)
          obtain ⟨_, rfl, rfl⟩ := hp
          have hP := zpk hP hF
          have hP : va_P G.1 zCl ([(qr14, zI G (St_n σ (St_ea σ a)) (St_ev σ a))]) H17 := hP
          have hD : va_D (zA (FM G μ σ) H0) ([(qr14, zI G (St_n σ (St_ea σ a)) (St_ev σ a))]) := hD
          have hHPo : PoM G s0 H0 μ σ (stMi σ (St_ea σ a) (St_ev σ a)) 0 H17 := hHPo.ext0 hE hF
          have hS := hS1
          exact z_iret hC hrt hlk hQ hS ⟨zle (z := 60) rfl (by omega), zle (z := 800) rfl (by omega)⟩ ⟨_, rfl, 0, _, hHPo, Or.inl ⟨rfl, a, ⟨by omega, by omega⟩, hxa, rfl, rfl⟩⟩ dX3_hang_88
        · refine lv_aload_n hx hb dX3_hang_55 rfl (lv_at hl 1 rfl) ?_
          refine lv_iconst (v := iI 2) hx hb dX3_hang_56 rfl ?_
          have hHb := hH1
          refine z_go 1 16 (z_runV (As := [.int (iI 2)]) (rest := []) hC hml hl.1 (m_X3_no hE H10 (hO.ext (zS_F hS) hMo) μ σ 0 2 hHb) (lw_V q1520 q1522 qs29 q67 q1523) rfl nd_X3_no rfl (z_rv hC (ci := 2) rfl hHb.2.2.1.1 rfl) rfl (Nat.le_of_ble_eq_true rfl) ⟨Nat.le_of_ble_eq_true rfl, Nat.le_of_ble_eq_true rfl⟩ ⟨zfit (k := 0) (z := 60) rfl rfl (by omega), zfit (k := 0) (z := 800) rfl rfl (by omega)⟩ dX3_hang_57) ⟨zad (k := 0) rfl (by omega), zad (k := 0) rfl (by omega)⟩ hS (fun z hz => Or.inl (hz ▸ FM.in hE hh.sep (domM0 0 (by omega)) (by simp [rAm]))) (fun r H18 locs hp hF hS1 => ?_)
          obtain ⟨_, rfl, rfl, hx9⟩ := hp
          have hP : va_P G.1 zCl [] H18 := va_nil
          have hD : va_D (zA (FM G μ σ) H0) [] := va_nilD
          have hP : va_P G.1 zCl ([]) H18 := hP
          have hD : va_D (zA (FM G μ σ) H0) ([]) := hD
          have hS := hS1
          have hH9 : HM G s0 μ σ ((2 : Nat) : Int) H18 := HM.thr hE hHb hF hx9
          exact z_iret hC hrt hlk hQ hS ⟨zle (z := 60) rfl (by omega), zle (z := 800) rfl (by omega)⟩ ⟨_, rfl, 2, σ, PoM.same hH9, Or.inr ⟨by decide, rfl, by decide, Or.inr ⟨rfl, inE_n (by omega), fun z => by have z : XHa σ a := z; have := z.2; omega⟩⟩⟩ dX3_hang_60
  · refine lv_aload_n hx hb dX3_hang_13 rfl (lv_at hl 0 rfl) ?_
    refine lv_iconst (v := iI 1) hx hb dX3_hang_14 rfl ?_
    have hHb := hH1
    refine z_go 0 0 (z_runV (As := [.int (iI 1)]) (rest := []) hC hml hl.1 (m_X3_no hE H2 (hO.ext (zS_F hS) hMo) μ σ 0 1 hHb) (lw_V q1520 q1522 qs29 q67 q1523) rfl nd_X3_no rfl (z_rv hC (ci := 2) rfl hHb.2.2.1.1 rfl) rfl (Nat.le_of_ble_eq_true rfl) ⟨Nat.le_of_ble_eq_true rfl, Nat.le_of_ble_eq_true rfl⟩ ⟨zfit (k := 0) (z := 60) rfl rfl (by omega), zfit (k := 0) (z := 800) rfl rfl (by omega)⟩ dX3_hang_15) ⟨zad (k := 0) rfl (by omega), zad (k := 0) rfl (by omega)⟩ hS (fun z hz => Or.inl (hz ▸ FM.in hE hh.sep (domM0 0 (by omega)) (by simp [rAm]))) (fun r H19 locs hp hF hS1 => ?_)
    obtain ⟨_, rfl, rfl, hx9⟩ := hp
    have hP : va_P G.1 zCl [] H19 := va_nil
    have hD : va_D (zA (FM G μ σ) H0) [] := va_nilD
    have hP : va_P G.1 zCl ([]) H19 := hP
    have hD : va_D (zA (FM G μ σ) H0) ([]) := hD
    have hS := hS1
    have hH9 : HM G s0 μ σ ((1 : Nat) : Int) H19 := HM.thr hE hHb hF hx9
    exact z_iret hC hrt hlk hQ hS ⟨zle (z := 60) rfl (by omega), zle (z := 800) rfl (by omega)⟩ ⟨_, rfl, 1, σ, PoM.same hH9, Or.inr ⟨by decide, rfl, by decide, Or.inl ⟨rfl, fun z9 => by have h9 := hfl2.2.mpr (z9); omega⟩⟩⟩ dX3_hang_18

theorem stCl_dmM {σ : St} {k : Nat} {a : Ro} (h : dmMo (stCl σ k) a) : dmMo σ a := by
  obtain ⟨κ, i, j⟩ := a
  rcases h with h | h | h | h | ⟨h1, h2, h3⟩
  · exact Or.inl h
  · exact Or.inr (Or.inl h)
  · exact Or.inr (Or.inr (Or.inl h))
  · exact Or.inr (Or.inr (Or.inr (Or.inl h)))
  · have h3 : j < ((stCl σ k).2.2.2.2.2.1 i).1 := h3
    by_cases e : i = k
    · subst e
      rw [stCl_m0] at h3
      exact absurd h3 (Nat.not_lt_zero j)
    · rw [stCl_m e] at h3
      exact Or.inr (Or.inr (Or.inr (Or.inr ⟨h1, h2, h3⟩)))
theorem PoM.mk9 {G : zG} {s0 : State} {H0 h1 : Heap} {μ : Ro → Nat} {σ σ' : St} {th : Int} (h : HM G s0 μ σ' th h1) (hd : ∀ a, dmMo σ' a → dmMo σ a) : PoM G s0 H0 μ σ σ' th h1 := ⟨μ, h, rfl, fun z hz => Or.inl ⟨hz.1, hz.2.elim (fun a h9 => ⟨a, hd a h9.1, h9.2⟩)⟩⟩
abbrev rm_m_X3_clear : Room := { frames := 3, cells := 20, slots := 200, locals := 66 }
set_option maxHeartbeats 4000000 in
theorem m_X3_clear {l : Launch} {s0 : State} {G : zG} (hE : zE l s0 G) (H0 : Heap) (hO : zO s0 H0) (μ : Ro → Nat) (σ : St) (th : Int) (i : Int) (hh : HM G s0 μ σ th H0) (hi : zi i) : zM l s0 yX3_clear cX3_clear 4 (some FieldType.int) rm_m_X3_clear [.ref (μ (0, 0, 0)), .int (iI i)] H0 (FM G μ σ) (HPM G s0 H0 μ σ [IOB] ((fun y σ' => ∃ k : Nat, (i = k ∧ k < St_na σ) ∧ σ' = (if St_nm σ k = 0 then stKn σ (St_kn σ + 1) else stCl σ k) ∧ y = (St_nm σ k : Nat))) ((fun E => E = IOB ∧ ¬ inA σ i))) := by
  refine z_met hE (by decide +kernel) (Nat.le_of_ble_eq_true rfl) ?_
  intro pp ee ss mm args below meth cd Q ls hC hml hrt hlk hnm hH hQ hS hl
  have hx := hC.x
  have hb := hC.b
  have hl : lv_has ls 4 [(0, .ref (μ (0, 0, 0))), (1, .int (iI i))] := hl
  have hP : va_P G.1 zCl [] H0 := va_nil
  have hD : va_D (zA (FM G μ σ) H0) [] := va_nilD
  have hMo : ∀ z, (FM G μ σ) z → s0.heap.size ≤ z := fun z hz => FM.ge hh.sep hz
  have hH1 := hh
  obtain ⟨hp, hna, hal, hne9, hel9, hmr9⟩ := id hh.ok
  have hp7 : 0 < St_p σ ∧ St_p σ ≤ 7 := by rcases hp with h | h | h <;> rw [h] <;> decide
  have hP : va_P G.1 zCl [((μ (0, 0, 0)), zOb 2 [.int (iI th), .int (iI (St_p σ)), .int (iI ((St_kn σ : Nat) : Int)), .ref (μ (1, 0, 0)), .ref (μ (3, 0, 0))])] H0 := zP1 hh.2.2.1.1
  have hD : va_D (zA (FM G μ σ) H0) [((μ (0, 0, 0)), zOb 2 [.int (iI th), .int (iI (St_p σ)), .int (iI ((St_kn σ : Nat) : Int)), .ref (μ (1, 0, 0)), .ref (μ (3, 0, 0))])] := zD1 (Or.inl (FM.in hE hh.sep (domM0 0 (by omega)) (by simp [rAm])))
  refine lv_aload_n hx hb dX3_clear_0 rfl (lv_at hl 0 rfl) ?_
  refine lv_iconst (v := iI 0) hx hb dX3_clear_1 rfl ?_
  refine z_putO hC hP hD hS 0 (k := 0) rfl rfl in_X3 tyX3_ok nmX3 (by decide) q1495 (fun _ h => h) rfl rfl rfl rfl (Nat.le_of_ble_eq_true rfl) (ws' := [((μ (0, 0, 0)), zOb 2 [.int (iI 0), .int (iI (St_p σ)), .int (iI ((St_kn σ : Nat) : Int)), .ref (μ (1, 0, 0)), .ref (μ (3, 0, 0))])]) rfl dX3_clear_2 (fun H1 locs hP hD hS hZ1 hZ2 => ?_)
  have hH1 : HM G s0 μ σ 0 H1 := HM.thr hE hH1 (zF.one hZ1 hZ2) (hP 0 _ rfl)
  have hP : va_P G.1 zCl [] H1 := va_nil
  have hD : va_D (zA (FM G μ σ) H0) [] := va_nilD
  refine lv_aload_n hx hb dX3_clear_5 rfl (lv_at hl 0 rfl) ?_
  refine lv_iload_n hx hb dX3_clear_6 rfl (lv_at hl 1 rfl) ?_
  refine z_go 0 0 (z_runV (As := [.int (iI i)]) (rest := []) hC hml hl.1 (m_X3_isAlgebra hE H1 (hO.ext (zS_F hS) hMo) μ σ 0 i hH1 hi) (lw_V q1583 q1585 qs30 q67 q1586) rfl nd_X3_isAlgebra rfl (z_rv hC (ci := 2) rfl hH1.2.2.1.1 rfl) rfl (Nat.le_of_ble_eq_true rfl) ⟨Nat.le_of_ble_eq_true rfl, Nat.le_of_ble_eq_true rfl⟩ ⟨zfit (k := 0) (z := 20) rfl rfl (by omega), zfit (k := 0) (z := 200) rfl rfl (by omega)⟩ dX3_clear_7) ⟨zad (k := 0) rfl (by omega), zad (k := 0) rfl (by omega)⟩ hS (fun _ z => z.elim) (fun r H2 locs hp hF hS1 => ?_)
  obtain ⟨_, rfl, rfl⟩ := hp
  have hP := zpk hP hF
  have hP : va_P G.1 zCl ([]) H2 := hP
  have hD : va_D (zA (FM G μ σ) H0) ([]) := hD
  have hH1 : HM G s0 μ σ 0 H2 := hH1.ext0 hE hF
  have hS := hS1
  obtain ⟨fl, hfl, hfl2⟩ : ∃ fl : Nat, fl ≤ 1 ∧ (if 0 ≤ i ∧ i < (((St_na σ) : Nat) : Int) then (1 : Int) else 0) = fl ∧ (fl = 1 ↔ 0 ≤ i ∧ i < (((St_na σ) : Nat) : Int)) := by by_cases h : 0 ≤ i ∧ i < (((St_na σ) : Nat) : Int); exact ⟨1, by decide, by rw [if_pos h]; rfl, ⟨fun _ => h, fun _ => rfl⟩⟩; exact ⟨0, by decide, by rw [if_neg h]; rfl, ⟨fun z => absurd z (by decide), fun z => absurd z h⟩⟩
  refine z_top (b := ((fl : Nat) : Int)) (hfl2.1) ?_
  refine z_zne (tgt := 19) hx hb dX3_clear_10 (by decide) (by omega) (fun c3 => ?_) (fun c3 => ?_)
  · have hok9 := hfl2.2.mp (by omega)
    obtain ⟨k, rfl⟩ : ∃ k : Nat, i = k := ⟨i.toNat, by omega⟩
    have hk9 : k < St_na σ := by omega
    have hxx := hH1.2.2.1.1
    refine lv_aload_n hx hb dX3_clear_19 rfl (lv_at hl 0 rfl) ?_
    refine z_get hC (k := 3) rfl in_X3 hxx (by decide) q1499 (fun _ h => h) rfl dX3_clear_20 ?_
    refine lv_iload_n hx hb dX3_clear_23 rfl (lv_at hl 1 rfl) ?_
    obtain ⟨mda, hLa⟩ := id hH1.2.2.1.2.1
    refine z_go5 0 0 (z_runF (n := 1) (As := [.int (iI ((k : Nat) : Int))]) (rest := []) (ci := 8) hC hml hl.1 (m_J2_get hE H2 (hO.ext (zS_F hS) hMo) (μ (1, 0, 0)) (St_na σ) (fun k => μ (6, k, 0)) (μ (2, 0, 0)) mda k hLa (by omega)) q375 q1588 q1591 q373 q65 q1590 q1589 q1593 q1592 q1528 ⟨by decide +kernel, by decide +kernel, by decide +kernel⟩ rfl rfl rfl (z_rv hC (ci := 8) rfl hLa.1 rfl) rfl (Nat.le_of_ble_eq_true rfl) ⟨Nat.le_of_ble_eq_true rfl, Nat.le_of_ble_eq_true rfl⟩ ⟨zfit (k := 0) (z := 20) rfl rfl (by omega), zfit (k := 0) (z := 200) rfl rfl (by omega)⟩ dX3_clear_24) ⟨zad (k := 0) rfl (by omega), zad (k := 0) rfl (by omega)⟩ hS (fun _ z => z.elim) (fun r H4 locs hp hF hS1 => ?_)
    obtain ⟨_, rfl, rfl⟩ := hp
    have hP := zpk hP hF
    have hP : va_P G.1 zCl ([]) H4 := hP
    have hD : va_D (zA (FM G μ σ) H0) ([]) := hD
    have hH1 : HM G s0 μ σ 0 H4 := hH1.ext0 hE hF
    have hS := hS1
    have hAk := hH1.al (k := k) (by omega)
    have hn16k := hH1.n (k := k) (by omega)
    refine z_cast hC (ci := 5) rfl hAk.1 rfl q1539 dX3_clear_29 ?_
    refine z_get hC (k := 4) rfl in_X6 hAk.1 (by decide) q1557 (fun _ h => h) rfl dX3_clear_32 ?_
    refine lv_astore_n (lv' := [(2, .ref (μ (9, k, 0))), (0, .ref (μ (0, 0, 0))), (1, .int (iI ((k : Nat) : Int)))]) hx hb dX3_clear_35 rfl hl (by decide) rfl (fun ls hl => ?_)
    refine lv_aload_n hx hb dX3_clear_36 rfl (lv_at hl 0 rfl) ?_
    obtain ⟨mdk, hLk⟩ := id (hH1.al (k := k) (by omega)).2.2.1
    refine z_go5 0 0 (z_runF (n := 0) (As := []) (rest := []) (ci := 8) hC hml hl.1 (m_J2_size hE H4 (hO.ext (zS_F hS) hMo) (μ (9, k, 0)) (St_nm σ k) (fun i => μ (15, k, i)) (μ (10, k, 0)) mdk hLk) q232 q1525 q1529 q230 q65 q1527 q1526 q1531 q1530 q1528 ⟨by decide +kernel, by decide +kernel, by decide +kernel⟩ rfl rfl rfl (z_rv hC (ci := 8) rfl hLk.1 rfl) rfl (Nat.le_of_ble_eq_true rfl) ⟨Nat.le_of_ble_eq_true rfl, Nat.le_of_ble_eq_true rfl⟩ ⟨zfit (k := 0) (z := 20) rfl rfl (by omega), zfit (k := 0) (z := 200) rfl rfl (by omega)⟩ dX3_clear_37) ⟨zad (k := 0) rfl (by omega), zad (k := 0) rfl (by omega)⟩ hS (fun _ z => z.elim) (fun r H5 locs hp hF hS1 => ?_)
    obtain ⟨_, rfl, rfl⟩ := hp
    have hP := zpk hP hF
    have hP : va_P G.1 zCl ([]) H5 := hP
    have hD : va_D (zA (FM G μ σ) H0) ([]) := hD
    have hH1 : HM G s0 μ σ 0 H5 := hH1.ext0 hE hF
    have hS := hS1
    have hnm9 := (hmr9 k (by omega)).1
    refine lv_istore_n (lv' := [(3, .int (iI ((St_nm σ k : Nat) : Int))), (2, .ref (μ (9, k, 0))), (0, .ref (μ (0, 0, 0))), (1, .int (iI ((k : Nat) : Int)))]) hx hb dX3_clear_42 rfl hl (by decide) rfl (fun ls hl => ?_)
    refine lv_aload_n hx hb dX3_clear_43 rfl (lv_at hl 2 rfl) ?_
    refine lv_dup hx hb dX3_clear_44 rfl ?_
    have hxx := hH1.2.2.1.1
    have hP : va_P G.1 zCl [((μ (0, 0, 0)), zOb 2 [.int (iI 0), .int (iI (St_p σ)), .int (iI ((St_kn σ : Nat) : Int)), .ref (μ (1, 0, 0)), .ref (μ (3, 0, 0))])] H5 := zP1 hxx
    have hD : va_D (zA (FM G μ σ) H0) [((μ (0, 0, 0)), zOb 2 [.int (iI 0), .int (iI (St_p σ)), .int (iI ((St_kn σ : Nat) : Int)), .ref (μ (1, 0, 0)), .ref (μ (3, 0, 0))])] := zD1 (Or.inl (FM.in hE hh.sep (domM0 0 (by omega)) (by simp [rAm])))
    refine z_get hC (k := 2) rfl in_X3 (hP 0 _ rfl) (by decide) q1498 (fun _ h => h) rfl dX3_clear_45 ?_
    refine lv_iload_n hx hb dX3_clear_48 rfl (lv_at hl 0 rfl) ?_
    refine z_zne (tgt := 56) hx hb dX3_clear_49 (by decide) (by omega) (fun c6 => ?_) (fun c6 => ?_)
    · have h09 : St_nm σ k ≠ 0 := by omega
      refine lv_iconst (v := iI 0) hx hb dX3_clear_56 rfl ?_
      refine z_add hx hb (z := ((St_kn σ : Nat) : Int) + 0) dX3_clear_57 rfl ?_
      refine z_top (b := ((St_kn σ : Nat) : Int)) (by omega) ?_
      refine z_putO hC hP hD hS 0 (k := 2) rfl rfl in_X3 tyX3_ok nmX3 (by decide) q1498 (fun _ h => h) rfl rfl rfl rfl (Nat.le_of_ble_eq_true rfl) (ws' := [((μ (0, 0, 0)), zOb 2 [.int (iI 0), .int (iI (St_p σ)), .int (iI ((St_kn σ : Nat) : Int)), .ref (μ (1, 0, 0)), .ref (μ (3, 0, 0))])]) rfl dX3_clear_58 (fun H7 locs hP hD hS hZ1 hZ2 => ?_)
      have hH1 : HM G s0 μ (stKn σ (St_kn σ)) 0 H7 := HM.thr hE hH1 (zF.one hZ1 hZ2) (hP 0 _ rfl)
      have hP : va_P G.1 zCl [] H7 := va_nil
      have hD : va_D (zA (FM G μ σ) H0) [] := va_nilD
      have hH1 : HM G s0 μ σ 0 H7 := hH1
      have hHb := hH1
      obtain ⟨mdk, hLk⟩ := id (hH1.al (k := k) (by omega)).2.2.1
      have hFb : zF (fun z => z = μ (9, k, 0) ∨ (z = μ (10, k, 0) ∧ μ (10, k, 0) ≠ G.2 12)) H7 H7 := zF.rf
      have h10 := hh.sep.1 _ (domMA 10 k (by omega) (by omega))
      have hLc := hLk
      have lp8 : ∀ (dlp8 : Nat) (n9 : Nat) (md9 : Int), n9 = dlp8 → (n9 ≤ St_nm σ k) → ∀ (H9 : Heap) (locs : List Loc) (ls : Array Slot), (zF (fun z => z = μ (9, k, 0) ∨ (z = μ (10, k, 0) ∧ μ (10, k, 0) ≠ G.2 12)) H7 H9) → (zLs G (μ (9, k, 0)) n9 (fun i => μ (15, k, i)) (μ (10, k, 0)) md9 H9) → va_P G.1 zCl ([]) H9 → va_D (zA (FM G μ σ) H0) ([]) → va_S (zA (FM G μ σ) H0) H0 H9 locs → lv_has ls 4 [(3, .int (iI ((St_nm σ k : Nat) : Int))), (2, .ref (μ (9, k, 0))), (0, .ref (μ (0, 0, 0))), (1, .int (iI ((k : Nat) : Int)))] → W pp l ee rm_m_X3_clear ss mm args below meth cd H9 locs 0 0 Q (F0 mm 61 ls []) := by
        intro dlp8
        induction dlp8 using Nat.strongRecOn with
        | ind dlp8 ihlp8 =>
          intro n9 md9 hdlp8 hn9 H9 locs ls hFb hLc hP hD hS hl
          refine lv_aload_n hx hb dX3_clear_61 rfl (lv_at hl 1 rfl) ?_
          refine z_go5 0 0 (z_runF (n := 0) (As := []) (rest := []) (ci := 8) hC hml hl.1 (m_J2_size hE H9 (hO.ext (zS_F hS) hMo) (μ (9, k, 0)) n9 (fun i => μ (15, k, i)) (μ (10, k, 0)) md9 hLc) q232 q1525 q1529 q230 q65 q1527 q1526 q1531 q1530 q1528 ⟨by decide +kernel, by decide +kernel, by decide +kernel⟩ rfl rfl rfl (z_rv hC (ci := 8) rfl hLc.1 rfl) rfl (Nat.le_of_ble_eq_true rfl) ⟨Nat.le_of_ble_eq_true rfl, Nat.le_of_ble_eq_true rfl⟩ ⟨zfit (k := 0) (z := 20) rfl rfl (by omega), zfit (k := 0) (z := 200) rfl rfl (by omega)⟩ dX3_clear_62) ⟨zad (k := 0) rfl (by omega), zad (k := 0) rfl (by omega)⟩ hS (fun _ z => z.elim) (fun r H10 locs hp hF hS1 => ?_)
          obtain ⟨_, rfl, rfl⟩ := hp
          have hP := zpk hP hF
          have hP : va_P G.1 zCl ([]) H10 := hP
          have hD : va_D (zA (FM G μ σ) H0) ([]) := hD
          have hFb : zF (fun z => z = μ (9, k, 0) ∨ (z = μ (10, k, 0) ∧ μ (10, k, 0) ≠ G.2 12)) H7 H10 := hFb.trans hF.of0
          have hLc : zLs G (μ (9, k, 0)) n9 (fun i => μ (15, k, i)) (μ (10, k, 0)) md9 H10 := hLc.ext0 hF
          have hS := hS1
          refine z_zle (tgt := 88) hx hb dX3_clear_67 (by decide) (by omega) (fun c11 => ?_) (fun c11 => ?_)
          · have e0 : n9 = 0 := by omega
            subst e0
            have hpo : HM G s0 μ (stMn σ k 0) 0 H10 := HM.nomi hE hHb hFb (by omega) (Nat.zero_le _) hLc
            refine lv_iload_n hx hb dX3_clear_88 rfl (lv_at hl 0 rfl) ?_
            exact z_iret hC hrt hlk hQ hS ⟨zle (z := 20) rfl (by omega), zle (z := 200) rfl (by omega)⟩ ⟨_, rfl, 0, stCl σ k, PoM.mk9 hpo (fun _ w => stCl_dmM w), Or.inl ⟨rfl, k, ⟨by omega, by omega⟩, by rw [if_neg h09], rfl⟩⟩ dX3_clear_89
          · obtain ⟨n8, rfl⟩ : ∃ n8 : Nat, n9 = n8 + 1 := ⟨n9 - 1, by omega⟩
            refine lv_aload_n hx hb dX3_clear_70 rfl (lv_at hl 1 rfl) ?_
            refine lv_aload_n hx hb dX3_clear_71 rfl (lv_at hl 1 rfl) ?_
            refine z_go5 0 0 (z_runF (n := 0) (As := []) (rest := [.ref (μ (9, k, 0))]) (ci := 8) hC hml hl.1 (m_J2_size hE H10 (hO.ext (zS_F hS) hMo) (μ (9, k, 0)) (n8 + 1) (fun i => μ (15, k, i)) (μ (10, k, 0)) md9 hLc) q232 q1525 q1529 q230 q65 q1527 q1526 q1531 q1530 q1528 ⟨by decide +kernel, by decide +kernel, by decide +kernel⟩ rfl rfl rfl (z_rv hC (ci := 8) rfl hLc.1 rfl) rfl (Nat.le_of_ble_eq_true rfl) ⟨Nat.le_of_ble_eq_true rfl, Nat.le_of_ble_eq_true rfl⟩ ⟨zfit (k := 0) (z := 20) rfl rfl (by omega), zfit (k := 0) (z := 200) rfl rfl (by omega)⟩ dX3_clear_72) ⟨zad (k := 0) rfl (by omega), zad (k := 0) rfl (by omega)⟩ hS (fun _ z => z.elim) (fun r H12 locs hp hF hS1 => ?_)
            obtain ⟨_, rfl, rfl⟩ := hp
            have hP := zpk hP hF
            have hP : va_P G.1 zCl ([]) H12 := hP
            have hD : va_D (zA (FM G μ σ) H0) ([]) := hD
            have hFb : zF (fun z => z = μ (9, k, 0) ∨ (z = μ (10, k, 0) ∧ μ (10, k, 0) ≠ G.2 12)) H7 H12 := hFb.trans hF.of0
            have hLc : zLs G (μ (9, k, 0)) (n8 + 1) (fun i => μ (15, k, i)) (μ (10, k, 0)) md9 H12 := hLc.ext0 hF
            have hS := hS1
            refine lv_iconst (v := iI 1) hx hb dX3_clear_77 rfl ?_
            refine z_sub hx hb (z := ((n8 + 1 : Nat) : Int) - 1) dX3_clear_78 rfl ?_
            refine z_top (b := ((n8 : Nat) : Int)) (by omega) ?_
            obtain ⟨hn10, h1012, hR10⟩ := hLc.2.resolve_left (fun z => by have := z.2; omega)
            have hFc := hFb
            refine z_go5 0 0 (z_runF (n := 1) (As := [.int (iI ((n8 : Nat) : Int))]) (rest := []) (ci := 8) hC hml hl.1 (m_J2_remove hE H12 (hO.ext (zS_F hS) hMo) (μ (9, k, 0)) n8 (fun i => μ (15, k, i)) (μ (10, k, 0)) md9 (hh.sep.ge (domMA 9 k (by omega) (by omega)) (by simp [rAm])) (h10.resolve_right (fun y => h1012 y.1)) (hh.sep.ne hE (domMA 9 k (by omega) (by omega)) (domMA 10 k (by omega) (by omega)) (fun y => by cases y) (by simp [rAm])) (by omega) hLc.1 hR10) q1397 q1775 q1778 q1395 q65 q1777 q1776 q1780 q1779 q1528 ⟨by decide +kernel, by decide +kernel, by decide +kernel⟩ rfl rfl rfl (z_rv hC (ci := 8) rfl hLc.1 rfl) rfl (Nat.le_of_ble_eq_true rfl) ⟨Nat.le_of_ble_eq_true rfl, Nat.le_of_ble_eq_true rfl⟩ ⟨zfit (k := 0) (z := 20) rfl rfl (by omega), zfit (k := 0) (z := 200) rfl rfl (by omega)⟩ dX3_clear_79) ⟨zad (k := 0) rfl (by omega), zad (k := 0) rfl (by omega)⟩ hS (fun z hz => Or.inl (hz.elim (fun w => w ▸ FM.in hE hh.sep (domMA 9 k (by omega) (by omega)) (by simp [rAm])) (fun w => ⟨by rw [w]; exact h1012, (10, k, 0), domMA 10 k (by omega) (by omega), w.symm⟩))) (fun r H13 locs hp hF hS1 => ?_)
            obtain ⟨_, rfl, rfl, hq1, hq2⟩ := hp
            have hP : va_P G.1 zCl [] H13 := va_nil
            have hD : va_D (zA (FM G μ σ) H0) [] := va_nilD
            have hFb : zF (fun z => z = μ (9, k, 0) ∨ (z = μ (10, k, 0) ∧ μ (10, k, 0) ≠ G.2 12)) H7 H13 := hFc.trans (hF.mono (fun q _ w => w.imp id (fun w => ⟨w, h1012⟩)))
            have hLc : zLs G (μ (9, k, 0)) n8 (fun i => μ (15, k, i)) (μ (10, k, 0)) (md9 + 1) H13 := ⟨hq1, Or.inr ⟨by omega, h1012, hq2⟩⟩
            have hP : va_P G.1 zCl ([]) H13 := hP
            have hD : va_D (zA (FM G μ σ) H0) ([]) := hD
            have hS := hS1
            refine lv_pop hx hb dX3_clear_84 rfl ?_
            refine lv_goto (tgt := 61) hx hb dX3_clear_85 (by decide) ?_
            exact W.widen (by omega) (by omega) (ihlp8 (n8) (by omega) n8 (md9 + 1) rfl (by omega) _ _ _ hFb hLc hP hD hS hl)
      exact W.widen (by omega) (by omega) (lp8 _ (St_nm σ k) mdk rfl (Nat.le_refl _) _ _ _ hFb hLc hP hD hS hl)
    · have h09 : St_nm σ k = 0 := by omega
      refine lv_iconst (v := iI 1) hx hb dX3_clear_52 rfl ?_
      refine lv_goto (tgt := 57) hx hb dX3_clear_53 (by decide) ?_
      refine z_add hx hb (z := ((St_kn σ : Nat) : Int) + 1) dX3_clear_57 rfl ?_
      refine z_top (b := ((St_kn σ + 1 : Nat) : Int)) (by omega) ?_
      refine z_putO hC hP hD hS 0 (k := 2) rfl rfl in_X3 tyX3_ok nmX3 (by decide) q1498 (fun _ h => h) rfl rfl rfl rfl (Nat.le_of_ble_eq_true rfl) (ws' := [((μ (0, 0, 0)), zOb 2 [.int (iI 0), .int (iI (St_p σ)), .int (iI ((St_kn σ + 1 : Nat) : Int)), .ref (μ (1, 0, 0)), .ref (μ (3, 0, 0))])]) rfl dX3_clear_58 (fun H14 locs hP hD hS hZ1 hZ2 => ?_)
      have hH1 : HM G s0 μ (stKn σ (St_kn σ + 1)) 0 H14 := HM.thr hE hH1 (zF.one hZ1 hZ2) (hP 0 _ rfl)
      have hP : va_P G.1 zCl [] H14 := va_nil
      have hD : va_D (zA (FM G μ σ) H0) [] := va_nilD
      obtain ⟨mdk, hLk⟩ := id (hH1.al (k := k) (show k < St_na σ by omega)).2.2.1
      refine lv_aload_n hx hb dX3_clear_61 rfl (lv_at hl 1 rfl) ?_
      refine z_go5 0 0 (z_runF (n := 0) (As := []) (rest := []) (ci := 8) hC hml hl.1 (m_J2_size hE H14 (hO.ext (zS_F hS) hMo) (μ (9, k, 0)) (St_nm σ k) (fun i => μ (15, k, i)) (μ (10, k, 0)) mdk hLk) q232 q1525 q1529 q230 q65 q1527 q1526 q1531 q1530 q1528 ⟨by decide +kernel, by decide +kernel, by decide +kernel⟩ rfl rfl rfl (z_rv hC (ci := 8) rfl hLk.1 rfl) rfl (Nat.le_of_ble_eq_true rfl) ⟨Nat.le_of_ble_eq_true rfl, Nat.le_of_ble_eq_true rfl⟩ ⟨zfit (k := 0) (z := 20) rfl rfl (by omega), zfit (k := 0) (z := 200) rfl rfl (by omega)⟩ dX3_clear_62) ⟨zad (k := 0) rfl (by omega), zad (k := 0) rfl (by omega)⟩ hS (fun _ z => z.elim) (fun r H15 locs hp hF hS1 => ?_)
      obtain ⟨_, rfl, rfl⟩ := hp
      have hP := zpk hP hF
      have hP : va_P G.1 zCl ([]) H15 := hP
      have hD : va_D (zA (FM G μ σ) H0) ([]) := hD
      have hH1 : HM G s0 μ (stKn σ (St_kn σ + 1)) 0 H15 := hH1.ext0 hE hF
      have hS := hS1
      refine z_zle (tgt := 88) hx hb dX3_clear_67 (by decide) (by omega) (fun c16 => ?_) (fun c16 => ?_)
      · refine lv_iload_n hx hb dX3_clear_88 rfl (lv_at hl 0 rfl) ?_
        exact z_iret hC hrt hlk hQ hS ⟨zle (z := 20) rfl (by omega), zle (z := 200) rfl (by omega)⟩ ⟨_, rfl, 0, _, PoM.mk9 hH1 (fun _ w => w), Or.inl ⟨rfl, k, ⟨by omega, by omega⟩, by rw [if_pos h09], rfl⟩⟩ dX3_clear_89
      · omega
  · refine lv_aload_n hx hb dX3_clear_13 rfl (lv_at hl 0 rfl) ?_
    refine lv_iconst (v := iI 1) hx hb dX3_clear_14 rfl ?_
    have hHb := hH1
    refine z_go 0 0 (z_runV (As := [.int (iI 1)]) (rest := []) hC hml hl.1 (m_X3_no hE H2 (hO.ext (zS_F hS) hMo) μ σ 0 1 hHb) (lw_V q1520 q1522 qs29 q67 q1523) rfl nd_X3_no rfl (z_rv hC (ci := 2) rfl hHb.2.2.1.1 rfl) rfl (Nat.le_of_ble_eq_true rfl) ⟨Nat.le_of_ble_eq_true rfl, Nat.le_of_ble_eq_true rfl⟩ ⟨zfit (k := 0) (z := 20) rfl rfl (by omega), zfit (k := 0) (z := 200) rfl rfl (by omega)⟩ dX3_clear_15) ⟨zad (k := 0) rfl (by omega), zad (k := 0) rfl (by omega)⟩ hS (fun z hz => Or.inl (hz ▸ FM.in hE hh.sep (domM0 0 (by omega)) (by simp [rAm]))) (fun r H17 locs hp hF hS1 => ?_)
    obtain ⟨_, rfl, rfl, hx9⟩ := hp
    have hP : va_P G.1 zCl [] H17 := va_nil
    have hD : va_D (zA (FM G μ σ) H0) [] := va_nilD
    have hP : va_P G.1 zCl ([]) H17 := hP
    have hD : va_D (zA (FM G μ σ) H0) ([]) := hD
    have hS := hS1
    have hH9 : HM G s0 μ σ ((1 : Nat) : Int) H17 := HM.thr hE hHb hF hx9
    exact z_iret hC hrt hlk hQ hS ⟨zle (z := 20) rfl (by omega), zle (z := 200) rfl (by omega)⟩ ⟨_, rfl, 1, σ, PoM.same hH9, Or.inr ⟨by decide, rfl, by decide, ⟨rfl, fun z9 => by have h9 := hfl2.2.mpr z9; omega⟩⟩⟩ dX3_clear_18

