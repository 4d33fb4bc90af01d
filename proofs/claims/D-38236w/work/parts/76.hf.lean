/-! THE MODEL is told: elements of elements -/
set_option maxRecDepth 100000
abbrev rm_m_X3_sum : Room := { frames := 4, cells := 1, slots := 16, locals := 86 }
set_option maxHeartbeats 4000000 in
theorem m_X3_sum {l : Launch} {s0 : State} {G : zG} (hE : zE l s0 G) (H0 : Heap) (hO : zO s0 H0) (μ : Ro → Nat) (σ : St) (th : Int) (i j k : Int) (hh : HM G s0 μ σ th H0) (hi : zi i ∧ zi j ∧ zi k) : zM l s0 yX3_sum cX3_sum 4 (some FieldType.int) rm_m_X3_sum [.ref (μ (0, 0, 0)), .int (iI i), .int (iI j), .int (iI k)] H0 (FM G μ σ) (HPM G s0 H0 μ σ [IOB, IAE] ((fun y σ' => ∃ a b c : Nat, (i = a ∧ a < St_ne σ) ∧ (j = b ∧ b < St_ne σ) ∧ (k = c ∧ c < St_ne σ) ∧ (St_ea σ a = St_ea σ b ∧ St_ea σ a = St_ea σ c) ∧ σ' = stEl σ a (plV (St_p σ) 1 (St_ev σ b) (St_ev σ c)) ∧ y = (szV (plV (St_p σ) 1 (St_ev σ b) (St_ev σ c)) (St_n σ (St_ea σ a)) : Nat))) ((X3e σ i j k))) := by
  refine z_met hE (by decide +kernel) (Nat.le_of_ble_eq_true rfl) ?_
  intro pp ee ss mm args below meth cd Q ls hC hml hrt hlk hnm hH hQ hS hl
  have hx := hC.x
  have hb := hC.b
  have hl : lv_has ls 4 [(0, .ref (μ (0, 0, 0))), (1, .int (iI i)), (2, .int (iI j)), (3, .int (iI k))] := hl
  have hP : va_P G.1 zCl [] H0 := va_nil
  have hD : va_D (zA (FM G μ σ) H0) [] := va_nilD
  have hMo : ∀ z, (FM G μ σ) z → s0.heap.size ≤ z := fun z hz => FM.ge hh.sep hz
  have hH1 := hh
  obtain ⟨hp, hna, hal, hne9, hel9, hmr9⟩ := id hh.ok
  have hp7 : 0 < St_p σ ∧ St_p σ ≤ 7 := by rcases hp with h | h | h <;> rw [h] <;> decide
  have hP : va_P G.1 zCl [((μ (0, 0, 0)), zOb 2 [.int (iI th), .int (iI (St_p σ)), .int (iI ((St_kn σ : Nat) : Int)), .ref (μ (1, 0, 0)), .ref (μ (3, 0, 0))])] H0 := zP1 hh.2.2.1.1
  have hD : va_D (zA (FM G μ σ) H0) [((μ (0, 0, 0)), zOb 2 [.int (iI th), .int (iI (St_p σ)), .int (iI ((St_kn σ : Nat) : Int)), .ref (μ (1, 0, 0)), .ref (μ (3, 0, 0))])] := zD1 (Or.inl (FM.in hE hh.sep (domM0 0 (by omega)) (by simp [rAm])))
  refine lv_aload_n hx hb dX3_sum_0 rfl (lv_at hl 0 rfl) ?_
  refine lv_iconst (v := iI 0) hx hb dX3_sum_1 rfl ?_
  refine z_putO hC hP hD hS 0 (k := 0) rfl rfl in_X3 tyX3_ok nmX3 (by decide) q1495 (fun _ h => h) rfl rfl rfl rfl (Nat.le_of_ble_eq_true rfl) (ws' := [((μ (0, 0, 0)), zOb 2 [.int (iI 0), .int (iI (St_p σ)), .int (iI ((St_kn σ : Nat) : Int)), .ref (μ (1, 0, 0)), .ref (μ (3, 0, 0))])]) rfl dX3_sum_2 (fun H1 locs hP hD hS hZ1 hZ2 => ?_)
  have hH1 : HM G s0 μ σ 0 H1 := HM.thr hE hH1 (zF.one hZ1 hZ2) (hP 0 _ rfl)
  have hP : va_P G.1 zCl [] H1 := va_nil
  have hD : va_D (zA (FM G μ σ) H0) [] := va_nilD
  refine lv_aload_n hx hb dX3_sum_5 rfl (lv_at hl 0 rfl) ?_
  refine lv_iload_n hx hb dX3_sum_6 rfl (lv_at hl 1 rfl) ?_
  refine z_go 0 0 (z_runV (As := [.int (iI i)]) (rest := []) hC hml hl.1 (m_X3_isElement hE H1 (hO.ext (zS_F hS) hMo) μ σ 0 i hH1 hi.1) (lw_V q1650 q1652 qs35 q67 q1653) rfl nd_X3_isElement rfl (z_rv hC (ci := 2) rfl hH1.2.2.1.1 rfl) rfl (Nat.le_of_ble_eq_true rfl) ⟨Nat.le_of_ble_eq_true rfl, Nat.le_of_ble_eq_true rfl⟩ ⟨zfit (k := 0) (z := 1) rfl rfl (by omega), zfit (k := 0) (z := 16) rfl rfl (by omega)⟩ dX3_sum_7) ⟨zad (k := 0) rfl (by omega), zad (k := 0) rfl (by omega)⟩ hS (fun _ z => z.elim) (fun r H2 locs hp hF hS1 => ?_)
  obtain ⟨_, rfl, rfl⟩ := hp
  have hP := zpk hP hF
  have hP : va_P G.1 zCl ([]) H2 := hP
  have hD : va_D (zA (FM G μ σ) H0) ([]) := hD
  have hH1 : HM G s0 μ σ 0 H2 := hH1.ext0 hE hF
  have hS := hS1
  obtain ⟨fl, hfl, hfl2⟩ : ∃ fl : Nat, fl ≤ 1 ∧ (if 0 ≤ i ∧ i < (((St_ne σ) : Nat) : Int) then (1 : Int) else 0) = fl ∧ (fl = 1 ↔ 0 ≤ i ∧ i < (((St_ne σ) : Nat) : Int)) := by by_cases h : 0 ≤ i ∧ i < (((St_ne σ) : Nat) : Int); exact ⟨1, by decide, by rw [if_pos h]; rfl, ⟨fun _ => h, fun _ => rfl⟩⟩; exact ⟨0, by decide, by rw [if_neg h]; rfl, ⟨fun z => absurd z (by decide), fun z => absurd z h⟩⟩
  refine z_top (b := ((fl : Nat) : Int)) (hfl2.1) ?_
  refine z_zeq (tgt := 29) hx hb dX3_sum_10 (by decide) (by omega) (fun c3 => ?_) (fun c3 => ?_)
  · refine lv_aload_n hx hb dX3_sum_29 rfl (lv_at hl 0 rfl) ?_
    refine lv_iconst (v := iI 1) hx hb dX3_sum_30 rfl ?_
    have hHb := hH1
    refine z_go 0 0 (z_runV (As := [.int (iI 1)]) (rest := []) hC hml hl.1 (m_X3_no hE H2 (hO.ext (zS_F hS) hMo) μ σ 0 1 hHb) (lw_V q1520 q1522 qs29 q67 q1523) rfl nd_X3_no rfl (z_rv hC (ci := 2) rfl hHb.2.2.1.1 rfl) rfl (Nat.le_of_ble_eq_true rfl) ⟨Nat.le_of_ble_eq_true rfl, Nat.le_of_ble_eq_true rfl⟩ ⟨zfit (k := 0) (z := 1) rfl rfl (by omega), zfit (k := 0) (z := 16) rfl rfl (by omega)⟩ dX3_sum_31) ⟨zad (k := 0) rfl (by omega), zad (k := 0) rfl (by omega)⟩ hS (fun z hz => Or.inl (hz ▸ FM.in hE hh.sep (domM0 0 (by omega)) (by simp [rAm]))) (fun r H4 locs hp hF hS1 => ?_)
    obtain ⟨_, rfl, rfl, hx9⟩ := hp
    have hP : va_P G.1 zCl [] H4 := va_nil
    have hD : va_D (zA (FM G μ σ) H0) [] := va_nilD
    have hP : va_P G.1 zCl ([]) H4 := hP
    have hD : va_D (zA (FM G μ σ) H0) ([]) := hD
    have hS := hS1
    have hH9 : HM G s0 μ σ ((1 : Nat) : Int) H4 := HM.thr hE hHb hF hx9
    exact z_iret hC hrt hlk hQ hS ⟨zle (z := 1) rfl (by omega), zle (z := 16) rfl (by omega)⟩ ⟨_, rfl, 1, σ, PoM.same hH9, Or.inr ⟨by decide, rfl, by decide, Or.inl ⟨rfl, fun z9 => by have h9 := hfl2.2.mpr (z9.1); omega⟩⟩⟩ dX3_sum_34
  · have hok9 := hfl2.2.mp (by omega)
    obtain ⟨a, rfl⟩ : ∃ a : Nat, i = a := ⟨i.toNat, by omega⟩
    have ha9 : a < St_ne σ := by omega
    refine lv_aload_n hx hb dX3_sum_13 rfl (lv_at hl 0 rfl) ?_
    refine lv_iload_n hx hb dX3_sum_14 rfl (lv_at hl 2 rfl) ?_
    refine z_go 0 0 (z_runV (As := [.int (iI j)]) (rest := []) hC hml hl.1 (m_X3_isElement hE H2 (hO.ext (zS_F hS) hMo) μ σ 0 j hH1 hi.2.1) (lw_V q1650 q1652 qs35 q67 q1653) rfl nd_X3_isElement rfl (z_rv hC (ci := 2) rfl hH1.2.2.1.1 rfl) rfl (Nat.le_of_ble_eq_true rfl) ⟨Nat.le_of_ble_eq_true rfl, Nat.le_of_ble_eq_true rfl⟩ ⟨zfit (k := 0) (z := 1) rfl rfl (by omega), zfit (k := 0) (z := 16) rfl rfl (by omega)⟩ dX3_sum_15) ⟨zad (k := 0) rfl (by omega), zad (k := 0) rfl (by omega)⟩ hS (fun _ z => z.elim) (fun r H5 locs hp hF hS1 => ?_)
    obtain ⟨_, rfl, rfl⟩ := hp
    have hP := zpk hP hF
    have hP : va_P G.1 zCl ([]) H5 := hP
    have hD : va_D (zA (FM G μ σ) H0) ([]) := hD
    have hH1 : HM G s0 μ σ 0 H5 := hH1.ext0 hE hF
    have hS := hS1
    obtain ⟨fl, hfl, hfl2⟩ : ∃ fl : Nat, fl ≤ 1 ∧ (if 0 ≤ j ∧ j < (((St_ne σ) : Nat) : Int) then (1 : Int) else 0) = fl ∧ (fl = 1 ↔ 0 ≤ j ∧ j < (((St_ne σ) : Nat) : Int)) := by by_cases h : 0 ≤ j ∧ j < (((St_ne σ) : Nat) : Int); exact ⟨1, by decide, by rw [if_pos h]; rfl, ⟨fun _ => h, fun _ => rfl⟩⟩; exact ⟨0, by decide, by rw [if_neg h]; rfl, ⟨fun z => absurd z (by decide), fun z => absurd z h⟩⟩
    refine z_top (b := ((fl : Nat) : Int)) (hfl2.1) ?_
    refine z_zeq (tgt := 29) hx hb dX3_sum_18 (by decide) (by omega) (fun c6 => ?_) (fun c6 => ?_)
    · refine lv_aload_n hx hb dX3_sum_29 rfl (lv_at hl 0 rfl) ?_
      refine lv_iconst (v := iI 1) hx hb dX3_sum_30 rfl ?_
      have hHb := hH1
      refine z_go 0 0 (z_runV (As := [.int (iI 1)]) (rest := []) hC hml hl.1 (m_X3_no hE H5 (hO.ext (zS_F hS) hMo) μ σ 0 1 hHb) (lw_V q1520 q1522 qs29 q67 q1523) rfl nd_X3_no rfl (z_rv hC (ci := 2) rfl hHb.2.2.1.1 rfl) rfl (Nat.le_of_ble_eq_true rfl) ⟨Nat.le_of_ble_eq_true rfl, Nat.le_of_ble_eq_true rfl⟩ ⟨zfit (k := 0) (z := 1) rfl rfl (by omega), zfit (k := 0) (z := 16) rfl rfl (by omega)⟩ dX3_sum_31) ⟨zad (k := 0) rfl (by omega), zad (k := 0) rfl (by omega)⟩ hS (fun z hz => Or.inl (hz ▸ FM.in hE hh.sep (domM0 0 (by omega)) (by simp [rAm]))) (fun r H7 locs hp hF hS1 => ?_)
      obtain ⟨_, rfl, rfl, hx9⟩ := hp
      have hP : va_P G.1 zCl [] H7 := va_nil
      have hD : va_D (zA (FM G μ σ) H0) [] := va_nilD
      have hP : va_P G.1 zCl ([]) H7 := hP
      have hD : va_D (zA (FM G μ σ) H0) ([]) := hD
      have hS := hS1
      have hH9 : HM G s0 μ σ ((1 : Nat) : Int) H7 := HM.thr hE hHb hF hx9
      exact z_iret hC hrt hlk hQ hS ⟨zle (z := 1) rfl (by omega), zle (z := 16) rfl (by omega)⟩ ⟨_, rfl, 1, σ, PoM.same hH9, Or.inr ⟨by decide, rfl, by decide, Or.inl ⟨rfl, fun z9 => by have h9 := hfl2.2.mpr (z9.2.1); omega⟩⟩⟩ dX3_sum_34
    · have hok9 := hfl2.2.mp (by omega)
      obtain ⟨b, rfl⟩ : ∃ b : Nat, j = b := ⟨j.toNat, by omega⟩
      have hb9 : b < St_ne σ := by omega
      refine lv_aload_n hx hb dX3_sum_21 rfl (lv_at hl 0 rfl) ?_
      refine lv_iload_n hx hb dX3_sum_22 rfl (lv_at hl 3 rfl) ?_
      refine z_go 0 0 (z_runV (As := [.int (iI k)]) (rest := []) hC hml hl.1 (m_X3_isElement hE H5 (hO.ext (zS_F hS) hMo) μ σ 0 k hH1 hi.2.2) (lw_V q1650 q1652 qs35 q67 q1653) rfl nd_X3_isElement rfl (z_rv hC (ci := 2) rfl hH1.2.2.1.1 rfl) rfl (Nat.le_of_ble_eq_true rfl) ⟨Nat.le_of_ble_eq_true rfl, Nat.le_of_ble_eq_true rfl⟩ ⟨zfit (k := 0) (z := 1) rfl rfl (by omega), zfit (k := 0) (z := 16) rfl rfl (by omega)⟩ dX3_sum_23) ⟨zad (k := 0) rfl (by omega), zad (k := 0) rfl (by omega)⟩ hS (fun _ z => z.elim) (fun r H8 locs hp hF hS1 => ?_)
      obtain ⟨_, rfl, rfl⟩ := hp
      have hP := zpk hP hF
      have hP : va_P G.1 zCl ([]) H8 := hP
      have hD : va_D (zA (FM G μ σ) H0) ([]) := hD
      have hH1 : HM G s0 μ σ 0 H8 := hH1.ext0 hE hF
      have hS := hS1
      obtain ⟨fl, hfl, hfl2⟩ : ∃ fl : Nat, fl ≤ 1 ∧ (if 0 ≤ k ∧ k < (((St_ne σ) : Nat) : Int) then (1 : Int) else 0) = fl ∧ (fl = 1 ↔ 0 ≤ k ∧ k < (((St_ne σ) : Nat) : Int)) := by by_cases h : 0 ≤ k ∧ k < (((St_ne σ) : Nat) : Int); exact ⟨1, by decide, by rw [if_pos h]; rfl, ⟨fun _ => h, fun _ => rfl⟩⟩; exact ⟨0, by decide, by rw [if_neg h]; rfl, ⟨fun z => absurd z (by decide), fun z => absurd z h⟩⟩
      refine z_top (b := ((fl : Nat) : Int)) (hfl2.1) ?_
      refine z_zne (tgt := 35) hx hb dX3_sum_26 (by decide) (by omega) (fun c9 => ?_) (fun c9 => ?_)
      · have hok9 := hfl2.2.mp (by omega)
        obtain ⟨c, rfl⟩ : ∃ c : Nat, k = c := ⟨k.toNat, by omega⟩
        have hc9 : c < St_ne σ := by omega
        refine lv_aload_n hx hb dX3_sum_35 rfl (lv_at hl 0 rfl) ?_
        refine lv_iload_n hx hb dX3_sum_36 rfl (lv_at hl 1 rfl) ?_
        refine lv_iload_n hx hb dX3_sum_37 rfl (lv_at hl 2 rfl) ?_
        refine z_go 0 0 (z_runV (As := [.int (iI ((a : Nat) : Int)), .int (iI ((b : Nat) : Int))]) (rest := []) hC hml hl.1 (m_X3_areOne hE H8 (hO.ext (zS_F hS) hMo) μ σ 0 a b hH1 ⟨by omega, by omega⟩) (lw_V q1662 q1664 qs37 q67 q1665) rfl nd_X3_areOne rfl (z_rv hC (ci := 2) rfl hH1.2.2.1.1 rfl) rfl (Nat.le_of_ble_eq_true rfl) ⟨Nat.le_of_ble_eq_true rfl, Nat.le_of_ble_eq_true rfl⟩ ⟨zfit (k := 0) (z := 1) rfl rfl (by omega), zfit (k := 0) (z := 16) rfl rfl (by omega)⟩ dX3_sum_38) ⟨zad (k := 0) rfl (by omega), zad (k := 0) rfl (by omega)⟩ hS (fun _ z => z.elim) (fun r H10 locs hp hF hS1 => ?_)
        obtain ⟨_, rfl, rfl⟩ := hp
        have hP := zpk hP hF
        have hP : va_P G.1 zCl ([]) H10 := hP
        have hD : va_D (zA (FM G μ σ) H0) ([]) := hD
        have hH1 : HM G s0 μ σ 0 H10 := hH1.ext0 hE hF
        have hS := hS1
        obtain ⟨fl, hfl, hfl2⟩ : ∃ fl : Nat, fl ≤ 1 ∧ (if St_ea σ a = St_ea σ b then (1 : Int) else 0) = fl ∧ (fl = 1 ↔ St_ea σ a = St_ea σ b) := by by_cases h : St_ea σ a = St_ea σ b; exact ⟨1, by decide, by rw [if_pos h]; rfl, ⟨fun _ => h, fun _ => rfl⟩⟩; exact ⟨0, by decide, by rw [if_neg h]; rfl, ⟨fun z => absurd z (by decide), fun z => absurd z h⟩⟩
        refine z_top (b := ((fl : Nat) : Int)) (hfl2.1) ?_
        refine z_zeq (tgt := 53) hx hb dX3_sum_41 (by decide) (by omega) (fun c11 => ?_) (fun c11 => ?_)
        · refine lv_aload_n hx hb dX3_sum_53 rfl (lv_at hl 0 rfl) ?_
          refine lv_iconst (v := iI 2) hx hb dX3_sum_54 rfl ?_
          have hHb := hH1
          refine z_go 0 0 (z_runV (As := [.int (iI 2)]) (rest := []) hC hml hl.1 (m_X3_no hE H10 (hO.ext (zS_F hS) hMo) μ σ 0 2 hHb) (lw_V q1520 q1522 qs29 q67 q1523) rfl nd_X3_no rfl (z_rv hC (ci := 2) rfl hHb.2.2.1.1 rfl) rfl (Nat.le_of_ble_eq_true rfl) ⟨Nat.le_of_ble_eq_true rfl, Nat.le_of_ble_eq_true rfl⟩ ⟨zfit (k := 0) (z := 1) rfl rfl (by omega), zfit (k := 0) (z := 16) rfl rfl (by omega)⟩ dX3_sum_55) ⟨zad (k := 0) rfl (by omega), zad (k := 0) rfl (by omega)⟩ hS (fun z hz => Or.inl (hz ▸ FM.in hE hh.sep (domM0 0 (by omega)) (by simp [rAm]))) (fun r H12 locs hp hF hS1 => ?_)
          obtain ⟨_, rfl, rfl, hx9⟩ := hp
          have hP : va_P G.1 zCl [] H12 := va_nil
          have hD : va_D (zA (FM G μ σ) H0) [] := va_nilD
          have hP : va_P G.1 zCl ([]) H12 := hP
          have hD : va_D (zA (FM G μ σ) H0) ([]) := hD
          have hS := hS1
          have hH9 : HM G s0 μ σ ((2 : Nat) : Int) H12 := HM.thr hE hHb hF hx9
          exact z_iret hC hrt hlk hQ hS ⟨zle (z := 1) rfl (by omega), zle (z := 16) rfl (by omega)⟩ ⟨_, rfl, 2, σ, PoM.same hH9, Or.inr ⟨by decide, rfl, by decide, Or.inr ⟨rfl, inE_n (by omega), inE_n (by omega), inE_n (by omega), fun z9 => by have h9 := hfl2.2.mpr z9.1; omega⟩⟩⟩ dX3_sum_58
        · have hone1 : St_ea σ a = St_ea σ b := hfl2.2.mp (by omega)
          refine lv_aload_n hx hb dX3_sum_44 rfl (lv_at hl 0 rfl) ?_
          refine lv_iload_n hx hb dX3_sum_45 rfl (lv_at hl 1 rfl) ?_
          refine lv_iload_n hx hb dX3_sum_46 rfl (lv_at hl 3 rfl) ?_
          refine z_go 0 0 (z_runV (As := [.int (iI ((a : Nat) : Int)), .int (iI ((c : Nat) : Int))]) (rest := []) hC hml hl.1 (m_X3_areOne hE H10 (hO.ext (zS_F hS) hMo) μ σ 0 a c hH1 ⟨by omega, by omega⟩) (lw_V q1662 q1664 qs37 q67 q1665) rfl nd_X3_areOne rfl (z_rv hC (ci := 2) rfl hH1.2.2.1.1 rfl) rfl (Nat.le_of_ble_eq_true rfl) ⟨Nat.le_of_ble_eq_true rfl, Nat.le_of_ble_eq_true rfl⟩ ⟨zfit (k := 0) (z := 1) rfl rfl (by omega), zfit (k := 0) (z := 16) rfl rfl (by omega)⟩ dX3_sum_47) ⟨zad (k := 0) rfl (by omega), zad (k := 0) rfl (by omega)⟩ hS (fun _ z => z.elim) (fun r H13 locs hp hF hS1 => ?_)
          obtain ⟨_, rfl, rfl⟩ := hp
          have hP := zpk hP hF
          have hP : va_P G.1 zCl ([]) H13 := hP
          have hD : va_D (zA (FM G μ σ) H0) ([]) := hD
          have hH1 : HM G s0 μ σ 0 H13 := hH1.ext0 hE hF
          have hS := hS1
          obtain ⟨fl, hfl, hfl2⟩ : ∃ fl : Nat, fl ≤ 1 ∧ (if St_ea σ a = St_ea σ c then (1 : Int) else 0) = fl ∧ (fl = 1 ↔ St_ea σ a = St_ea σ c) := by by_cases h : St_ea σ a = St_ea σ c; exact ⟨1, by decide, by rw [if_pos h]; rfl, ⟨fun _ => h, fun _ => rfl⟩⟩; exact ⟨0, by decide, by rw [if_neg h]; rfl, ⟨fun z => absurd z (by decide), fun z => absurd z h⟩⟩
          refine z_top (b := ((fl : Nat) : Int)) (hfl2.1) ?_
          refine z_zne (tgt := 59) hx hb dX3_sum_50 (by decide) (by omega) (fun c14 => ?_) (fun c14 => ?_)
          · have hone2 : St_ea σ a = St_ea σ c := hfl2.2.mp (by omega)
            have hea := hh.ea (j := a) (by omega)
            have hRb := (hH1.el (j := b) (by omega)).2
            have hVb := hH1.row (j := b) (by omega)
            rw [← hone1] at hRb hVb
            refine lv_aload_n hx hb dX3_sum_59 rfl (lv_at hl 0 rfl) ?_
            refine lv_iload_n hx hb dX3_sum_60 rfl (lv_at hl 1 rfl) ?_
            refine lv_aload_n hx hb dX3_sum_61 rfl (lv_at hl 0 rfl) ?_
            refine lv_aload_n hx hb dX3_sum_62 rfl (lv_at hl 0 rfl) ?_
            refine lv_iload_n hx hb dX3_sum_63 rfl (lv_at hl 2 rfl) ?_
            refine z_go 0 0 (z_runV (As := [.int (iI ((b : Nat) : Int))]) (rest := [.ref (μ (0, 0, 0)), .int (iI ((a : Nat) : Int)), .ref (μ (0, 0, 0))]) hC hml hl.1 (m_X3_row hE H13 (hO.ext (zS_F hS) hMo) μ σ 0 b hH1 (by omega)) (lw_V q1654 q1656 qs36 q67 q1657) rfl nd_X3_row rfl (z_rv hC (ci := 2) rfl hH1.2.2.1.1 rfl) rfl (Nat.le_of_ble_eq_true rfl) ⟨Nat.le_of_ble_eq_true rfl, Nat.le_of_ble_eq_true rfl⟩ ⟨zfit (k := 0) (z := 1) rfl rfl (by omega), zfit (k := 0) (z := 16) rfl rfl (by omega)⟩ dX3_sum_64) ⟨zad (k := 0) rfl (by omega), zad (k := 0) rfl (by omega)⟩ hS (fun _ z => z.elim) (fun r H15 locs hp hF hS1 => ?_)
            obtain ⟨_, rfl, rfl⟩ := hp
            have hP := zpk hP hF
            have hP : va_P G.1 zCl ([]) H15 := hP
            have hD : va_D (zA (FM G μ σ) H0) ([]) := hD
            have hH1 : HM G s0 μ σ 0 H15 := hH1.ext0 hE hF
            have hS := hS1
            have hRb := (hH1.el (j := b) (by omega)).2
            have hVb := hH1.row (j := b) (by omega)
            rw [← hone1] at hRb hVb
            have hRc := (hH1.el (j := c) (by omega)).2
            have hVc := hH1.row (j := c) (by omega)
            rw [← hone2] at hRc hVc
            refine lv_aload_n hx hb dX3_sum_67 rfl (lv_at hl 0 rfl) ?_
            refine lv_iload_n hx hb dX3_sum_68 rfl (lv_at hl 3 rfl) ?_
            refine z_go 0 0 (z_runV (As := [.int (iI ((c : Nat) : Int))]) (rest := [.ref (μ (14, b, 0)), .ref (μ (0, 0, 0)), .int (iI ((a : Nat) : Int)), .ref (μ (0, 0, 0))]) hC hml hl.1 (m_X3_row hE H15 (hO.ext (zS_F hS) hMo) μ σ 0 c hH1 (by omega)) (lw_V q1654 q1656 qs36 q67 q1657) rfl nd_X3_row rfl (z_rv hC (ci := 2) rfl hH1.2.2.1.1 rfl) rfl (Nat.le_of_ble_eq_true rfl) ⟨Nat.le_of_ble_eq_true rfl, Nat.le_of_ble_eq_true rfl⟩ ⟨zfit (k := 0) (z := 1) rfl rfl (by omega), zfit (k := 0) (z := 16) rfl rfl (by omega)⟩ dX3_sum_69) ⟨zad (k := 0) rfl (by omega), zad (k := 0) rfl (by omega)⟩ hS (fun _ z => z.elim) (fun r H16 locs hp hF hS1 => ?_)
            obtain ⟨_, rfl, rfl⟩ := hp
            have hP := zpk hP hF
            have hP : va_P G.1 zCl ([]) H16 := hP
            have hD : va_D (zA (FM G μ σ) H0) ([]) := hD
            have hH1 : HM G s0 μ σ 0 H16 := hH1.ext0 hE hF
            have hS := hS1
            have hRb := (hH1.el (j := b) (by omega)).2
            have hVb := hH1.row (j := b) (by omega)
            rw [← hone1] at hRb hVb
            have hRc := (hH1.el (j := c) (by omega)).2
            have hVc := hH1.row (j := c) (by omega)
            rw [← hone2] at hRc hVc
            refine lv_iconst (v := iI 1) hx hb dX3_sum_72 rfl ?_
            have hsz9 : H0.size ≤ H16.size := hS.1
            refine z_go 1 16 (z_runV (As := [.ref (μ (14, b, 0)), .ref (μ (14, c, 0)), .int (iI 1)]) (rest := [.int (iI ((a : Nat) : Int)), .ref (μ (0, 0, 0))]) hC hml hl.1 (m_X3_plus hE H16 (hO.ext (zS_F hS) hMo) μ σ 0 (St_ea σ a) (μ (14, b, 0)) (St_ev σ b) (μ (14, c, 0)) (St_ev σ c) (1) hH1 hea hRb hVb hRc hVc (by decide)) (lw_V q1666 q1668 qs38 q67 q1669) rfl nd_X3_plus rfl (z_rv hC (ci := 2) rfl hH1.2.2.1.1 rfl) rfl (Nat.le_of_ble_eq_true rfl) ⟨Nat.le_of_ble_eq_true rfl, Nat.le_of_ble_eq_true rfl⟩ ⟨zfit (k := 1) (z := 1) rfl rfl (by omega), zfit (k := 16) (z := 16) rfl rfl (by omega)⟩ dX3_sum_73) ⟨zad (k := 1) rfl (by omega), zad (k := 16) rfl (by omega)⟩ hS (fun _ z => z.elim) (fun r H18 locs hp hF hS1 => ?_)
            obtain ⟨qr17, rfl, hN⟩ := hp
            obtain ⟨hP, hD⟩ := zjn hP hD hS.1 hF hN
            have hP : va_P G.1 zCl ([(qr17, zI G (St_n σ (St_ea σ a)) (plV (St_p σ) 1 (St_ev σ b) (St_ev σ c)))]) H18 := hP
            have hD : va_D (zA (FM G μ σ) H0) ([(qr17, zI G (St_n σ (St_ea σ a)) (plV (St_p σ) 1 (St_ev σ b) (St_ev σ c)))]) := hD
            have hH1 : HM G s0 μ σ 0 H18 := hH1.ext0 hE hF
            have hS := hS1
            have hNwqr17 : H0.size ≤ qr17 := Nat.le_trans hsz9 (hN.2.2 0 _ rfl)
            have hHb := hH1
            have hRb := hP 0 _ rfl
            refine z_go 1 16 (z_runV (As := [.int (iI ((a : Nat) : Int)), .ref qr17]) (rest := []) hC hml hl.1 (m_X3_put hE H18 (hO.ext (zS_F hS) hMo) μ σ 0 a qr17 (plV (St_p σ) 1 (St_ev σ b) (St_ev σ c)) hHb (by omega) hRb (plV_ok hp _ _ _ _)) (lw_V q1671 q1673 qs39 q67 q1674) rfl nd_X3_put rfl (z_rv hC (ci := 2) rfl hHb.2.2.1.1 rfl) rfl (Nat.le_of_ble_eq_true rfl) ⟨Nat.le_of_ble_eq_true rfl, Nat.le_of_ble_eq_true rfl⟩ ⟨zfit (k := 0) (z := 1) rfl rfl (by omega), zfit (k := 0) (z := 16) rfl rfl (by omega)⟩ dX3_sum_76) ⟨zad (k := 0) rfl (by omega), zad (k := 0) rfl (by omega)⟩ hS (fun z hz => Or.inl (hz ▸ FM.in hE hh.sep (domME 13 a (Or.inl rfl) (by omega)) (by simp [rAm]))) (fun r H19 locs hp hF hS1 => ?_)
            obtain ⟨_, rfl, rfl, hm9⟩ := hp
            have hP : va_P G.1 zCl [] H19 := va_nil
            have hD : va_D (zA (FM G μ σ) H0) [] := va_nilD
            have hP : va_P G.1 zCl ([]) H19 := hP
            have hD : va_D (zA (FM G μ σ) H0) ([]) := hD
            have hS := hS1
            have hPo : PoM G s0 H0 μ σ (stEl σ a (plV (St_p σ) 1 (St_ev σ b) (St_ev σ c))) 0 H19 := HM.put hE hO hh hHb (by omega) hF hm9 (zAt.ext hRb hF (Ne.symm (z_noArr hE (ci := 7) (t := 0) rfl (hHb.el (j := a) (by omega)).1 rfl hRb))) hNwqr17 (plV_ok hp _ _ _ _)
            exact z_iret hC hrt hlk hQ hS ⟨zle (z := 1) rfl (by omega), zle (z := 16) rfl (by omega)⟩ ⟨_, rfl, 0, stEl σ a (plV (St_p σ) 1 (St_ev σ b) (St_ev σ c)), hPo, Or.inl ⟨rfl, ⟨a, b, c, ⟨by omega, by omega⟩, ⟨by omega, by omega⟩, ⟨by omega, by omega⟩, ⟨hone1, hone2⟩, rfl, rfl⟩⟩⟩ dX3_sum_79
          · refine lv_aload_n hx hb dX3_sum_53 rfl (lv_at hl 0 rfl) ?_
            refine lv_iconst (v := iI 2) hx hb dX3_sum_54 rfl ?_
            have hHb := hH1
            refine z_go 0 0 (z_runV (As := [.int (iI 2)]) (rest := []) hC hml hl.1 (m_X3_no hE H13 (hO.ext (zS_F hS) hMo) μ σ 0 2 hHb) (lw_V q1520 q1522 qs29 q67 q1523) rfl nd_X3_no rfl (z_rv hC (ci := 2) rfl hHb.2.2.1.1 rfl) rfl (Nat.le_of_ble_eq_true rfl) ⟨Nat.le_of_ble_eq_true rfl, Nat.le_of_ble_eq_true rfl⟩ ⟨zfit (k := 0) (z := 1) rfl rfl (by omega), zfit (k := 0) (z := 16) rfl rfl (by omega)⟩ dX3_sum_55) ⟨zad (k := 0) rfl (by omega), zad (k := 0) rfl (by omega)⟩ hS (fun z hz => Or.inl (hz ▸ FM.in hE hh.sep (domM0 0 (by omega)) (by simp [rAm]))) (fun r H20 locs hp hF hS1 => ?_)
            obtain ⟨_, rfl, rfl, hx9⟩ := hp
            have hP : va_P G.1 zCl [] H20 := va_nil
            have hD : va_D (zA (FM G μ σ) H0) [] := va_nilD
            have hP : va_P G.1 zCl ([]) H20 := hP
            have hD : va_D (zA (FM G μ σ) H0) ([]) := hD
            have hS := hS1
            have hH9 : HM G s0 μ σ ((2 : Nat) : Int) H20 := HM.thr hE hHb hF hx9
            exact z_iret hC hrt hlk hQ hS ⟨zle (z := 1) rfl (by omega), zle (z := 16) rfl (by omega)⟩ ⟨_, rfl, 2, σ, PoM.same hH9, Or.inr ⟨by decide, rfl, by decide, Or.inr ⟨rfl, inE_n (by omega), inE_n (by omega), inE_n (by omega), fun z9 => by have h9 := hfl2.2.mpr z9.2; omega⟩⟩⟩ dX3_sum_58
      · refine lv_aload_n hx hb dX3_sum_29 rfl (lv_at hl 0 rfl) ?_
        refine lv_iconst (v := iI 1) hx hb dX3_sum_30 rfl ?_
        have hHb := hH1
        refine z_go 0 0 (z_runV (As := [.int (iI 1)]) (rest := []) hC hml hl.1 (m_X3_no hE H8 (hO.ext (zS_F hS) hMo) μ σ 0 1 hHb) (lw_V q1520 q1522 qs29 q67 q1523) rfl nd_X3_no rfl (z_rv hC (ci := 2) rfl hHb.2.2.1.1 rfl) rfl (Nat.le_of_ble_eq_true rfl) ⟨Nat.le_of_ble_eq_true rfl, Nat.le_of_ble_eq_true rfl⟩ ⟨zfit (k := 0) (z := 1) rfl rfl (by omega), zfit (k := 0) (z := 16) rfl rfl (by omega)⟩ dX3_sum_31) ⟨zad (k := 0) rfl (by omega), zad (k := 0) rfl (by omega)⟩ hS (fun z hz => Or.inl (hz ▸ FM.in hE hh.sep (domM0 0 (by omega)) (by simp [rAm]))) (fun r H21 locs hp hF hS1 => ?_)
        obtain ⟨_, rfl, rfl, hx9⟩ := hp
        have hP : va_P G.1 zCl [] H21 := va_nil
        have hD : va_D (zA (FM G μ σ) H0) [] := va_nilD
        have hP : va_P G.1 zCl ([]) H21 := hP
        have hD : va_D (zA (FM G μ σ) H0) ([]) := hD
        have hS := hS1
        have hH9 : HM G s0 μ σ ((1 : Nat) : Int) H21 := HM.thr hE hHb hF hx9
        exact z_iret hC hrt hlk hQ hS ⟨zle (z := 1) rfl (by omega), zle (z := 16) rfl (by omega)⟩ ⟨_, rfl, 1, σ, PoM.same hH9, Or.inr ⟨by decide, rfl, by decide, Or.inl ⟨rfl, fun z9 => by have h9 := hfl2.2.mpr (z9.2.2); omega⟩⟩⟩ dX3_sum_34

abbrev rm_m_X3_product : Room := { frames := 4, cells := 1, slots := 16, locals := 86 }
set_option maxHeartbeats 4000000 in
theorem m_X3_product {l : Launch} {s0 : State} {G : zG} (hE : zE l s0 G) (H0 : Heap) (hO : zO s0 H0) (μ : Ro → Nat) (σ : St) (th : Int) (i j k : Int) (hh : HM G s0 μ σ th H0) (hi : zi i ∧ zi j ∧ zi k) : zM l s0 yX3_product cX3_product 4 (some FieldType.int) rm_m_X3_product [.ref (μ (0, 0, 0)), .int (iI i), .int (iI j), .int (iI k)] H0 (FM G μ σ) (HPM G s0 H0 μ σ [IOB, IAE] ((fun y σ' => ∃ a b c : Nat, (i = a ∧ a < St_ne σ) ∧ (j = b ∧ b < St_ne σ) ∧ (k = c ∧ c < St_ne σ) ∧ (St_ea σ a = St_ea σ b ∧ St_ea σ a = St_ea σ c) ∧ σ' = stEl σ a (tmV (St_p σ) (St_n σ (St_ea σ a)) (St_sg σ (St_ea σ a)) (St_ev σ b) (St_ev σ c)) ∧ y = (szV (tmV (St_p σ) (St_n σ (St_ea σ a)) (St_sg σ (St_ea σ a)) (St_ev σ b) (St_ev σ c)) (St_n σ (St_ea σ a)) : Nat))) ((X3e σ i j k))) := by
  refine z_met hE (by decide +kernel) (Nat.le_of_ble_eq_true rfl) ?_
  intro pp ee ss mm args below meth cd Q ls hC hml hrt hlk hnm hH hQ hS hl
  have hx := hC.x
  have hb := hC.b
  have hl : lv_has ls 4 [(0, .ref (μ (0, 0, 0))), (1, .int (iI i)), (2, .int (iI j)), (3, .int (iI k))] := hl
  have hP : va_P G.1 zCl [] H0 := va_nil
  have hD : va_D (zA (FM G μ σ) H0) [] := va_nilD
  have hMo : ∀ z, (FM G μ σ) z → s0.heap.size ≤ z := fun z hz => FM.ge hh.sep hz
  have hH1 := hh
  obtain ⟨hp, hna, hal, hne9, hel9, hmr9⟩ := id hh.ok
  have hp7 : 0 < St_p σ ∧ St_p σ ≤ 7 := by rcases hp with h | h | h <;> rw [h] <;> decide
  have hP : va_P G.1 zCl [((μ (0, 0, 0)), zOb 2 [.int (iI th), .int (iI (St_p σ)), .int (iI ((St_kn σ : Nat) : Int)), .ref (μ (1, 0, 0)), .ref (μ (3, 0, 0))])] H0 := zP1 hh.2.2.1.1
  have hD : va_D (zA (FM G μ σ) H0) [((μ (0, 0, 0)), zOb 2 [.int (iI th), .int (iI (St_p σ)), .int (iI ((St_kn σ : Nat) : Int)), .ref (μ (1, 0, 0)), .ref (μ (3, 0, 0))])] := zD1 (Or.inl (FM.in hE hh.sep (domM0 0 (by omega)) (by simp [rAm])))
  refine lv_aload_n hx hb dX3_product_0 rfl (lv_at hl 0 rfl) ?_
  refine lv_iconst (v := iI 0) hx hb dX3_product_1 rfl ?_
  refine z_putO hC hP hD hS 0 (k := 0) rfl rfl in_X3 tyX3_ok nmX3 (by decide) q1495 (fun _ h => h) rfl rfl rfl rfl (Nat.le_of_ble_eq_true rfl) (ws' := [((μ (0, 0, 0)), zOb 2 [.int (iI 0), .int (iI (St_p σ)), .int (iI ((St_kn σ : Nat) : Int)), .ref (μ (1, 0, 0)), .ref (μ (3, 0, 0))])]) rfl dX3_product_2 (fun H1 locs hP hD hS hZ1 hZ2 => ?_)
  have hH1 : HM G s0 μ σ 0 H1 := HM.thr hE hH1 (zF.one hZ1 hZ2) (hP 0 _ rfl)
  have hP : va_P G.1 zCl [] H1 := va_nil
  have hD : va_D (zA (FM G μ σ) H0) [] := va_nilD
  refine lv_aload_n hx hb dX3_product_5 rfl (lv_at hl 0 rfl) ?_
  refine lv_iload_n hx hb dX3_product_6 rfl (lv_at hl 1 rfl) ?_
  refine z_go 0 0 (z_runV (As := [.int (iI i)]) (rest := []) hC hml hl.1 (m_X3_isElement hE H1 (hO.ext (zS_F hS) hMo) μ σ 0 i hH1 hi.1) (lw_V q1650 q1652 qs35 q67 q1653) rfl nd_X3_isElement rfl (z_rv hC (ci := 2) rfl hH1.2.2.1.1 rfl) rfl (Nat.le_of_ble_eq_true rfl) ⟨Nat.le_of_ble_eq_true rfl, Nat.le_of_ble_eq_true rfl⟩ ⟨zfit (k := 0) (z := 1) rfl rfl (by omega), zfit (k := 0) (z := 16) rfl rfl (by omega)⟩ dX3_product_7) ⟨zad (k := 0) rfl (by omega), zad (k := 0) rfl (by omega)⟩ hS (fun _ z => z.elim) (fun r H2 locs hp hF hS1 => ?_)
  obtain ⟨_, rfl, rfl⟩ := hp
  have hP := zpk hP hF
  have hP : va_P G.1 zCl ([]) H2 := hP
  have hD : va_D (zA (FM G μ σ) H0) ([]) := hD
  have hH1 : HM G s0 μ σ 0 H2 := hH1.ext0 hE hF
  have hS := hS1
  obtain ⟨fl, hfl, hfl2⟩ : ∃ fl : Nat, fl ≤ 1 ∧ (if 0 ≤ i ∧ i < (((St_ne σ) : Nat) : Int) then (1 : Int) else 0) = fl ∧ (fl = 1 ↔ 0 ≤ i ∧ i < (((St_ne σ) : Nat) : Int)) := by by_cases h : 0 ≤ i ∧ i < (((St_ne σ) : Nat) : Int); exact ⟨1, by decide, by rw [if_pos h]; rfl, ⟨fun _ => h, fun _ => rfl⟩⟩; exact ⟨0, by decide, by rw [if_neg h]; rfl, ⟨fun z => absurd z (by decide), fun z => absurd z h⟩⟩
  refine z_top (b := ((fl : Nat) : Int)) (hfl2.1) ?_
  refine z_zeq (tgt := 29) hx hb dX3_product_10 (by decide) (by omega) (fun c3 => ?_) (fun c3 => ?_)
  · refine lv_aload_n hx hb dX3_product_29 rfl (lv_at hl 0 rfl) ?_
    refine lv_iconst (v := iI 1) hx hb dX3_product_30 rfl ?_
    have hHb := hH1
    refine z_go 0 0 (z_runV (As := [.int (iI 1)]) (rest := []) hC hml hl.1 (m_X3_no hE H2 (hO.ext (zS_F hS) hMo) μ σ 0 1 hHb) (lw_V q1520 q1522 qs29 q67 q1523) rfl nd_X3_no rfl (z_rv hC (ci := 2) rfl hHb.2.2.1.1 rfl) rfl (Nat.le_of_ble_eq_true rfl) ⟨Nat.le_of_ble_eq_true rfl, Nat.le_of_ble_eq_true rfl⟩ ⟨zfit (k := 0) (z := 1) rfl rfl (by omega), zfit (k := 0) (z := 16) rfl rfl (by omega)⟩ dX3_product_31) ⟨zad (k := 0) rfl (by omega), zad (k := 0) rfl (by omega)⟩ hS (fun z hz => Or.inl (hz ▸ FM.in hE hh.sep (domM0 0 (by omega)) (by simp [rAm]))) (fun r H4 locs hp hF hS1 => ?_)
    obtain ⟨_, rfl, rfl, hx9⟩ := hp
    have hP : va_P G.1 zCl [] H4 := va_nil
    have hD : va_D (zA (FM G μ σ) H0) [] := va_nilD
    have hP : va_P G.1 zCl ([]) H4 := hP
    have hD : va_D (zA (FM G μ σ) H0) ([]) := hD
    have hS := hS1
    have hH9 : HM G s0 μ σ ((1 : Nat) : Int) H4 := HM.thr hE hHb hF hx9
    exact z_iret hC hrt hlk hQ hS ⟨zle (z := 1) rfl (by omega), zle (z := 16) rfl (by omega)⟩ ⟨_, rfl, 1, σ, PoM.same hH9, Or.inr ⟨by decide, rfl, by decide, Or.inl ⟨rfl, fun z9 => by have h9 := hfl2.2.mpr (z9.1); omega⟩⟩⟩ dX3_product_34
  · have hok9 := hfl2.2.mp (by omega)
    obtain ⟨a, rfl⟩ : ∃ a : Nat, i = a := ⟨i.toNat, by omega⟩
    have ha9 : a < St_ne σ := by omega
    refine lv_aload_n hx hb dX3_product_13 rfl (lv_at hl 0 rfl) ?_
    refine lv_iload_n hx hb dX3_product_14 rfl (lv_at hl 2 rfl) ?_
    refine z_go 0 0 (z_runV (As := [.int (iI j)]) (rest := []) hC hml hl.1 (m_X3_isElement hE H2 (hO.ext (zS_F hS) hMo) μ σ 0 j hH1 hi.2.1) (lw_V q1650 q1652 qs35 q67 q1653) rfl nd_X3_isElement rfl (z_rv hC (ci := 2) rfl hH1.2.2.1.1 rfl) rfl (Nat.le_of_ble_eq_true rfl) ⟨Nat.le_of_ble_eq_true rfl, Nat.le_of_ble_eq_true rfl⟩ ⟨zfit (k := 0) (z := 1) rfl rfl (by omega), zfit (k := 0) (z := 16) rfl rfl (by omega)⟩ dX3_product_15) ⟨zad (k := 0) rfl (by omega), zad (k := 0) rfl (by omega)⟩ hS (fun _ z => z.elim) (fun r H5 locs hp hF hS1 => ?_)
    obtain ⟨_, rfl, rfl⟩ := hp
    have hP := zpk hP hF
    have hP : va_P G.1 zCl ([]) H5 := hP
    have hD : va_D (zA (FM G μ σ) H0) ([]) := hD
    have hH1 : HM G s0 μ σ 0 H5 := hH1.ext0 hE hF
    have hS := hS1
    obtain ⟨fl, hfl, hfl2⟩ : ∃ fl : Nat, fl ≤ 1 ∧ (if 0 ≤ j ∧ j < (((St_ne σ) : Nat) : Int) then (1 : Int) else 0) = fl ∧ (fl = 1 ↔ 0 ≤ j ∧ j < (((St_ne σ) : Nat) : Int)) := by by_cases h : 0 ≤ j ∧ j < (((St_ne σ) : Nat) : Int); exact ⟨1, by decide, by rw [if_pos h]; rfl, ⟨fun _ => h, fun _ => rfl⟩⟩; exact ⟨0, by decide, by rw [if_neg h]; rfl, ⟨fun z => absurd z (by decide), fun z => absurd z h⟩⟩
    refine z_top (b := ((fl : Nat) : Int)) (hfl2.1) ?_
    refine z_zeq (tgt := 29) hx hb dX3_product_18 (by decide) (by omega) (fun c6 => ?_) (fun c6 => ?_)
    · refine lv_aload_n hx hb dX3_product_29 rfl (lv_at hl 0 rfl) ?_
      refine lv_iconst (v := iI 1) hx hb dX3_product_30 rfl ?_
      have hHb := hH1
      refine z_go 0 0 (z_runV (As := [.int (iI 1)]) (rest := []) hC hml hl.1 (m_X3_no hE H5 (hO.ext (zS_F hS) hMo) μ σ 0 1 hHb) (lw_V q1520 q1522 qs29 q67 q1523) rfl nd_X3_no rfl (z_rv hC (ci := 2) rfl hHb.2.2.1.1 rfl) rfl (Nat.le_of_ble_eq_true rfl) ⟨Nat.le_of_ble_eq_true rfl, Nat.le_of_ble_eq_true rfl⟩ ⟨zfit (k := 0) (z := 1) rfl rfl (by omega), zfit (k := 0) (z := 16) rfl rfl (by omega)⟩ dX3_product_31) ⟨zad (k := 0) rfl (by omega), zad (k := 0) rfl (by omega)⟩ hS (fun z hz => Or.inl (hz ▸ FM.in hE hh.sep (domM0 0 (by omega)) (by simp [rAm]))) (fun r H7 locs hp hF hS1 => ?_)
      obtain ⟨_, rfl, rfl, hx9⟩ := hp
      have hP : va_P G.1 zCl [] H7 := va_nil
      have hD : va_D (zA (FM G μ σ) H0) [] := va_nilD
      have hP : va_P G.1 zCl ([]) H7 := hP
      have hD : va_D (zA (FM G μ σ) H0) ([]) := hD
      have hS := hS1
      have hH9 : HM G s0 μ σ ((1 : Nat) : Int) H7 := HM.thr hE hHb hF hx9
      exact z_iret hC hrt hlk hQ hS ⟨zle (z := 1) rfl (by omega), zle (z := 16) rfl (by omega)⟩ ⟨_, rfl, 1, σ, PoM.same hH9, Or.inr ⟨by decide, rfl, by decide, Or.inl ⟨rfl, fun z9 => by have h9 := hfl2.2.mpr (z9.2.1); omega⟩⟩⟩ dX3_product_34
    · have hok9 := hfl2.2.mp (by omega)
      obtain ⟨b, rfl⟩ : ∃ b : Nat, j = b := ⟨j.toNat, by omega⟩
      have hb9 : b < St_ne σ := by omega
      refine lv_aload_n hx hb dX3_product_21 rfl (lv_at hl 0 rfl) ?_
      refine lv_iload_n hx hb dX3_product_22 rfl (lv_at hl 3 rfl) ?_
      refine z_go 0 0 (z_runV (As := [.int (iI k)]) (rest := []) hC hml hl.1 (m_X3_isElement hE H5 (hO.ext (zS_F hS) hMo) μ σ 0 k hH1 hi.2.2) (lw_V q1650 q1652 qs35 q67 q1653) rfl nd_X3_isElement rfl (z_rv hC (ci := 2) rfl hH1.2.2.1.1 rfl) rfl (Nat.le_of_ble_eq_true rfl) ⟨Nat.le_of_ble_eq_true rfl, Nat.le_of_ble_eq_true rfl⟩ ⟨zfit (k := 0) (z := 1) rfl rfl (by omega), zfit (k := 0) (z := 16) rfl rfl (by omega)⟩ dX3_product_23) ⟨zad (k := 0) rfl (by omega), zad (k := 0) rfl (by omega)⟩ hS (fun _ z => z.elim) (fun r H8 locs hp hF hS1 => ?_)
      obtain ⟨_, rfl, rfl⟩ := hp
      have hP := zpk hP hF
      have hP : va_P G.1 zCl ([]) H8 := hP
      have hD : va_D (zA (FM G μ σ) H0) ([]) := hD
      have hH1 : HM G s0 μ σ 0 H8 := hH1.ext0 hE hF
      have hS := hS1
      obtain ⟨fl, hfl, hfl2⟩ : ∃ fl : Nat, fl ≤ 1 ∧ (if 0 ≤ k ∧ k < (((St_ne σ) : Nat) : Int) then (1 : Int) else 0) = fl ∧ (fl = 1 ↔ 0 ≤ k ∧ k < (((St_ne σ) : Nat) : Int)) := by by_cases h : 0 ≤ k ∧ k < (((St_ne σ) : Nat) : Int); exact ⟨1, by decide, by rw [if_pos h]; rfl, ⟨fun _ => h, fun _ => rfl⟩⟩; exact ⟨0, by decide, by rw [if_neg h]; rfl, ⟨fun z => absurd z (by decide), fun z => absurd z h⟩⟩
      refine z_top (b := ((fl : Nat) : Int)) (hfl2.1) ?_
      refine z_zne (tgt := 35) hx hb dX3_product_26 (by decide) (by omega) (fun c9 => ?_) (fun c9 => ?_)
      · have hok9 := hfl2.2.mp (by omega)
        obtain ⟨c, rfl⟩ : ∃ c : Nat, k = c := ⟨k.toNat, by omega⟩
        have hc9 : c < St_ne σ := by omega
        refine lv_aload_n hx hb dX3_product_35 rfl (lv_at hl 0 rfl) ?_
        refine lv_iload_n hx hb dX3_product_36 rfl (lv_at hl 1 rfl) ?_
        refine lv_iload_n hx hb dX3_product_37 rfl (lv_at hl 2 rfl) ?_
        refine z_go 0 0 (z_runV (As := [.int (iI ((a : Nat) : Int)), .int (iI ((b : Nat) : Int))]) (rest := []) hC hml hl.1 (m_X3_areOne hE H8 (hO.ext (zS_F hS) hMo) μ σ 0 a b hH1 ⟨by omega, by omega⟩) (lw_V q1662 q1664 qs37 q67 q1665) rfl nd_X3_areOne rfl (z_rv hC (ci := 2) rfl hH1.2.2.1.1 rfl) rfl (Nat.le_of_ble_eq_true rfl) ⟨Nat.le_of_ble_eq_true rfl, Nat.le_of_ble_eq_true rfl⟩ ⟨zfit (k := 0) (z := 1) rfl rfl (by omega), zfit (k := 0) (z := 16) rfl rfl (by omega)⟩ dX3_product_38) ⟨zad (k := 0) rfl (by omega), zad (k := 0) rfl (by omega)⟩ hS (fun _ z => z.elim) (fun r H10 locs hp hF hS1 => ?_)
        obtain ⟨_, rfl, rfl⟩ := hp
        have hP := zpk hP hF
        have hP : va_P G.1 zCl ([]) H10 := hP
        have hD : va_D (zA (FM G μ σ) H0) ([]) := hD
        have hH1 : HM G s0 μ σ 0 H10 := hH1.ext0 hE hF
        have hS := hS1
        obtain ⟨fl, hfl, hfl2⟩ : ∃ fl : Nat, fl ≤ 1 ∧ (if St_ea σ a = St_ea σ b then (1 : Int) else 0) = fl ∧ (fl = 1 ↔ St_ea σ a = St_ea σ b) := by by_cases h : St_ea σ a = St_ea σ b; exact ⟨1, by decide, by rw [if_pos h]; rfl, ⟨fun _ => h, fun _ => rfl⟩⟩; exact ⟨0, by decide, by rw [if_neg h]; rfl, ⟨fun z => absurd z (by decide), fun z => absurd z h⟩⟩
        refine z_top (b := ((fl : Nat) : Int)) (hfl2.1) ?_
        refine z_zeq (tgt := 53) hx hb dX3_product_41 (by decide) (by omega) (fun c11 => ?_) (fun c11 => ?_)
        · refine lv_aload_n hx hb dX3_product_53 rfl (lv_at hl 0 rfl) ?_
          refine lv_iconst (v := iI 2) hx hb dX3_product_54 rfl ?_
          have hHb := hH1
          refine z_go 0 0 (z_runV (As := [.int (iI 2)]) (rest := []) hC hml hl.1 (m_X3_no hE H10 (hO.ext (zS_F hS) hMo) μ σ 0 2 hHb) (lw_V q1520 q1522 qs29 q67 q1523) rfl nd_X3_no rfl (z_rv hC (ci := 2) rfl hHb.2.2.1.1 rfl) rfl (Nat.le_of_ble_eq_true rfl) ⟨Nat.le_of_ble_eq_true rfl, Nat.le_of_ble_eq_true rfl⟩ ⟨zfit (k := 0) (z := 1) rfl rfl (by omega), zfit (k := 0) (z := 16) rfl rfl (by omega)⟩ dX3_product_55) ⟨zad (k := 0) rfl (by omega), zad (k := 0) rfl (by omega)⟩ hS (fun z hz => Or.inl (hz ▸ FM.in hE hh.sep (domM0 0 (by omega)) (by simp [rAm]))) (fun r H12 locs hp hF hS1 => ?_)
          obtain ⟨_, rfl, rfl, hx9⟩ := hp
          have hP : va_P G.1 zCl [] H12 := va_nil
          have hD : va_D (zA (FM G μ σ) H0) [] := va_nilD
          have hP : va_P G.1 zCl ([]) H12 := hP
          have hD : va_D (zA (FM G μ σ) H0) ([]) := hD
          have hS := hS1
          have hH9 : HM G s0 μ σ ((2 : Nat) : Int) H12 := HM.thr hE hHb hF hx9
          exact z_iret hC hrt hlk hQ hS ⟨zle (z := 1) rfl (by omega), zle (z := 16) rfl (by omega)⟩ ⟨_, rfl, 2, σ, PoM.same hH9, Or.inr ⟨by decide, rfl, by decide, Or.inr ⟨rfl, inE_n (by omega), inE_n (by omega), inE_n (by omega), fun z9 => by have h9 := hfl2.2.mpr z9.1; omega⟩⟩⟩ dX3_product_58
        · have hone1 : St_ea σ a = St_ea σ b := hfl2.2.mp (by omega)
          refine lv_aload_n hx hb dX3_product_44 rfl (lv_at hl 0 rfl) ?_
          refine lv_iload_n hx hb dX3_product_45 rfl (lv_at hl 1 rfl) ?_
          refine lv_iload_n hx hb dX3_product_46 rfl (lv_at hl 3 rfl) ?_
          refine z_go 0 0 (z_runV (As := [.int (iI ((a : Nat) : Int)), .int (iI ((c : Nat) : Int))]) (rest := []) hC hml hl.1 (m_X3_areOne hE H10 (hO.ext (zS_F hS) hMo) μ σ 0 a c hH1 ⟨by omega, by omega⟩) (lw_V q1662 q1664 qs37 q67 q1665) rfl nd_X3_areOne rfl (z_rv hC (ci := 2) rfl hH1.2.2.1.1 rfl) rfl (Nat.le_of_ble_eq_true rfl) ⟨Nat.le_of_ble_eq_true rfl, Nat.le_of_ble_eq_true rfl⟩ ⟨zfit (k := 0) (z := 1) rfl rfl (by omega), zfit (k := 0) (z := 16) rfl rfl (by omega)⟩ dX3_product_47) ⟨zad (k := 0) rfl (by omega), zad (k := 0) rfl (by omega)⟩ hS (fun _ z => z.elim) (fun r H13 locs hp hF hS1 => ?_)
          obtain ⟨_, rfl, rfl⟩ := hp
          have hP := zpk hP hF
          have hP : va_P G.1 zCl ([]) H13 := hP
          have hD : va_D (zA (FM G μ σ) H0) ([]) := hD
          have hH1 : HM G s0 μ σ 0 H13 := hH1.ext0 hE hF
          have hS := hS1
          obtain ⟨fl, hfl, hfl2⟩ : ∃ fl : Nat, fl ≤ 1 ∧ (if St_ea σ a = St_ea σ c then (1 : Int) else 0) = fl ∧ (fl = 1 ↔ St_ea σ a = St_ea σ c) := by by_cases h : St_ea σ a = St_ea σ c; exact ⟨1, by decide, by rw [if_pos h]; rfl, ⟨fun _ => h, fun _ => rfl⟩⟩; exact ⟨0, by decide, by rw [if_neg h]; rfl, ⟨fun z => absurd z (by decide), fun z => absurd z h⟩⟩
          refine z_top (b := ((fl : Nat) : Int)) (hfl2.1) ?_
          refine z_zne (tgt := 59) hx hb dX3_product_50 (by decide) (by omega) (fun c14 => ?_) (fun c14 => ?_)
          · have hone2 : St_ea σ a = St_ea σ c := hfl2.2.mp (by omega)
            have hea := hh.ea (j := a) (by omega)
            refine lv_aload_n hx hb dX3_product_59 rfl (lv_at hl 0 rfl) ?_
            refine lv_iload_n hx hb dX3_product_60 rfl (lv_at hl 1 rfl) ?_
            refine lv_aload_n hx hb dX3_product_61 rfl (lv_at hl 0 rfl) ?_
            refine lv_iload_n hx hb dX3_product_62 rfl (lv_at hl 1 rfl) ?_
            refine z_go 0 0 (z_runV (As := [.int (iI ((a : Nat) : Int))]) (rest := [.int (iI ((a : Nat) : Int)), .ref (μ (0, 0, 0))]) hC hml hl.1 (m_X3_home hE H13 (hO.ext (zS_F hS) hMo) μ σ 0 a hH1 (by omega)) (lw_V q1682 q1684 qs40 q67 q1685) rfl nd_X3_home rfl (z_rv hC (ci := 2) rfl hH1.2.2.1.1 rfl) rfl (Nat.le_of_ble_eq_true rfl) ⟨Nat.le_of_ble_eq_true rfl, Nat.le_of_ble_eq_true rfl⟩ ⟨zfit (k := 0) (z := 1) rfl rfl (by omega), zfit (k := 0) (z := 16) rfl rfl (by omega)⟩ dX3_product_63) ⟨zad (k := 0) rfl (by omega), zad (k := 0) rfl (by omega)⟩ hS (fun _ z => z.elim) (fun r H15 locs hp hF hS1 => ?_)
            obtain ⟨_, rfl, rfl⟩ := hp
            have hP := zpk hP hF
            have hP : va_P G.1 zCl ([]) H15 := hP
            have hD : va_D (zA (FM G μ σ) H0) ([]) := hD
            have hH1 : HM G s0 μ σ 0 H15 := hH1.ext0 hE hF
            have hS := hS1
            have hRb := (hH1.el (j := b) (by omega)).2
            have hVb := hH1.row (j := b) (by omega)
            rw [← hone1] at hRb hVb
            refine lv_aload_n hx hb dX3_product_66 rfl (lv_at hl 0 rfl) ?_
            refine lv_iload_n hx hb dX3_product_67 rfl (lv_at hl 2 rfl) ?_
            refine z_go 0 0 (z_runV (As := [.int (iI ((b : Nat) : Int))]) (rest := [.ref (μ (6, St_ea σ a, 0)), .int (iI ((a : Nat) : Int)), .ref (μ (0, 0, 0))]) hC hml hl.1 (m_X3_row hE H15 (hO.ext (zS_F hS) hMo) μ σ 0 b hH1 (by omega)) (lw_V q1654 q1656 qs36 q67 q1657) rfl nd_X3_row rfl (z_rv hC (ci := 2) rfl hH1.2.2.1.1 rfl) rfl (Nat.le_of_ble_eq_true rfl) ⟨Nat.le_of_ble_eq_true rfl, Nat.le_of_ble_eq_true rfl⟩ ⟨zfit (k := 0) (z := 1) rfl rfl (by omega), zfit (k := 0) (z := 16) rfl rfl (by omega)⟩ dX3_product_68) ⟨zad (k := 0) rfl (by omega), zad (k := 0) rfl (by omega)⟩ hS (fun _ z => z.elim) (fun r H16 locs hp hF hS1 => ?_)
            obtain ⟨_, rfl, rfl⟩ := hp
            have hP := zpk hP hF
            have hP : va_P G.1 zCl ([]) H16 := hP
            have hD : va_D (zA (FM G μ σ) H0) ([]) := hD
            have hH1 : HM G s0 μ σ 0 H16 := hH1.ext0 hE hF
            have hS := hS1
            have hRb := (hH1.el (j := b) (by omega)).2
            have hVb := hH1.row (j := b) (by omega)
            rw [← hone1] at hRb hVb
            have hRc := (hH1.el (j := c) (by omega)).2
            have hVc := hH1.row (j := c) (by omega)
            rw [← hone2] at hRc hVc
            refine lv_aload_n hx hb dX3_product_71 rfl (lv_at hl 0 rfl) ?_
            refine lv_iload_n hx hb dX3_product_72 rfl (lv_at hl 3 rfl) ?_
            refine z_go 0 0 (z_runV (As := [.int (iI ((c : Nat) : Int))]) (rest := [.ref (μ (14, b, 0)), .ref (μ (6, St_ea σ a, 0)), .int (iI ((a : Nat) : Int)), .ref (μ (0, 0, 0))]) hC hml hl.1 (m_X3_row hE H16 (hO.ext (zS_F hS) hMo) μ σ 0 c hH1 (by omega)) (lw_V q1654 q1656 qs36 q67 q1657) rfl nd_X3_row rfl (z_rv hC (ci := 2) rfl hH1.2.2.1.1 rfl) rfl (Nat.le_of_ble_eq_true rfl) ⟨Nat.le_of_ble_eq_true rfl, Nat.le_of_ble_eq_true rfl⟩ ⟨zfit (k := 0) (z := 1) rfl rfl (by omega), zfit (k := 0) (z := 16) rfl rfl (by omega)⟩ dX3_product_73) ⟨zad (k := 0) rfl (by omega), zad (k := 0) rfl (by omega)⟩ hS (fun _ z => z.elim) (fun r H17 locs hp hF hS1 => ?_)
            obtain ⟨_, rfl, rfl⟩ := hp
            have hP := zpk hP hF
            have hP : va_P G.1 zCl ([]) H17 := hP
            have hD : va_D (zA (FM G μ σ) H0) ([]) := hD
            have hH1 : HM G s0 μ σ 0 H17 := hH1.ext0 hE hF
            have hS := hS1
            have hRb := (hH1.el (j := b) (by omega)).2
            have hVb := hH1.row (j := b) (by omega)
            rw [← hone1] at hRb hVb
            have hRc := (hH1.el (j := c) (by omega)).2
            have hVc := hH1.row (j := c) (by omega)
            rw [← hone2] at hRc hVc
            have hsz9 : H0.size ≤ H17.size := hS.1
            have hUSt_eaσa := hH1.al (k := St_ea σ a) hea
            refine z_go 1 16 (z_runV (As := [.ref (μ (14, b, 0)), .ref (μ (14, c, 0))]) (rest := [.int (iI ((a : Nat) : Int)), .ref (μ (0, 0, 0))]) hC hml hl.1 (m_X6_times hE H17 (hO.ext (zS_F hS) hMo) μ σ 0 (St_ea σ a) (μ (14, b, 0)) (St_ev σ b) (μ (14, c, 0)) (St_ev σ c)  hH1 hea hRb hVb hRc hVc ) (lw_V q1686 q1687 q1688 q82 q1689) rfl nd_X6_times rfl (z_rv hC (ci := 5) rfl hUSt_eaσa.1 rfl) rfl (Nat.le_of_ble_eq_true rfl) ⟨Nat.le_of_ble_eq_true rfl, Nat.le_of_ble_eq_true rfl⟩ ⟨zfit (k := 1) (z := 1) rfl rfl (by omega), zfit (k := 16) (z := 16) rfl rfl (by omega)⟩ dX3_product_76) ⟨zad (k := 1) rfl (by omega), zad (k := 16) rfl (by omega)⟩ hS (fun _ z => z.elim) (fun r H19 locs hp hF hS1 => ?_)
            obtain ⟨qr18, rfl, hN⟩ := hp
            obtain ⟨hP, hD⟩ := zjn hP hD hS.1 hF hN
            have hP : va_P G.1 zCl ([(qr18, zI G (St_n σ (St_ea σ a)) (tmV (St_p σ) (St_n σ (St_ea σ a)) (St_sg σ (St_ea σ a)) (St_ev σ b) (St_ev σ c)))]) H19 := hP
            have hD : va_D (zA (FM G μ σ) H0) ([(qr18, zI G (St_n σ (St_ea σ a)) (tmV (St_p σ) (St_n σ (St_ea σ a)) (St_sg σ (St_ea σ a)) (St_ev σ b) (St_ev σ c)))]) := hD
            have hH1 : HM G s0 μ σ 0 H19 := hH1.ext0 hE hF
            have hS := hS1
            have hNwqr18 : H0.size ≤ qr18 := Nat.le_trans hsz9 (hN.2.2 0 _ rfl)
            have hHb := hH1
            have hRb := hP 0 _ rfl
            refine z_go 1 16 (z_runV (As := [.int (iI ((a : Nat) : Int)), .ref qr18]) (rest := []) hC hml hl.1 (m_X3_put hE H19 (hO.ext (zS_F hS) hMo) μ σ 0 a qr18 (tmV (St_p σ) (St_n σ (St_ea σ a)) (St_sg σ (St_ea σ a)) (St_ev σ b) (St_ev σ c)) hHb (by omega) hRb (tmV_ok hp _ _ _ _)) (lw_V q1671 q1673 qs39 q67 q1674) rfl nd_X3_put rfl (z_rv hC (ci := 2) rfl hHb.2.2.1.1 rfl) rfl (Nat.le_of_ble_eq_true rfl) ⟨Nat.le_of_ble_eq_true rfl, Nat.le_of_ble_eq_true rfl⟩ ⟨zfit (k := 0) (z := 1) rfl rfl (by omega), zfit (k := 0) (z := 16) rfl rfl (by omega)⟩ dX3_product_79) ⟨zad (k := 0) rfl (by omega), zad (k := 0) rfl (by omega)⟩ hS (fun z hz => Or.inl (hz ▸ FM.in hE hh.sep (domME 13 a (Or.inl rfl) (by omega)) (by simp [rAm]))) (fun r H20 locs hp hF hS1 => ?_)
            obtain ⟨_, rfl, rfl, hm9⟩ := hp
            have hP : va_P G.1 zCl [] H20 := va_nil
            have hD : va_D (zA (FM G μ σ) H0) [] := va_nilD
            have hP : va_P G.1 zCl ([]) H20 := hP
            have hD : va_D (zA (FM G μ σ) H0) ([]) := hD
            have hS := hS1
            have hPo : PoM G s0 H0 μ σ (stEl σ a (tmV (St_p σ) (St_n σ (St_ea σ a)) (St_sg σ (St_ea σ a)) (St_ev σ b) (St_ev σ c))) 0 H20 := HM.put hE hO hh hHb (by omega) hF hm9 (zAt.ext hRb hF (Ne.symm (z_noArr hE (ci := 7) (t := 0) rfl (hHb.el (j := a) (by omega)).1 rfl hRb))) hNwqr18 (tmV_ok hp _ _ _ _)
            exact z_iret hC hrt hlk hQ hS ⟨zle (z := 1) rfl (by omega), zle (z := 16) rfl (by omega)⟩ ⟨_, rfl, 0, stEl σ a (tmV (St_p σ) (St_n σ (St_ea σ a)) (St_sg σ (St_ea σ a)) (St_ev σ b) (St_ev σ c)), hPo, Or.inl ⟨rfl, ⟨a, b, c, ⟨by omega, by omega⟩, ⟨by omega, by omega⟩, ⟨by omega, by omega⟩, ⟨hone1, hone2⟩, rfl, rfl⟩⟩⟩ dX3_product_82
          · refine lv_aload_n hx hb dX3_product_53 rfl (lv_at hl 0 rfl) ?_
            refine lv_iconst (v := iI 2) hx hb dX3_product_54 rfl ?_
            have hHb := hH1
            refine z_go 0 0 (z_runV (As := [.int (iI 2)]) (rest := []) hC hml hl.1 (m_X3_no hE H13 (hO.ext (zS_F hS) hMo) μ σ 0 2 hHb) (lw_V q1520 q1522 qs29 q67 q1523) rfl nd_X3_no rfl (z_rv hC (ci := 2) rfl hHb.2.2.1.1 rfl) rfl (Nat.le_of_ble_eq_true rfl) ⟨Nat.le_of_ble_eq_true rfl, Nat.le_of_ble_eq_true rfl⟩ ⟨zfit (k := 0) (z := 1) rfl rfl (by omega), zfit (k := 0) (z := 16) rfl rfl (by omega)⟩ dX3_product_55) ⟨zad (k := 0) rfl (by omega), zad (k := 0) rfl (by omega)⟩ hS (fun z hz => Or.inl (hz ▸ FM.in hE hh.sep (domM0 0 (by omega)) (by simp [rAm]))) (fun r H21 locs hp hF hS1 => ?_)
            obtain ⟨_, rfl, rfl, hx9⟩ := hp
            have hP : va_P G.1 zCl [] H21 := va_nil
            have hD : va_D (zA (FM G μ σ) H0) [] := va_nilD
            have hP : va_P G.1 zCl ([]) H21 := hP
            have hD : va_D (zA (FM G μ σ) H0) ([]) := hD
            have hS := hS1
            have hH9 : HM G s0 μ σ ((2 : Nat) : Int) H21 := HM.thr hE hHb hF hx9
            exact z_iret hC hrt hlk hQ hS ⟨zle (z := 1) rfl (by omega), zle (z := 16) rfl (by omega)⟩ ⟨_, rfl, 2, σ, PoM.same hH9, Or.inr ⟨by decide, rfl, by decide, Or.inr ⟨rfl, inE_n (by omega), inE_n (by omega), inE_n (by omega), fun z9 => by have h9 := hfl2.2.mpr z9.2; omega⟩⟩⟩ dX3_product_58
      · refine lv_aload_n hx hb dX3_product_29 rfl (lv_at hl 0 rfl) ?_
        refine lv_iconst (v := iI 1) hx hb dX3_product_30 rfl ?_
        have hHb := hH1
        refine z_go 0 0 (z_runV (As := [.int (iI 1)]) (rest := []) hC hml hl.1 (m_X3_no hE H8 (hO.ext (zS_F hS) hMo) μ σ 0 1 hHb) (lw_V q1520 q1522 qs29 q67 q1523) rfl nd_X3_no rfl (z_rv hC (ci := 2) rfl hHb.2.2.1.1 rfl) rfl (Nat.le_of_ble_eq_true rfl) ⟨Nat.le_of_ble_eq_true rfl, Nat.le_of_ble_eq_true rfl⟩ ⟨zfit (k := 0) (z := 1) rfl rfl (by omega), zfit (k := 0) (z := 16) rfl rfl (by omega)⟩ dX3_product_31) ⟨zad (k := 0) rfl (by omega), zad (k := 0) rfl (by omega)⟩ hS (fun z hz => Or.inl (hz ▸ FM.in hE hh.sep (domM0 0 (by omega)) (by simp [rAm]))) (fun r H22 locs hp hF hS1 => ?_)
        obtain ⟨_, rfl, rfl, hx9⟩ := hp
        have hP : va_P G.1 zCl [] H22 := va_nil
        have hD : va_D (zA (FM G μ σ) H0) [] := va_nilD
        have hP : va_P G.1 zCl ([]) H22 := hP
        have hD : va_D (zA (FM G μ σ) H0) ([]) := hD
        have hS := hS1
        have hH9 : HM G s0 μ σ ((1 : Nat) : Int) H22 := HM.thr hE hHb hF hx9
        exact z_iret hC hrt hlk hQ hS ⟨zle (z := 1) rfl (by omega), zle (z := 16) rfl (by omega)⟩ ⟨_, rfl, 1, σ, PoM.same hH9, Or.inr ⟨by decide, rfl, by decide, Or.inl ⟨rfl, fun z9 => by have h9 := hfl2.2.mpr (z9.2.2); omega⟩⟩⟩ dX3_product_34

abbrev rm_m_X3_scale : Room := { frames := 4, cells := 1, slots := 16, locals := 86 }
set_option maxHeartbeats 4000000 in
theorem m_X3_scale {l : Launch} {s0 : State} {G : zG} (hE : zE l s0 G) (H0 : Heap) (hO : zO s0 H0) (μ : Ro → Nat) (σ : St) (th : Int) (i j t : Int) (hh : HM G s0 μ σ th H0) (hi : zi i ∧ zi j ∧ zi t) : zM l s0 yX3_scale cX3_scale 4 (some FieldType.int) rm_m_X3_scale [.ref (μ (0, 0, 0)), .int (iI i), .int (iI j), .int (iI t)] H0 (FM G μ σ) (HPM G s0 H0 μ σ [IOB, IAE] ((fun y σ' => ∃ a b : Nat, (i = a ∧ a < St_ne σ) ∧ (j = b ∧ b < St_ne σ) ∧ St_ea σ a = St_ea σ b ∧ (0 ≤ t ∧ t < St_p σ) ∧ σ' = stEl σ a (scV (St_p σ) t (St_ev σ b)) ∧ y = (szV (scV (St_p σ) t (St_ev σ b)) (St_n σ (St_ea σ a)) : Nat))) ((X2e σ i j (0 ≤ t ∧ t < St_p σ)))) := by
  refine z_met hE (by decide +kernel) (Nat.le_of_ble_eq_true rfl) ?_
  intro pp ee ss mm args below meth cd Q ls hC hml hrt hlk hnm hH hQ hS hl
  have hx := hC.x
  have hb := hC.b
  have hl : lv_has ls 4 [(0, .ref (μ (0, 0, 0))), (1, .int (iI i)), (2, .int (iI j)), (3, .int (iI t))] := hl
  have hP : va_P G.1 zCl [] H0 := va_nil
  have hD : va_D (zA (FM G μ σ) H0) [] := va_nilD
  have hMo : ∀ z, (FM G μ σ) z → s0.heap.size ≤ z := fun z hz => FM.ge hh.sep hz
  have hH1 := hh
  obtain ⟨hp, hna, hal, hne9, hel9, hmr9⟩ := id hh.ok
  have hp7 : 0 < St_p σ ∧ St_p σ ≤ 7 := by rcases hp with h | h | h <;> rw [h] <;> decide
  have hP : va_P G.1 zCl [((μ (0, 0, 0)), zOb 2 [.int (iI th), .int (iI (St_p σ)), .int (iI ((St_kn σ : Nat) : Int)), .ref (μ (1, 0, 0)), .ref (μ (3, 0, 0))])] H0 := zP1 hh.2.2.1.1
  have hD : va_D (zA (FM G μ σ) H0) [((μ (0, 0, 0)), zOb 2 [.int (iI th), .int (iI (St_p σ)), .int (iI ((St_kn σ : Nat) : Int)), .ref (μ (1, 0, 0)), .ref (μ (3, 0, 0))])] := zD1 (Or.inl (FM.in hE hh.sep (domM0 0 (by omega)) (by simp [rAm])))
  refine lv_aload_n hx hb dX3_scale_0 rfl (lv_at hl 0 rfl) ?_
  refine lv_iconst (v := iI 0) hx hb dX3_scale_1 rfl ?_
  refine z_putO hC hP hD hS 0 (k := 0) rfl rfl in_X3 tyX3_ok nmX3 (by decide) q1495 (fun _ h => h) rfl rfl rfl rfl (Nat.le_of_ble_eq_true rfl) (ws' := [((μ (0, 0, 0)), zOb 2 [.int (iI 0), .int (iI (St_p σ)), .int (iI ((St_kn σ : Nat) : Int)), .ref (μ (1, 0, 0)), .ref (μ (3, 0, 0))])]) rfl dX3_scale_2 (fun H1 locs hP hD hS hZ1 hZ2 => ?_)
  have hH1 : HM G s0 μ σ 0 H1 := HM.thr hE hH1 (zF.one hZ1 hZ2) (hP 0 _ rfl)
  have hP : va_P G.1 zCl [] H1 := va_nil
  have hD : va_D (zA (FM G μ σ) H0) [] := va_nilD
  refine lv_aload_n hx hb dX3_scale_5 rfl (lv_at hl 0 rfl) ?_
  refine lv_iload_n hx hb dX3_scale_6 rfl (lv_at hl 1 rfl) ?_
  refine z_go 0 0 (z_runV (As := [.int (iI i)]) (rest := []) hC hml hl.1 (m_X3_isElement hE H1 (hO.ext (zS_F hS) hMo) μ σ 0 i hH1 hi.1) (lw_V q1650 q1652 qs35 q67 q1653) rfl nd_X3_isElement rfl (z_rv hC (ci := 2) rfl hH1.2.2.1.1 rfl) rfl (Nat.le_of_ble_eq_true rfl) ⟨Nat.le_of_ble_eq_true rfl, Nat.le_of_ble_eq_true rfl⟩ ⟨zfit (k := 0) (z := 1) rfl rfl (by omega), zfit (k := 0) (z := 16) rfl rfl (by omega)⟩ dX3_scale_7) ⟨zad (k := 0) rfl (by omega), zad (k := 0) rfl (by omega)⟩ hS (fun _ z => z.elim) (fun r H2 locs hp hF hS1 => ?_)
  obtain ⟨_, rfl, rfl⟩ := hp
  have hP := zpk hP hF
  have hP : va_P G.1 zCl ([]) H2 := hP
  have hD : va_D (zA (FM G μ σ) H0) ([]) := hD
  have hH1 : HM G s0 μ σ 0 H2 := hH1.ext0 hE hF
  have hS := hS1
  obtain ⟨fl, hfl, hfl2⟩ : ∃ fl : Nat, fl ≤ 1 ∧ (if 0 ≤ i ∧ i < (((St_ne σ) : Nat) : Int) then (1 : Int) else 0) = fl ∧ (fl = 1 ↔ 0 ≤ i ∧ i < (((St_ne σ) : Nat) : Int)) := by by_cases h : 0 ≤ i ∧ i < (((St_ne σ) : Nat) : Int); exact ⟨1, by decide, by rw [if_pos h]; rfl, ⟨fun _ => h, fun _ => rfl⟩⟩; exact ⟨0, by decide, by rw [if_neg h]; rfl, ⟨fun z => absurd z (by decide), fun z => absurd z h⟩⟩
  refine z_top (b := ((fl : Nat) : Int)) (hfl2.1) ?_
  refine z_zeq (tgt := 21) hx hb dX3_scale_10 (by decide) (by omega) (fun c3 => ?_) (fun c3 => ?_)
  · refine lv_aload_n hx hb dX3_scale_21 rfl (lv_at hl 0 rfl) ?_
    refine lv_iconst (v := iI 1) hx hb dX3_scale_22 rfl ?_
    have hHb := hH1
    refine z_go 0 0 (z_runV (As := [.int (iI 1)]) (rest := []) hC hml hl.1 (m_X3_no hE H2 (hO.ext (zS_F hS) hMo) μ σ 0 1 hHb) (lw_V q1520 q1522 qs29 q67 q1523) rfl nd_X3_no rfl (z_rv hC (ci := 2) rfl hHb.2.2.1.1 rfl) rfl (Nat.le_of_ble_eq_true rfl) ⟨Nat.le_of_ble_eq_true rfl, Nat.le_of_ble_eq_true rfl⟩ ⟨zfit (k := 0) (z := 1) rfl rfl (by omega), zfit (k := 0) (z := 16) rfl rfl (by omega)⟩ dX3_scale_23) ⟨zad (k := 0) rfl (by omega), zad (k := 0) rfl (by omega)⟩ hS (fun z hz => Or.inl (hz ▸ FM.in hE hh.sep (domM0 0 (by omega)) (by simp [rAm]))) (fun r H4 locs hp hF hS1 => ?_)
    obtain ⟨_, rfl, rfl, hx9⟩ := hp
    have hP : va_P G.1 zCl [] H4 := va_nil
    have hD : va_D (zA (FM G μ σ) H0) [] := va_nilD
    have hP : va_P G.1 zCl ([]) H4 := hP
    have hD : va_D (zA (FM G μ σ) H0) ([]) := hD
    have hS := hS1
    have hH9 : HM G s0 μ σ ((1 : Nat) : Int) H4 := HM.thr hE hHb hF hx9
    exact z_iret hC hrt hlk hQ hS ⟨zle (z := 1) rfl (by omega), zle (z := 16) rfl (by omega)⟩ ⟨_, rfl, 1, σ, PoM.same hH9, Or.inr ⟨by decide, rfl, by decide, Or.inl ⟨rfl, fun z9 => by have h9 := hfl2.2.mpr (z9.1); omega⟩⟩⟩ dX3_scale_26
  · have hok9 := hfl2.2.mp (by omega)
    obtain ⟨a, rfl⟩ : ∃ a : Nat, i = a := ⟨i.toNat, by omega⟩
    have ha9 : a < St_ne σ := by omega
    refine lv_aload_n hx hb dX3_scale_13 rfl (lv_at hl 0 rfl) ?_
    refine lv_iload_n hx hb dX3_scale_14 rfl (lv_at hl 2 rfl) ?_
    refine z_go 0 0 (z_runV (As := [.int (iI j)]) (rest := []) hC hml hl.1 (m_X3_isElement hE H2 (hO.ext (zS_F hS) hMo) μ σ 0 j hH1 hi.2.1) (lw_V q1650 q1652 qs35 q67 q1653) rfl nd_X3_isElement rfl (z_rv hC (ci := 2) rfl hH1.2.2.1.1 rfl) rfl (Nat.le_of_ble_eq_true rfl) ⟨Nat.le_of_ble_eq_true rfl, Nat.le_of_ble_eq_true rfl⟩ ⟨zfit (k := 0) (z := 1) rfl rfl (by omega), zfit (k := 0) (z := 16) rfl rfl (by omega)⟩ dX3_scale_15) ⟨zad (k := 0) rfl (by omega), zad (k := 0) rfl (by omega)⟩ hS (fun _ z => z.elim) (fun r H5 locs hp hF hS1 => ?_)
    obtain ⟨_, rfl, rfl⟩ := hp
    have hP := zpk hP hF
    have hP : va_P G.1 zCl ([]) H5 := hP
    have hD : va_D (zA (FM G μ σ) H0) ([]) := hD
    have hH1 : HM G s0 μ σ 0 H5 := hH1.ext0 hE hF
    have hS := hS1
    obtain ⟨fl, hfl, hfl2⟩ : ∃ fl : Nat, fl ≤ 1 ∧ (if 0 ≤ j ∧ j < (((St_ne σ) : Nat) : Int) then (1 : Int) else 0) = fl ∧ (fl = 1 ↔ 0 ≤ j ∧ j < (((St_ne σ) : Nat) : Int)) := by by_cases h : 0 ≤ j ∧ j < (((St_ne σ) : Nat) : Int); exact ⟨1, by decide, by rw [if_pos h]; rfl, ⟨fun _ => h, fun _ => rfl⟩⟩; exact ⟨0, by decide, by rw [if_neg h]; rfl, ⟨fun z => absurd z (by decide), fun z => absurd z h⟩⟩
    refine z_top (b := ((fl : Nat) : Int)) (hfl2.1) ?_
    refine z_zne (tgt := 27) hx hb dX3_scale_18 (by decide) (by omega) (fun c6 => ?_) (fun c6 => ?_)
    · have hok9 := hfl2.2.mp (by omega)
      obtain ⟨b, rfl⟩ : ∃ b : Nat, j = b := ⟨j.toNat, by omega⟩
      have hb9 : b < St_ne σ := by omega
      refine lv_aload_n hx hb dX3_scale_27 rfl (lv_at hl 0 rfl) ?_
      refine lv_iload_n hx hb dX3_scale_28 rfl (lv_at hl 1 rfl) ?_
      refine lv_iload_n hx hb dX3_scale_29 rfl (lv_at hl 2 rfl) ?_
      refine z_go 0 0 (z_runV (As := [.int (iI ((a : Nat) : Int)), .int (iI ((b : Nat) : Int))]) (rest := []) hC hml hl.1 (m_X3_areOne hE H5 (hO.ext (zS_F hS) hMo) μ σ 0 a b hH1 ⟨by omega, by omega⟩) (lw_V q1662 q1664 qs37 q67 q1665) rfl nd_X3_areOne rfl (z_rv hC (ci := 2) rfl hH1.2.2.1.1 rfl) rfl (Nat.le_of_ble_eq_true rfl) ⟨Nat.le_of_ble_eq_true rfl, Nat.le_of_ble_eq_true rfl⟩ ⟨zfit (k := 0) (z := 1) rfl rfl (by omega), zfit (k := 0) (z := 16) rfl rfl (by omega)⟩ dX3_scale_30) ⟨zad (k := 0) rfl (by omega), zad (k := 0) rfl (by omega)⟩ hS (fun _ z => z.elim) (fun r H7 locs hp hF hS1 => ?_)
      obtain ⟨_, rfl, rfl⟩ := hp
      have hP := zpk hP hF
      have hP : va_P G.1 zCl ([]) H7 := hP
      have hD : va_D (zA (FM G μ σ) H0) ([]) := hD
      have hH1 : HM G s0 μ σ 0 H7 := hH1.ext0 hE hF
      have hS := hS1
      obtain ⟨fl, hfl, hfl2⟩ : ∃ fl : Nat, fl ≤ 1 ∧ (if St_ea σ a = St_ea σ b then (1 : Int) else 0) = fl ∧ (fl = 1 ↔ St_ea σ a = St_ea σ b) := by by_cases h : St_ea σ a = St_ea σ b; exact ⟨1, by decide, by rw [if_pos h]; rfl, ⟨fun _ => h, fun _ => rfl⟩⟩; exact ⟨0, by decide, by rw [if_neg h]; rfl, ⟨fun z => absurd z (by decide), fun z => absurd z h⟩⟩
      refine z_top (b := ((fl : Nat) : Int)) (hfl2.1) ?_
      refine z_zeq (tgt := 50) hx hb dX3_scale_33 (by decide) (by omega) (fun c8 => ?_) (fun c8 => ?_)
      · refine lv_aload_n hx hb dX3_scale_50 rfl (lv_at hl 0 rfl) ?_
        refine lv_iconst (v := iI 2) hx hb dX3_scale_51 rfl ?_
        have hHb := hH1
        refine z_go 0 0 (z_runV (As := [.int (iI 2)]) (rest := []) hC hml hl.1 (m_X3_no hE H7 (hO.ext (zS_F hS) hMo) μ σ 0 2 hHb) (lw_V q1520 q1522 qs29 q67 q1523) rfl nd_X3_no rfl (z_rv hC (ci := 2) rfl hHb.2.2.1.1 rfl) rfl (Nat.le_of_ble_eq_true rfl) ⟨Nat.le_of_ble_eq_true rfl, Nat.le_of_ble_eq_true rfl⟩ ⟨zfit (k := 0) (z := 1) rfl rfl (by omega), zfit (k := 0) (z := 16) rfl rfl (by omega)⟩ dX3_scale_52) ⟨zad (k := 0) rfl (by omega), zad (k := 0) rfl (by omega)⟩ hS (fun z hz => Or.inl (hz ▸ FM.in hE hh.sep (domM0 0 (by omega)) (by simp [rAm]))) (fun r H9 locs hp hF hS1 => ?_)
        obtain ⟨_, rfl, rfl, hx9⟩ := hp
        have hP : va_P G.1 zCl [] H9 := va_nil
        have hD : va_D (zA (FM G μ σ) H0) [] := va_nilD
        have hP : va_P G.1 zCl ([]) H9 := hP
        have hD : va_D (zA (FM G μ σ) H0) ([]) := hD
        have hS := hS1
        have hH9 : HM G s0 μ σ ((2 : Nat) : Int) H9 := HM.thr hE hHb hF hx9
        exact z_iret hC hrt hlk hQ hS ⟨zle (z := 1) rfl (by omega), zle (z := 16) rfl (by omega)⟩ ⟨_, rfl, 2, σ, PoM.same hH9, Or.inr ⟨by decide, rfl, by decide, Or.inr ⟨rfl, inE_n (by omega), inE_n (by omega), fun z9 => by have h9 := hfl2.2.mpr z9.1; omega⟩⟩⟩ dX3_scale_55
      · have hone : St_ea σ a = St_ea σ b := hfl2.2.mp (by omega)
        have hea := hh.ea (j := a) (by omega)
        have hxx := hH1.2.2.1.1
        refine lv_iload_n hx hb dX3_scale_36 rfl (lv_at hl 3 rfl) ?_
        refine lv_iconst (v := iI 0) hx hb dX3_scale_37 rfl ?_
        refine lv_aload_n hx hb dX3_scale_38 rfl (lv_at hl 0 rfl) ?_
        refine z_get hC (k := 1) rfl in_X3 hxx (by decide) q1496 (fun _ h => h) rfl dX3_scale_39 ?_
        refine lv_iconst (v := iI 1) hx hb dX3_scale_42 rfl ?_
        refine z_sub hx hb (z := (St_p σ) - 1) dX3_scale_43 rfl ?_
        refine z_go 0 0 (z_runS (As := [.int (iI t), .int (iI 0), .int (iI ((St_p σ) - 1))]) (rest := []) hC hml hl.1 (m_X3_in hE H7 (hO.ext (zS_F hS) hMo) (0) ((St_p σ - 1)) (t) ⟨by omega, by omega, by omega⟩) (lw_S q1536 q1537 q67 q1538) nd_X3_in rfl rfl (Nat.le_of_ble_eq_true rfl) ⟨Nat.le_of_ble_eq_true rfl, Nat.le_of_ble_eq_true rfl⟩ ⟨zfit (k := 0) (z := 1) rfl rfl (by omega), zfit (k := 0) (z := 16) rfl rfl (by omega)⟩ dX3_scale_44) ⟨zad (k := 0) rfl (by omega), zad (k := 0) rfl (by omega)⟩ hS (fun _ z => z.elim) (fun r H10 locs hp hF hS1 => ?_)
        obtain ⟨_, rfl, rfl⟩ := hp
        have hP := zpk hP hF
        have hP : va_P G.1 zCl ([]) H10 := hP
        have hD : va_D (zA (FM G μ σ) H0) ([]) := hD
        have hH1 : HM G s0 μ σ 0 H10 := hH1.ext0 hE hF
        have hS := hS1
        obtain ⟨fl, hfl, hfl2⟩ : ∃ fl : Nat, fl ≤ 1 ∧ (if 0 ≤ t ∧ t ≤ (St_p σ - 1) then (1 : Int) else 0) = fl ∧ (fl = 1 ↔ 0 ≤ t ∧ t ≤ (St_p σ - 1)) := by by_cases h : 0 ≤ t ∧ t ≤ (St_p σ - 1); exact ⟨1, by decide, by rw [if_pos h]; rfl, ⟨fun _ => h, fun _ => rfl⟩⟩; exact ⟨0, by decide, by rw [if_neg h]; rfl, ⟨fun z => absurd z (by decide), fun z => absurd z h⟩⟩
        refine z_top (b := ((fl : Nat) : Int)) (hfl2.1) ?_
        refine z_zne (tgt := 56) hx hb dX3_scale_47 (by decide) (by omega) (fun c11 => ?_) (fun c11 => ?_)
        · have hrg : 0 ≤ t ∧ t ≤ (St_p σ - 1) := hfl2.2.mp (by omega)
          refine lv_aload_n hx hb dX3_scale_56 rfl (lv_at hl 0 rfl) ?_
          refine lv_iload_n hx hb dX3_scale_57 rfl (lv_at hl 1 rfl) ?_
          refine lv_aload_n hx hb dX3_scale_58 rfl (lv_at hl 0 rfl) ?_
          refine lv_iload_n hx hb dX3_scale_59 rfl (lv_at hl 1 rfl) ?_
          refine z_go 0 0 (z_runV (As := [.int (iI ((a : Nat) : Int))]) (rest := [.int (iI ((a : Nat) : Int)), .ref (μ (0, 0, 0))]) hC hml hl.1 (m_X3_home hE H10 (hO.ext (zS_F hS) hMo) μ σ 0 a hH1 (by omega)) (lw_V q1682 q1684 qs40 q67 q1685) rfl nd_X3_home rfl (z_rv hC (ci := 2) rfl hH1.2.2.1.1 rfl) rfl (Nat.le_of_ble_eq_true rfl) ⟨Nat.le_of_ble_eq_true rfl, Nat.le_of_ble_eq_true rfl⟩ ⟨zfit (k := 0) (z := 1) rfl rfl (by omega), zfit (k := 0) (z := 16) rfl rfl (by omega)⟩ dX3_scale_60) ⟨zad (k := 0) rfl (by omega), zad (k := 0) rfl (by omega)⟩ hS (fun _ z => z.elim) (fun r H12 locs hp hF hS1 => ?_)
          obtain ⟨_, rfl, rfl⟩ := hp
          have hP := zpk hP hF
          have hP : va_P G.1 zCl ([]) H12 := hP
          have hD : va_D (zA (FM G μ σ) H0) ([]) := hD
          have hH1 : HM G s0 μ σ 0 H12 := hH1.ext0 hE hF
          have hS := hS1
          have hRb := (hH1.el (j := b) (by omega)).2
          have hVb := hH1.row (j := b) (by omega)
          rw [← hone] at hRb hVb
          refine lv_aload_n hx hb dX3_scale_63 rfl (lv_at hl 0 rfl) ?_
          refine lv_iload_n hx hb dX3_scale_64 rfl (lv_at hl 2 rfl) ?_
          refine z_go 0 0 (z_runV (As := [.int (iI ((b : Nat) : Int))]) (rest := [.ref (μ (6, St_ea σ a, 0)), .int (iI ((a : Nat) : Int)), .ref (μ (0, 0, 0))]) hC hml hl.1 (m_X3_row hE H12 (hO.ext (zS_F hS) hMo) μ σ 0 b hH1 (by omega)) (lw_V q1654 q1656 qs36 q67 q1657) rfl nd_X3_row rfl (z_rv hC (ci := 2) rfl hH1.2.2.1.1 rfl) rfl (Nat.le_of_ble_eq_true rfl) ⟨Nat.le_of_ble_eq_true rfl, Nat.le_of_ble_eq_true rfl⟩ ⟨zfit (k := 0) (z := 1) rfl rfl (by omega), zfit (k := 0) (z := 16) rfl rfl (by omega)⟩ dX3_scale_65) ⟨zad (k := 0) rfl (by omega), zad (k := 0) rfl (by omega)⟩ hS (fun _ z => z.elim) (fun r H13 locs hp hF hS1 => ?_)
          obtain ⟨_, rfl, rfl⟩ := hp
          have hP := zpk hP hF
          have hP : va_P G.1 zCl ([]) H13 := hP
          have hD : va_D (zA (FM G μ σ) H0) ([]) := hD
          have hH1 : HM G s0 μ σ 0 H13 := hH1.ext0 hE hF
          have hS := hS1
          have hRb := (hH1.el (j := b) (by omega)).2
          have hVb := hH1.row (j := b) (by omega)
          rw [← hone] at hRb hVb
          refine lv_iload_n hx hb dX3_scale_68 rfl (lv_at hl 3 rfl) ?_
          have hsz9 : H0.size ≤ H13.size := hS.1
          have hUSt_eaσa := hH1.al (k := St_ea σ a) hea
          refine z_go 1 16 (z_runV (As := [.ref (μ (14, b, 0)), .int (iI t)]) (rest := [.int (iI ((a : Nat) : Int)), .ref (μ (0, 0, 0))]) hC hml hl.1 (m_X6_scaled hE H13 (hO.ext (zS_F hS) hMo) μ σ 0 (St_ea σ a) (μ (14, b, 0)) (St_ev σ b) t hH1 hea hRb hVb (by omega)) (lw_V q1694 q1695 q1696 q82 q1697) rfl nd_X6_scaled rfl (z_rv hC (ci := 5) rfl hUSt_eaσa.1 rfl) rfl (Nat.le_of_ble_eq_true rfl) ⟨Nat.le_of_ble_eq_true rfl, Nat.le_of_ble_eq_true rfl⟩ ⟨zfit (k := 1) (z := 1) rfl rfl (by omega), zfit (k := 16) (z := 16) rfl rfl (by omega)⟩ dX3_scale_69) ⟨zad (k := 1) rfl (by omega), zad (k := 16) rfl (by omega)⟩ hS (fun _ z => z.elim) (fun r H15 locs hp hF hS1 => ?_)
          obtain ⟨qr14, rfl, hN⟩ := hp
          obtain ⟨hP, hD⟩ := zjn hP hD hS.1 hF hN
          have hP : va_P G.1 zCl ([(qr14, zI G (St_n σ (St_ea σ a)) (scV (St_p σ) t (St_ev σ b)))]) H15 := hP
          have hD : va_D (zA (FM G μ σ) H0) ([(qr14, zI G (St_n σ (St_ea σ a)) (scV (St_p σ) t (St_ev σ b)))]) := hD
          have hH1 : HM G s0 μ σ 0 H15 := hH1.ext0 hE hF
          have hS := hS1
          have hNwqr14 : H0.size ≤ qr14 := Nat.le_trans hsz9 (hN.2.2 0 _ rfl)
          have hHb := hH1
          have hRb := hP 0 _ rfl
          refine z_go 1 16 (z_runV (As := [.int (iI ((a : Nat) : Int)), .ref qr14]) (rest := []) hC hml hl.1 (m_X3_put hE H15 (hO.ext (zS_F hS) hMo) μ σ 0 a qr14 (scV (St_p σ) t (St_ev σ b)) hHb (by omega) hRb (scV_ok hp _ _ _)) (lw_V q1671 q1673 qs39 q67 q1674) rfl nd_X3_put rfl (z_rv hC (ci := 2) rfl hHb.2.2.1.1 rfl) rfl (Nat.le_of_ble_eq_true rfl) ⟨Nat.le_of_ble_eq_true rfl, Nat.le_of_ble_eq_true rfl⟩ ⟨zfit (k := 0) (z := 1) rfl rfl (by omega), zfit (k := 0) (z := 16) rfl rfl (by omega)⟩ dX3_scale_72) ⟨zad (k := 0) rfl (by omega), zad (k := 0) rfl (by omega)⟩ hS (fun z hz => Or.inl (hz ▸ FM.in hE hh.sep (domME 13 a (Or.inl rfl) (by omega)) (by simp [rAm]))) (fun r H16 locs hp hF hS1 => ?_)
          obtain ⟨_, rfl, rfl, hm9⟩ := hp
          have hP : va_P G.1 zCl [] H16 := va_nil
          have hD : va_D (zA (FM G μ σ) H0) [] := va_nilD
          have hP : va_P G.1 zCl ([]) H16 := hP
          have hD : va_D (zA (FM G μ σ) H0) ([]) := hD
          have hS := hS1
          have hPo : PoM G s0 H0 μ σ (stEl σ a (scV (St_p σ) t (St_ev σ b))) 0 H16 := HM.put hE hO hh hHb (by omega) hF hm9 (zAt.ext hRb hF (Ne.symm (z_noArr hE (ci := 7) (t := 0) rfl (hHb.el (j := a) (by omega)).1 rfl hRb))) hNwqr14 (scV_ok hp _ _ _)
          exact z_iret hC hrt hlk hQ hS ⟨zle (z := 1) rfl (by omega), zle (z := 16) rfl (by omega)⟩ ⟨_, rfl, 0, stEl σ a (scV (St_p σ) t (St_ev σ b)), hPo, Or.inl ⟨rfl, ⟨a, b, ⟨by omega, by omega⟩, ⟨by omega, by omega⟩, hone, ⟨hrg.1, by omega⟩, rfl, rfl⟩⟩⟩ dX3_scale_75
        · refine lv_aload_n hx hb dX3_scale_50 rfl (lv_at hl 0 rfl) ?_
          refine lv_iconst (v := iI 2) hx hb dX3_scale_51 rfl ?_
          have hHb := hH1
          refine z_go 0 0 (z_runV (As := [.int (iI 2)]) (rest := []) hC hml hl.1 (m_X3_no hE H10 (hO.ext (zS_F hS) hMo) μ σ 0 2 hHb) (lw_V q1520 q1522 qs29 q67 q1523) rfl nd_X3_no rfl (z_rv hC (ci := 2) rfl hHb.2.2.1.1 rfl) rfl (Nat.le_of_ble_eq_true rfl) ⟨Nat.le_of_ble_eq_true rfl, Nat.le_of_ble_eq_true rfl⟩ ⟨zfit (k := 0) (z := 1) rfl rfl (by omega), zfit (k := 0) (z := 16) rfl rfl (by omega)⟩ dX3_scale_52) ⟨zad (k := 0) rfl (by omega), zad (k := 0) rfl (by omega)⟩ hS (fun z hz => Or.inl (hz ▸ FM.in hE hh.sep (domM0 0 (by omega)) (by simp [rAm]))) (fun r H17 locs hp hF hS1 => ?_)
          obtain ⟨_, rfl, rfl, hx9⟩ := hp
          have hP : va_P G.1 zCl [] H17 := va_nil
          have hD : va_D (zA (FM G μ σ) H0) [] := va_nilD
          have hP : va_P G.1 zCl ([]) H17 := hP
          have hD : va_D (zA (FM G μ σ) H0) ([]) := hD
          have hS := hS1
          have hH9 : HM G s0 μ σ ((2 : Nat) : Int) H17 := HM.thr hE hHb hF hx9
          exact z_iret hC hrt hlk hQ hS ⟨zle (z := 1) rfl (by omega), zle (z := 16) rfl (by omega)⟩ ⟨_, rfl, 2, σ, PoM.same hH9, Or.inr ⟨by decide, rfl, by decide, Or.inr ⟨rfl, inE_n (by omega), inE_n (by omega), fun z9 => by have z8 := z9.2; have h9 := hfl2.2.mpr (⟨z8.1, by have := z8.2; omega⟩); omega⟩⟩⟩ dX3_scale_55
    · refine lv_aload_n hx hb dX3_scale_21 rfl (lv_at hl 0 rfl) ?_
      refine lv_iconst (v := iI 1) hx hb dX3_scale_22 rfl ?_
      have hHb := hH1
      refine z_go 0 0 (z_runV (As := [.int (iI 1)]) (rest := []) hC hml hl.1 (m_X3_no hE H5 (hO.ext (zS_F hS) hMo) μ σ 0 1 hHb) (lw_V q1520 q1522 qs29 q67 q1523) rfl nd_X3_no rfl (z_rv hC (ci := 2) rfl hHb.2.2.1.1 rfl) rfl (Nat.le_of_ble_eq_true rfl) ⟨Nat.le_of_ble_eq_true rfl, Nat.le_of_ble_eq_true rfl⟩ ⟨zfit (k := 0) (z := 1) rfl rfl (by omega), zfit (k := 0) (z := 16) rfl rfl (by omega)⟩ dX3_scale_23) ⟨zad (k := 0) rfl (by omega), zad (k := 0) rfl (by omega)⟩ hS (fun z hz => Or.inl (hz ▸ FM.in hE hh.sep (domM0 0 (by omega)) (by simp [rAm]))) (fun r H18 locs hp hF hS1 => ?_)
      obtain ⟨_, rfl, rfl, hx9⟩ := hp
      have hP : va_P G.1 zCl [] H18 := va_nil
      have hD : va_D (zA (FM G μ σ) H0) [] := va_nilD
      have hP : va_P G.1 zCl ([]) H18 := hP
      have hD : va_D (zA (FM G μ σ) H0) ([]) := hD
      have hS := hS1
      have hH9 : HM G s0 μ σ ((1 : Nat) : Int) H18 := HM.thr hE hHb hF hx9
      exact z_iret hC hrt hlk hQ hS ⟨zle (z := 1) rfl (by omega), zle (z := 16) rfl (by omega)⟩ ⟨_, rfl, 1, σ, PoM.same hH9, Or.inr ⟨by decide, rfl, by decide, Or.inl ⟨rfl, fun z9 => by have h9 := hfl2.2.mpr (z9.2); omega⟩⟩⟩ dX3_scale_26

abbrev rm_m_X3_conjugate : Room := { frames := 4, cells := 1, slots := 16, locals := 86 }
set_option maxHeartbeats 4000000 in
theorem m_X3_conjugate {l : Launch} {s0 : State} {G : zG} (hE : zE l s0 G) (H0 : Heap) (hO : zO s0 H0) (μ : Ro → Nat) (σ : St) (th : Int) (i j : Int) (hh : HM G s0 μ σ th H0) (hi : zi i ∧ zi j) : zM l s0 yX3_conjugate cX3_conjugate 3 (some FieldType.int) rm_m_X3_conjugate [.ref (μ (0, 0, 0)), .int (iI i), .int (iI j)] H0 (FM G μ σ) (HPM G s0 H0 μ σ [IOB, IAE] ((fun y σ' => ∃ a b : Nat, (i = a ∧ a < St_ne σ) ∧ (j = b ∧ b < St_ne σ) ∧ St_ea σ a = St_ea σ b ∧ σ' = stEl σ a (cjV (St_p σ) (St_kd σ (St_ea σ a)) (St_ev σ b)) ∧ y = (szV (cjV (St_p σ) (St_kd σ (St_ea σ a)) (St_ev σ b)) (St_n σ (St_ea σ a)) : Nat))) ((X2e σ i j True))) := by
  refine z_met hE (by decide +kernel) (Nat.le_of_ble_eq_true rfl) ?_
  intro pp ee ss mm args below meth cd Q ls hC hml hrt hlk hnm hH hQ hS hl
  have hx := hC.x
  have hb := hC.b
  have hl : lv_has ls 3 [(0, .ref (μ (0, 0, 0))), (1, .int (iI i)), (2, .int (iI j))] := hl
  have hP : va_P G.1 zCl [] H0 := va_nil
  have hD : va_D (zA (FM G μ σ) H0) [] := va_nilD
  have hMo : ∀ z, (FM G μ σ) z → s0.heap.size ≤ z := fun z hz => FM.ge hh.sep hz
  have hH1 := hh
  obtain ⟨hp, hna, hal, hne9, hel9, hmr9⟩ := id hh.ok
  have hp7 : 0 < St_p σ ∧ St_p σ ≤ 7 := by rcases hp with h | h | h <;> rw [h] <;> decide
  have hP : va_P G.1 zCl [((μ (0, 0, 0)), zOb 2 [.int (iI th), .int (iI (St_p σ)), .int (iI ((St_kn σ : Nat) : Int)), .ref (μ (1, 0, 0)), .ref (μ (3, 0, 0))])] H0 := zP1 hh.2.2.1.1
  have hD : va_D (zA (FM G μ σ) H0) [((μ (0, 0, 0)), zOb 2 [.int (iI th), .int (iI (St_p σ)), .int (iI ((St_kn σ : Nat) : Int)), .ref (μ (1, 0, 0)), .ref (μ (3, 0, 0))])] := zD1 (Or.inl (FM.in hE hh.sep (domM0 0 (by omega)) (by simp [rAm])))
  refine lv_aload_n hx hb dX3_conjugate_0 rfl (lv_at hl 0 rfl) ?_
  refine lv_iconst (v := iI 0) hx hb dX3_conjugate_1 rfl ?_
  refine z_putO hC hP hD hS 0 (k := 0) rfl rfl in_X3 tyX3_ok nmX3 (by decide) q1495 (fun _ h => h) rfl rfl rfl rfl (Nat.le_of_ble_eq_true rfl) (ws' := [((μ (0, 0, 0)), zOb 2 [.int (iI 0), .int (iI (St_p σ)), .int (iI ((St_kn σ : Nat) : Int)), .ref (μ (1, 0, 0)), .ref (μ (3, 0, 0))])]) rfl dX3_conjugate_2 (fun H1 locs hP hD hS hZ1 hZ2 => ?_)
  have hH1 : HM G s0 μ σ 0 H1 := HM.thr hE hH1 (zF.one hZ1 hZ2) (hP 0 _ rfl)
  have hP : va_P G.1 zCl [] H1 := va_nil
  have hD : va_D (zA (FM G μ σ) H0) [] := va_nilD
  refine lv_aload_n hx hb dX3_conjugate_5 rfl (lv_at hl 0 rfl) ?_
  refine lv_iload_n hx hb dX3_conjugate_6 rfl (lv_at hl 1 rfl) ?_
  refine z_go 0 0 (z_runV (As := [.int (iI i)]) (rest := []) hC hml hl.1 (m_X3_isElement hE H1 (hO.ext (zS_F hS) hMo) μ σ 0 i hH1 hi.1) (lw_V q1650 q1652 qs35 q67 q1653) rfl nd_X3_isElement rfl (z_rv hC (ci := 2) rfl hH1.2.2.1.1 rfl) rfl (Nat.le_of_ble_eq_true rfl) ⟨Nat.le_of_ble_eq_true rfl, Nat.le_of_ble_eq_true rfl⟩ ⟨zfit (k := 0) (z := 1) rfl rfl (by omega), zfit (k := 0) (z := 16) rfl rfl (by omega)⟩ dX3_conjugate_7) ⟨zad (k := 0) rfl (by omega), zad (k := 0) rfl (by omega)⟩ hS (fun _ z => z.elim) (fun r H2 locs hp hF hS1 => ?_)
  obtain ⟨_, rfl, rfl⟩ := hp
  have hP := zpk hP hF
  have hP : va_P G.1 zCl ([]) H2 := hP
  have hD : va_D (zA (FM G μ σ) H0) ([]) := hD
  have hH1 : HM G s0 μ σ 0 H2 := hH1.ext0 hE hF
  have hS := hS1
  obtain ⟨fl, hfl, hfl2⟩ : ∃ fl : Nat, fl ≤ 1 ∧ (if 0 ≤ i ∧ i < (((St_ne σ) : Nat) : Int) then (1 : Int) else 0) = fl ∧ (fl = 1 ↔ 0 ≤ i ∧ i < (((St_ne σ) : Nat) : Int)) := by by_cases h : 0 ≤ i ∧ i < (((St_ne σ) : Nat) : Int); exact ⟨1, by decide, by rw [if_pos h]; rfl, ⟨fun _ => h, fun _ => rfl⟩⟩; exact ⟨0, by decide, by rw [if_neg h]; rfl, ⟨fun z => absurd z (by decide), fun z => absurd z h⟩⟩
  refine z_top (b := ((fl : Nat) : Int)) (hfl2.1) ?_
  refine z_zeq (tgt := 21) hx hb dX3_conjugate_10 (by decide) (by omega) (fun c3 => ?_) (fun c3 => ?_)
  · refine lv_aload_n hx hb dX3_conjugate_21 rfl (lv_at hl 0 rfl) ?_
    refine lv_iconst (v := iI 1) hx hb dX3_conjugate_22 rfl ?_
    have hHb := hH1
    refine z_go 0 0 (z_runV (As := [.int (iI 1)]) (rest := []) hC hml hl.1 (m_X3_no hE H2 (hO.ext (zS_F hS) hMo) μ σ 0 1 hHb) (lw_V q1520 q1522 qs29 q67 q1523) rfl nd_X3_no rfl (z_rv hC (ci := 2) rfl hHb.2.2.1.1 rfl) rfl (Nat.le_of_ble_eq_true rfl) ⟨Nat.le_of_ble_eq_true rfl, Nat.le_of_ble_eq_true rfl⟩ ⟨zfit (k := 0) (z := 1) rfl rfl (by omega), zfit (k := 0) (z := 16) rfl rfl (by omega)⟩ dX3_conjugate_23) ⟨zad (k := 0) rfl (by omega), zad (k := 0) rfl (by omega)⟩ hS (fun z hz => Or.inl (hz ▸ FM.in hE hh.sep (domM0 0 (by omega)) (by simp [rAm]))) (fun r H4 locs hp hF hS1 => ?_)
    obtain ⟨_, rfl, rfl, hx9⟩ := hp
    have hP : va_P G.1 zCl [] H4 := va_nil
    have hD : va_D (zA (FM G μ σ) H0) [] := va_nilD
    have hP : va_P G.1 zCl ([]) H4 := hP
    have hD : va_D (zA (FM G μ σ) H0) ([]) := hD
    have hS := hS1
    have hH9 : HM G s0 μ σ ((1 : Nat) : Int) H4 := HM.thr hE hHb hF hx9
    exact z_iret hC hrt hlk hQ hS ⟨zle (z := 1) rfl (by omega), zle (z := 16) rfl (by omega)⟩ ⟨_, rfl, 1, σ, PoM.same hH9, Or.inr ⟨by decide, rfl, by decide, Or.inl ⟨rfl, fun z9 => by have h9 := hfl2.2.mpr (z9.1); omega⟩⟩⟩ dX3_conjugate_26
  · have hok9 := hfl2.2.mp (by omega)
    obtain ⟨a, rfl⟩ : ∃ a : Nat, i = a := ⟨i.toNat, by omega⟩
    have ha9 : a < St_ne σ := by omega
    refine lv_aload_n hx hb dX3_conjugate_13 rfl (lv_at hl 0 rfl) ?_
    refine lv_iload_n hx hb dX3_conjugate_14 rfl (lv_at hl 2 rfl) ?_
    refine z_go 0 0 (z_runV (As := [.int (iI j)]) (rest := []) hC hml hl.1 (m_X3_isElement hE H2 (hO.ext (zS_F hS) hMo) μ σ 0 j hH1 hi.2) (lw_V q1650 q1652 qs35 q67 q1653) rfl nd_X3_isElement rfl (z_rv hC (ci := 2) rfl hH1.2.2.1.1 rfl) rfl (Nat.le_of_ble_eq_true rfl) ⟨Nat.le_of_ble_eq_true rfl, Nat.le_of_ble_eq_true rfl⟩ ⟨zfit (k := 0) (z := 1) rfl rfl (by omega), zfit (k := 0) (z := 16) rfl rfl (by omega)⟩ dX3_conjugate_15) ⟨zad (k := 0) rfl (by omega), zad (k := 0) rfl (by omega)⟩ hS (fun _ z => z.elim) (fun r H5 locs hp hF hS1 => ?_)
    obtain ⟨_, rfl, rfl⟩ := hp
    have hP := zpk hP hF
    have hP : va_P G.1 zCl ([]) H5 := hP
    have hD : va_D (zA (FM G μ σ) H0) ([]) := hD
    have hH1 : HM G s0 μ σ 0 H5 := hH1.ext0 hE hF
    have hS := hS1
    obtain ⟨fl, hfl, hfl2⟩ : ∃ fl : Nat, fl ≤ 1 ∧ (if 0 ≤ j ∧ j < (((St_ne σ) : Nat) : Int) then (1 : Int) else 0) = fl ∧ (fl = 1 ↔ 0 ≤ j ∧ j < (((St_ne σ) : Nat) : Int)) := by by_cases h : 0 ≤ j ∧ j < (((St_ne σ) : Nat) : Int); exact ⟨1, by decide, by rw [if_pos h]; rfl, ⟨fun _ => h, fun _ => rfl⟩⟩; exact ⟨0, by decide, by rw [if_neg h]; rfl, ⟨fun z => absurd z (by decide), fun z => absurd z h⟩⟩
    refine z_top (b := ((fl : Nat) : Int)) (hfl2.1) ?_
    refine z_zne (tgt := 27) hx hb dX3_conjugate_18 (by decide) (by omega) (fun c6 => ?_) (fun c6 => ?_)
    · have hok9 := hfl2.2.mp (by omega)
      obtain ⟨b, rfl⟩ : ∃ b : Nat, j = b := ⟨j.toNat, by omega⟩
      have hb9 : b < St_ne σ := by omega
      refine lv_aload_n hx hb dX3_conjugate_27 rfl (lv_at hl 0 rfl) ?_
      refine lv_iload_n hx hb dX3_conjugate_28 rfl (lv_at hl 1 rfl) ?_
      refine lv_iload_n hx hb dX3_conjugate_29 rfl (lv_at hl 2 rfl) ?_
      refine z_go 0 0 (z_runV (As := [.int (iI ((a : Nat) : Int)), .int (iI ((b : Nat) : Int))]) (rest := []) hC hml hl.1 (m_X3_areOne hE H5 (hO.ext (zS_F hS) hMo) μ σ 0 a b hH1 ⟨by omega, by omega⟩) (lw_V q1662 q1664 qs37 q67 q1665) rfl nd_X3_areOne rfl (z_rv hC (ci := 2) rfl hH1.2.2.1.1 rfl) rfl (Nat.le_of_ble_eq_true rfl) ⟨Nat.le_of_ble_eq_true rfl, Nat.le_of_ble_eq_true rfl⟩ ⟨zfit (k := 0) (z := 1) rfl rfl (by omega), zfit (k := 0) (z := 16) rfl rfl (by omega)⟩ dX3_conjugate_30) ⟨zad (k := 0) rfl (by omega), zad (k := 0) rfl (by omega)⟩ hS (fun _ z => z.elim) (fun r H7 locs hp hF hS1 => ?_)
      obtain ⟨_, rfl, rfl⟩ := hp
      have hP := zpk hP hF
      have hP : va_P G.1 zCl ([]) H7 := hP
      have hD : va_D (zA (FM G μ σ) H0) ([]) := hD
      have hH1 : HM G s0 μ σ 0 H7 := hH1.ext0 hE hF
      have hS := hS1
      obtain ⟨fl, hfl, hfl2⟩ : ∃ fl : Nat, fl ≤ 1 ∧ (if St_ea σ a = St_ea σ b then (1 : Int) else 0) = fl ∧ (fl = 1 ↔ St_ea σ a = St_ea σ b) := by by_cases h : St_ea σ a = St_ea σ b; exact ⟨1, by decide, by rw [if_pos h]; rfl, ⟨fun _ => h, fun _ => rfl⟩⟩; exact ⟨0, by decide, by rw [if_neg h]; rfl, ⟨fun z => absurd z (by decide), fun z => absurd z h⟩⟩
      refine z_top (b := ((fl : Nat) : Int)) (hfl2.1) ?_
      refine z_zne (tgt := 42) hx hb dX3_conjugate_33 (by decide) (by omega) (fun c8 => ?_) (fun c8 => ?_)
      · have hone : St_ea σ a = St_ea σ b := hfl2.2.mp (by omega)
        have hea := hh.ea (j := a) (by omega)
        refine lv_aload_n hx hb dX3_conjugate_42 rfl (lv_at hl 0 rfl) ?_
        refine lv_iload_n hx hb dX3_conjugate_43 rfl (lv_at hl 1 rfl) ?_
        refine lv_aload_n hx hb dX3_conjugate_44 rfl (lv_at hl 0 rfl) ?_
        refine lv_iload_n hx hb dX3_conjugate_45 rfl (lv_at hl 1 rfl) ?_
        refine z_go 0 0 (z_runV (As := [.int (iI ((a : Nat) : Int))]) (rest := [.int (iI ((a : Nat) : Int)), .ref (μ (0, 0, 0))]) hC hml hl.1 (m_X3_home hE H7 (hO.ext (zS_F hS) hMo) μ σ 0 a hH1 (by omega)) (lw_V q1682 q1684 qs40 q67 q1685) rfl nd_X3_home rfl (z_rv hC (ci := 2) rfl hH1.2.2.1.1 rfl) rfl (Nat.le_of_ble_eq_true rfl) ⟨Nat.le_of_ble_eq_true rfl, Nat.le_of_ble_eq_true rfl⟩ ⟨zfit (k := 0) (z := 1) rfl rfl (by omega), zfit (k := 0) (z := 16) rfl rfl (by omega)⟩ dX3_conjugate_46) ⟨zad (k := 0) rfl (by omega), zad (k := 0) rfl (by omega)⟩ hS (fun _ z => z.elim) (fun r H9 locs hp hF hS1 => ?_)
        obtain ⟨_, rfl, rfl⟩ := hp
        have hP := zpk hP hF
        have hP : va_P G.1 zCl ([]) H9 := hP
        have hD : va_D (zA (FM G μ σ) H0) ([]) := hD
        have hH1 : HM G s0 μ σ 0 H9 := hH1.ext0 hE hF
        have hS := hS1
        have hRb := (hH1.el (j := b) (by omega)).2
        have hVb := hH1.row (j := b) (by omega)
        rw [← hone] at hRb hVb
        refine lv_aload_n hx hb dX3_conjugate_49 rfl (lv_at hl 0 rfl) ?_
        refine lv_iload_n hx hb dX3_conjugate_50 rfl (lv_at hl 2 rfl) ?_
        refine z_go 0 0 (z_runV (As := [.int (iI ((b : Nat) : Int))]) (rest := [.ref (μ (6, St_ea σ a, 0)), .int (iI ((a : Nat) : Int)), .ref (μ (0, 0, 0))]) hC hml hl.1 (m_X3_row hE H9 (hO.ext (zS_F hS) hMo) μ σ 0 b hH1 (by omega)) (lw_V q1654 q1656 qs36 q67 q1657) rfl nd_X3_row rfl (z_rv hC (ci := 2) rfl hH1.2.2.1.1 rfl) rfl (Nat.le_of_ble_eq_true rfl) ⟨Nat.le_of_ble_eq_true rfl, Nat.le_of_ble_eq_true rfl⟩ ⟨zfit (k := 0) (z := 1) rfl rfl (by omega), zfit (k := 0) (z := 16) rfl rfl (by omega)⟩ dX3_conjugate_51) ⟨zad (k := 0) rfl (by omega), zad (k := 0) rfl (by omega)⟩ hS (fun _ z => z.elim) (fun r H10 locs hp hF hS1 => ?_)
        obtain ⟨_, rfl, rfl⟩ := hp
        have hP := zpk hP hF
        have hP : va_P G.1 zCl ([]) H10 := hP
        have hD : va_D (zA (FM G μ σ) H0) ([]) := hD
        have hH1 : HM G s0 μ σ 0 H10 := hH1.ext0 hE hF
        have hS := hS1
        have hRb := (hH1.el (j := b) (by omega)).2
        have hVb := hH1.row (j := b) (by omega)
        rw [← hone] at hRb hVb
        have hsz9 : H0.size ≤ H10.size := hS.1
        have hUSt_eaσa := hH1.al (k := St_ea σ a) hea
        refine z_go 1 16 (z_runV (As := [.ref (μ (14, b, 0))]) (rest := [.int (iI ((a : Nat) : Int)), .ref (μ (0, 0, 0))]) hC hml hl.1 (m_X6_conjugated hE H10 (hO.ext (zS_F hS) hMo) μ σ 0 (St_ea σ a) (μ (14, b, 0)) (St_ev σ b)  hH1 hea hRb hVb ) (lw_V q1702 q1703 q1704 q82 q1705) rfl nd_X6_conjugated rfl (z_rv hC (ci := 5) rfl hUSt_eaσa.1 rfl) rfl (Nat.le_of_ble_eq_true rfl) ⟨Nat.le_of_ble_eq_true rfl, Nat.le_of_ble_eq_true rfl⟩ ⟨zfit (k := 1) (z := 1) rfl rfl (by omega), zfit (k := 16) (z := 16) rfl rfl (by omega)⟩ dX3_conjugate_54) ⟨zad (k := 1) rfl (by omega), zad (k := 16) rfl (by omega)⟩ hS (fun _ z => z.elim) (fun r H12 locs hp hF hS1 => ?_)
        obtain ⟨qr11, rfl, hN⟩ := hp
        obtain ⟨hP, hD⟩ := zjn hP hD hS.1 hF hN
        have hP : va_P G.1 zCl ([(qr11, zI G (St_n σ (St_ea σ a)) (cjV (St_p σ) (St_kd σ (St_ea σ a)) (St_ev σ b)))]) H12 := hP
        have hD : va_D (zA (FM G μ σ) H0) ([(qr11, zI G (St_n σ (St_ea σ a)) (cjV (St_p σ) (St_kd σ (St_ea σ a)) (St_ev σ b)))]) := hD
        have hH1 : HM G s0 μ σ 0 H12 := hH1.ext0 hE hF
        have hS := hS1
        have hNwqr11 : H0.size ≤ qr11 := Nat.le_trans hsz9 (hN.2.2 0 _ rfl)
        have hHb := hH1
        have hRb := hP 0 _ rfl
        refine z_go 1 16 (z_runV (As := [.int (iI ((a : Nat) : Int)), .ref qr11]) (rest := []) hC hml hl.1 (m_X3_put hE H12 (hO.ext (zS_F hS) hMo) μ σ 0 a qr11 (cjV (St_p σ) (St_kd σ (St_ea σ a)) (St_ev σ b)) hHb (by omega) hRb (cjV_ok hp _ _ _)) (lw_V q1671 q1673 qs39 q67 q1674) rfl nd_X3_put rfl (z_rv hC (ci := 2) rfl hHb.2.2.1.1 rfl) rfl (Nat.le_of_ble_eq_true rfl) ⟨Nat.le_of_ble_eq_true rfl, Nat.le_of_ble_eq_true rfl⟩ ⟨zfit (k := 0) (z := 1) rfl rfl (by omega), zfit (k := 0) (z := 16) rfl rfl (by omega)⟩ dX3_conjugate_57) ⟨zad (k := 0) rfl (by omega), zad (k := 0) rfl (by omega)⟩ hS (fun z hz => Or.inl (hz ▸ FM.in hE hh.sep (domME 13 a (Or.inl rfl) (by omega)) (by simp [rAm]))) (fun r H13 locs hp hF hS1 => ?_)
        obtain ⟨_, rfl, rfl, hm9⟩ := hp
        have hP : va_P G.1 zCl [] H13 := va_nil
        have hD : va_D (zA (FM G μ σ) H0) [] := va_nilD
        have hP : va_P G.1 zCl ([]) H13 := hP
        have hD : va_D (zA (FM G μ σ) H0) ([]) := hD
        have hS := hS1
        have hPo : PoM G s0 H0 μ σ (stEl σ a (cjV (St_p σ) (St_kd σ (St_ea σ a)) (St_ev σ b))) 0 H13 := HM.put hE hO hh hHb (by omega) hF hm9 (zAt.ext hRb hF (Ne.symm (z_noArr hE (ci := 7) (t := 0) rfl (hHb.el (j := a) (by omega)).1 rfl hRb))) hNwqr11 (cjV_ok hp _ _ _)
        exact z_iret hC hrt hlk hQ hS ⟨zle (z := 1) rfl (by omega), zle (z := 16) rfl (by omega)⟩ ⟨_, rfl, 0, stEl σ a (cjV (St_p σ) (St_kd σ (St_ea σ a)) (St_ev σ b)), hPo, Or.inl ⟨rfl, ⟨a, b, ⟨by omega, by omega⟩, ⟨by omega, by omega⟩, hone, rfl, rfl⟩⟩⟩ dX3_conjugate_60
      · refine lv_aload_n hx hb dX3_conjugate_36 rfl (lv_at hl 0 rfl) ?_
        refine lv_iconst (v := iI 2) hx hb dX3_conjugate_37 rfl ?_
        have hHb := hH1
        refine z_go 0 0 (z_runV (As := [.int (iI 2)]) (rest := []) hC hml hl.1 (m_X3_no hE H7 (hO.ext (zS_F hS) hMo) μ σ 0 2 hHb) (lw_V q1520 q1522 qs29 q67 q1523) rfl nd_X3_no rfl (z_rv hC (ci := 2) rfl hHb.2.2.1.1 rfl) rfl (Nat.le_of_ble_eq_true rfl) ⟨Nat.le_of_ble_eq_true rfl, Nat.le_of_ble_eq_true rfl⟩ ⟨zfit (k := 0) (z := 1) rfl rfl (by omega), zfit (k := 0) (z := 16) rfl rfl (by omega)⟩ dX3_conjugate_38) ⟨zad (k := 0) rfl (by omega), zad (k := 0) rfl (by omega)⟩ hS (fun z hz => Or.inl (hz ▸ FM.in hE hh.sep (domM0 0 (by omega)) (by simp [rAm]))) (fun r H14 locs hp hF hS1 => ?_)
        obtain ⟨_, rfl, rfl, hx9⟩ := hp
        have hP : va_P G.1 zCl [] H14 := va_nil
        have hD : va_D (zA (FM G μ σ) H0) [] := va_nilD
        have hP : va_P G.1 zCl ([]) H14 := hP
        have hD : va_D (zA (FM G μ σ) H0) ([]) := hD
        have hS := hS1
        have hH9 : HM G s0 μ σ ((2 : Nat) : Int) H14 := HM.thr hE hHb hF hx9
        exact z_iret hC hrt hlk hQ hS ⟨zle (z := 1) rfl (by omega), zle (z := 16) rfl (by omega)⟩ ⟨_, rfl, 2, σ, PoM.same hH9, Or.inr ⟨by decide, rfl, by decide, Or.inr ⟨rfl, inE_n (by omega), inE_n (by omega), fun z9 => by have h9 := hfl2.2.mpr z9.1; omega⟩⟩⟩ dX3_conjugate_41
    · refine lv_aload_n hx hb dX3_conjugate_21 rfl (lv_at hl 0 rfl) ?_
      refine lv_iconst (v := iI 1) hx hb dX3_conjugate_22 rfl ?_
      have hHb := hH1
      refine z_go 0 0 (z_runV (As := [.int (iI 1)]) (rest := []) hC hml hl.1 (m_X3_no hE H5 (hO.ext (zS_F hS) hMo) μ σ 0 1 hHb) (lw_V q1520 q1522 qs29 q67 q1523) rfl nd_X3_no rfl (z_rv hC (ci := 2) rfl hHb.2.2.1.1 rfl) rfl (Nat.le_of_ble_eq_true rfl) ⟨Nat.le_of_ble_eq_true rfl, Nat.le_of_ble_eq_true rfl⟩ ⟨zfit (k := 0) (z := 1) rfl rfl (by omega), zfit (k := 0) (z := 16) rfl rfl (by omega)⟩ dX3_conjugate_23) ⟨zad (k := 0) rfl (by omega), zad (k := 0) rfl (by omega)⟩ hS (fun z hz => Or.inl (hz ▸ FM.in hE hh.sep (domM0 0 (by omega)) (by simp [rAm]))) (fun r H15 locs hp hF hS1 => ?_)
      obtain ⟨_, rfl, rfl, hx9⟩ := hp
      have hP : va_P G.1 zCl [] H15 := va_nil
      have hD : va_D (zA (FM G μ σ) H0) [] := va_nilD
      have hP : va_P G.1 zCl ([]) H15 := hP
      have hD : va_D (zA (FM G μ σ) H0) ([]) := hD
      have hS := hS1
      have hH9 : HM G s0 μ σ ((1 : Nat) : Int) H15 := HM.thr hE hHb hF hx9
      exact z_iret hC hrt hlk hQ hS ⟨zle (z := 1) rfl (by omega), zle (z := 16) rfl (by omega)⟩ ⟨_, rfl, 1, σ, PoM.same hH9, Or.inr ⟨by decide, rfl, by decide, Or.inl ⟨rfl, fun z9 => by have h9 := hfl2.2.mpr (z9.2); omega⟩⟩⟩ dX3_conjugate_26

abbrev rm_m_X3_power : Room := { frames := 4, cells := 70, slots := 1100, locals := 86 }
set_option maxHeartbeats 4000000 in
theorem m_X3_power {l : Launch} {s0 : State} {G : zG} (hE : zE l s0 G) (H0 : Heap) (hO : zO s0 H0) (μ : Ro → Nat) (σ : St) (th : Int) (i j t : Int) (hh : HM G s0 μ σ th H0) (hi : zi i ∧ zi j ∧ zi t) : zM l s0 yX3_power cX3_power 4 (some FieldType.int) rm_m_X3_power [.ref (μ (0, 0, 0)), .int (iI i), .int (iI j), .int (iI t)] H0 (FM G μ σ) (HPM G s0 H0 μ σ [IOB, IAE] ((fun y σ' => ∃ a b : Nat, (i = a ∧ a < St_ne σ) ∧ (j = b ∧ b < St_ne σ) ∧ St_ea σ a = St_ea σ b ∧ (0 ≤ t ∧ t ≤ 60) ∧ σ' = stEl σ a (pwV (St_p σ) (St_n σ (St_ea σ a)) (St_sg σ (St_ea σ a)) (St_ev σ b) t.toNat) ∧ y = (szV (pwV (St_p σ) (St_n σ (St_ea σ a)) (St_sg σ (St_ea σ a)) (St_ev σ b) t.toNat) (St_n σ (St_ea σ a)) : Nat))) ((X2e σ i j (0 ≤ t ∧ t ≤ 60)))) := by
  refine z_met hE (by decide +kernel) (Nat.le_of_ble_eq_true rfl) ?_
  intro pp ee ss mm args below meth cd Q ls hC hml hrt hlk hnm hH hQ hS hl
  have hx := hC.x
  have hb := hC.b
  have hl : lv_has ls 4 [(0, .ref (μ (0, 0, 0))), (1, .int (iI i)), (2, .int (iI j)), (3, .int (iI t))] := hl
  have hP : va_P G.1 zCl [] H0 := va_nil
  have hD : va_D (zA (FM G μ σ) H0) [] := va_nilD
  have hMo : ∀ z, (FM G μ σ) z → s0.heap.size ≤ z := fun z hz => FM.ge hh.sep hz
  have hH1 := hh
  obtain ⟨hp, hna, hal, hne9, hel9, hmr9⟩ := id hh.ok
  have hp7 : 0 < St_p σ ∧ St_p σ ≤ 7 := by rcases hp with h | h | h <;> rw [h] <;> decide
  have hP : va_P G.1 zCl [((μ (0, 0, 0)), zOb 2 [.int (iI th), .int (iI (St_p σ)), .int (iI ((St_kn σ : Nat) : Int)), .ref (μ (1, 0, 0)), .ref (μ (3, 0, 0))])] H0 := zP1 hh.2.2.1.1
  have hD : va_D (zA (FM G μ σ) H0) [((μ (0, 0, 0)), zOb 2 [.int (iI th), .int (iI (St_p σ)), .int (iI ((St_kn σ : Nat) : Int)), .ref (μ (1, 0, 0)), .ref (μ (3, 0, 0))])] := zD1 (Or.inl (FM.in hE hh.sep (domM0 0 (by omega)) (by simp [rAm])))
  refine lv_aload_n hx hb dX3_power_0 rfl (lv_at hl 0 rfl) ?_
  refine lv_iconst (v := iI 0) hx hb dX3_power_1 rfl ?_
  refine z_putO hC hP hD hS 0 (k := 0) rfl rfl in_X3 tyX3_ok nmX3 (by decide) q1495 (fun _ h => h) rfl rfl rfl rfl (Nat.le_of_ble_eq_true rfl) (ws' := [((μ (0, 0, 0)), zOb 2 [.int (iI 0), .int (iI (St_p σ)), .int (iI ((St_kn σ : Nat) : Int)), .ref (μ (1, 0, 0)), .ref (μ (3, 0, 0))])]) rfl dX3_power_2 (fun H1 locs hP hD hS hZ1 hZ2 => ?_)
  have hH1 : HM G s0 μ σ 0 H1 := HM.thr hE hH1 (zF.one hZ1 hZ2) (hP 0 _ rfl)
  have hP : va_P G.1 zCl [] H1 := va_nil
  have hD : va_D (zA (FM G μ σ) H0) [] := va_nilD
  refine lv_aload_n hx hb dX3_power_5 rfl (lv_at hl 0 rfl) ?_
  refine lv_iload_n hx hb dX3_power_6 rfl (lv_at hl 1 rfl) ?_
  refine z_go 0 0 (z_runV (As := [.int (iI i)]) (rest := []) hC hml hl.1 (m_X3_isElement hE H1 (hO.ext (zS_F hS) hMo) μ σ 0 i hH1 hi.1) (lw_V q1650 q1652 qs35 q67 q1653) rfl nd_X3_isElement rfl (z_rv hC (ci := 2) rfl hH1.2.2.1.1 rfl) rfl (Nat.le_of_ble_eq_true rfl) ⟨Nat.le_of_ble_eq_true rfl, Nat.le_of_ble_eq_true rfl⟩ ⟨zfit (k := 0) (z := 70) rfl rfl (by omega), zfit (k := 0) (z := 1100) rfl rfl (by omega)⟩ dX3_power_7) ⟨zad (k := 0) rfl (by omega), zad (k := 0) rfl (by omega)⟩ hS (fun _ z => z.elim) (fun r H2 locs hp hF hS1 => ?_)
  obtain ⟨_, rfl, rfl⟩ := hp
  have hP := zpk hP hF
  have hP : va_P G.1 zCl ([]) H2 := hP
  have hD : va_D (zA (FM G μ σ) H0) ([]) := hD
  have hH1 : HM G s0 μ σ 0 H2 := hH1.ext0 hE hF
  have hS := hS1
  obtain ⟨fl, hfl, hfl2⟩ : ∃ fl : Nat, fl ≤ 1 ∧ (if 0 ≤ i ∧ i < (((St_ne σ) : Nat) : Int) then (1 : Int) else 0) = fl ∧ (fl = 1 ↔ 0 ≤ i ∧ i < (((St_ne σ) : Nat) : Int)) := by by_cases h : 0 ≤ i ∧ i < (((St_ne σ) : Nat) : Int); exact ⟨1, by decide, by rw [if_pos h]; rfl, ⟨fun _ => h, fun _ => rfl⟩⟩; exact ⟨0, by decide, by rw [if_neg h]; rfl, ⟨fun z => absurd z (by decide), fun z => absurd z h⟩⟩
  refine z_top (b := ((fl : Nat) : Int)) (hfl2.1) ?_
  refine z_zeq (tgt := 21) hx hb dX3_power_10 (by decide) (by omega) (fun c3 => ?_) (fun c3 => ?_)
  · refine lv_aload_n hx hb dX3_power_21 rfl (lv_at hl 0 rfl) ?_
    refine lv_iconst (v := iI 1) hx hb dX3_power_22 rfl ?_
    have hHb := hH1
    refine z_go 0 0 (z_runV (As := [.int (iI 1)]) (rest := []) hC hml hl.1 (m_X3_no hE H2 (hO.ext (zS_F hS) hMo) μ σ 0 1 hHb) (lw_V q1520 q1522 qs29 q67 q1523) rfl nd_X3_no rfl (z_rv hC (ci := 2) rfl hHb.2.2.1.1 rfl) rfl (Nat.le_of_ble_eq_true rfl) ⟨Nat.le_of_ble_eq_true rfl, Nat.le_of_ble_eq_true rfl⟩ ⟨zfit (k := 0) (z := 70) rfl rfl (by omega), zfit (k := 0) (z := 1100) rfl rfl (by omega)⟩ dX3_power_23) ⟨zad (k := 0) rfl (by omega), zad (k := 0) rfl (by omega)⟩ hS (fun z hz => Or.inl (hz ▸ FM.in hE hh.sep (domM0 0 (by omega)) (by simp [rAm]))) (fun r H4 locs hp hF hS1 => ?_)
    obtain ⟨_, rfl, rfl, hx9⟩ := hp
    have hP : va_P G.1 zCl [] H4 := va_nil
    have hD : va_D (zA (FM G μ σ) H0) [] := va_nilD
    have hP : va_P G.1 zCl ([]) H4 := hP
    have hD : va_D (zA (FM G μ σ) H0) ([]) := hD
    have hS := hS1
    have hH9 : HM G s0 μ σ ((1 : Nat) : Int) H4 := HM.thr hE hHb hF hx9
    exact z_iret hC hrt hlk hQ hS ⟨zle (z := 70) rfl (by omega), zle (z := 1100) rfl (by omega)⟩ ⟨_, rfl, 1, σ, PoM.same hH9, Or.inr ⟨by decide, rfl, by decide, Or.inl ⟨rfl, fun z9 => by have h9 := hfl2.2.mpr (z9.1); omega⟩⟩⟩ dX3_power_26
  · have hok9 := hfl2.2.mp (by omega)
    obtain ⟨a, rfl⟩ : ∃ a : Nat, i = a := ⟨i.toNat, by omega⟩
    have ha9 : a < St_ne σ := by omega
    refine lv_aload_n hx hb dX3_power_13 rfl (lv_at hl 0 rfl) ?_
    refine lv_iload_n hx hb dX3_power_14 rfl (lv_at hl 2 rfl) ?_
    refine z_go 0 0 (z_runV (As := [.int (iI j)]) (rest := []) hC hml hl.1 (m_X3_isElement hE H2 (hO.ext (zS_F hS) hMo) μ σ 0 j hH1 hi.2.1) (lw_V q1650 q1652 qs35 q67 q1653) rfl nd_X3_isElement rfl (z_rv hC (ci := 2) rfl hH1.2.2.1.1 rfl) rfl (Nat.le_of_ble_eq_true rfl) ⟨Nat.le_of_ble_eq_true rfl, Nat.le_of_ble_eq_true rfl⟩ ⟨zfit (k := 0) (z := 70) rfl rfl (by omega), zfit (k := 0) (z := 1100) rfl rfl (by omega)⟩ dX3_power_15) ⟨zad (k := 0) rfl (by omega), zad (k := 0) rfl (by omega)⟩ hS (fun _ z => z.elim) (fun r H5 locs hp hF hS1 => ?_)
    obtain ⟨_, rfl, rfl⟩ := hp
    have hP := zpk hP hF
    have hP : va_P G.1 zCl ([]) H5 := hP
    have hD : va_D (zA (FM G μ σ) H0) ([]) := hD
    have hH1 : HM G s0 μ σ 0 H5 := hH1.ext0 hE hF
    have hS := hS1
    obtain ⟨fl, hfl, hfl2⟩ : ∃ fl : Nat, fl ≤ 1 ∧ (if 0 ≤ j ∧ j < (((St_ne σ) : Nat) : Int) then (1 : Int) else 0) = fl ∧ (fl = 1 ↔ 0 ≤ j ∧ j < (((St_ne σ) : Nat) : Int)) := by by_cases h : 0 ≤ j ∧ j < (((St_ne σ) : Nat) : Int); exact ⟨1, by decide, by rw [if_pos h]; rfl, ⟨fun _ => h, fun _ => rfl⟩⟩; exact ⟨0, by decide, by rw [if_neg h]; rfl, ⟨fun z => absurd z (by decide), fun z => absurd z h⟩⟩
    refine z_top (b := ((fl : Nat) : Int)) (hfl2.1) ?_
    refine z_zne (tgt := 27) hx hb dX3_power_18 (by decide) (by omega) (fun c6 => ?_) (fun c6 => ?_)
    · have hok9 := hfl2.2.mp (by omega)
      obtain ⟨b, rfl⟩ : ∃ b : Nat, j = b := ⟨j.toNat, by omega⟩
      have hb9 : b < St_ne σ := by omega
      refine lv_aload_n hx hb dX3_power_27 rfl (lv_at hl 0 rfl) ?_
      refine lv_iload_n hx hb dX3_power_28 rfl (lv_at hl 1 rfl) ?_
      refine lv_iload_n hx hb dX3_power_29 rfl (lv_at hl 2 rfl) ?_
      refine z_go 0 0 (z_runV (As := [.int (iI ((a : Nat) : Int)), .int (iI ((b : Nat) : Int))]) (rest := []) hC hml hl.1 (m_X3_areOne hE H5 (hO.ext (zS_F hS) hMo) μ σ 0 a b hH1 ⟨by omega, by omega⟩) (lw_V q1662 q1664 qs37 q67 q1665) rfl nd_X3_areOne rfl (z_rv hC (ci := 2) rfl hH1.2.2.1.1 rfl) rfl (Nat.le_of_ble_eq_true rfl) ⟨Nat.le_of_ble_eq_true rfl, Nat.le_of_ble_eq_true rfl⟩ ⟨zfit (k := 0) (z := 70) rfl rfl (by omega), zfit (k := 0) (z := 1100) rfl rfl (by omega)⟩ dX3_power_30) ⟨zad (k := 0) rfl (by omega), zad (k := 0) rfl (by omega)⟩ hS (fun _ z => z.elim) (fun r H7 locs hp hF hS1 => ?_)
      obtain ⟨_, rfl, rfl⟩ := hp
      have hP := zpk hP hF
      have hP : va_P G.1 zCl ([]) H7 := hP
      have hD : va_D (zA (FM G μ σ) H0) ([]) := hD
      have hH1 : HM G s0 μ σ 0 H7 := hH1.ext0 hE hF
      have hS := hS1
      obtain ⟨fl, hfl, hfl2⟩ : ∃ fl : Nat, fl ≤ 1 ∧ (if St_ea σ a = St_ea σ b then (1 : Int) else 0) = fl ∧ (fl = 1 ↔ St_ea σ a = St_ea σ b) := by by_cases h : St_ea σ a = St_ea σ b; exact ⟨1, by decide, by rw [if_pos h]; rfl, ⟨fun _ => h, fun _ => rfl⟩⟩; exact ⟨0, by decide, by rw [if_neg h]; rfl, ⟨fun z => absurd z (by decide), fun z => absurd z h⟩⟩
      refine z_top (b := ((fl : Nat) : Int)) (hfl2.1) ?_
      refine z_zeq (tgt := 46) hx hb dX3_power_33 (by decide) (by omega) (fun c8 => ?_) (fun c8 => ?_)
      · refine lv_aload_n hx hb dX3_power_46 rfl (lv_at hl 0 rfl) ?_
        refine lv_iconst (v := iI 2) hx hb dX3_power_47 rfl ?_
        have hHb := hH1
        refine z_go 0 0 (z_runV (As := [.int (iI 2)]) (rest := []) hC hml hl.1 (m_X3_no hE H7 (hO.ext (zS_F hS) hMo) μ σ 0 2 hHb) (lw_V q1520 q1522 qs29 q67 q1523) rfl nd_X3_no rfl (z_rv hC (ci := 2) rfl hHb.2.2.1.1 rfl) rfl (Nat.le_of_ble_eq_true rfl) ⟨Nat.le_of_ble_eq_true rfl, Nat.le_of_ble_eq_true rfl⟩ ⟨zfit (k := 0) (z := 70) rfl rfl (by omega), zfit (k := 0) (z := 1100) rfl rfl (by omega)⟩ dX3_power_48) ⟨zad (k := 0) rfl (by omega), zad (k := 0) rfl (by omega)⟩ hS (fun z hz => Or.inl (hz ▸ FM.in hE hh.sep (domM0 0 (by omega)) (by simp [rAm]))) (fun r H9 locs hp hF hS1 => ?_)
        obtain ⟨_, rfl, rfl, hx9⟩ := hp
        have hP : va_P G.1 zCl [] H9 := va_nil
        have hD : va_D (zA (FM G μ σ) H0) [] := va_nilD
        have hP : va_P G.1 zCl ([]) H9 := hP
        have hD : va_D (zA (FM G μ σ) H0) ([]) := hD
        have hS := hS1
        have hH9 : HM G s0 μ σ ((2 : Nat) : Int) H9 := HM.thr hE hHb hF hx9
        exact z_iret hC hrt hlk hQ hS ⟨zle (z := 70) rfl (by omega), zle (z := 1100) rfl (by omega)⟩ ⟨_, rfl, 2, σ, PoM.same hH9, Or.inr ⟨by decide, rfl, by decide, Or.inr ⟨rfl, inE_n (by omega), inE_n (by omega), fun z9 => by have h9 := hfl2.2.mpr z9.1; omega⟩⟩⟩ dX3_power_51
      · have hone : St_ea σ a = St_ea σ b := hfl2.2.mp (by omega)
        have hea := hh.ea (j := a) (by omega)
        refine lv_iload_n hx hb dX3_power_36 rfl (lv_at hl 3 rfl) ?_
        refine lv_iconst (v := iI 0) hx hb dX3_power_37 rfl ?_
        refine lv_bipush (v := iI 60) hx hb dX3_power_38 (by decide) ?_
        refine z_go 0 0 (z_runS (As := [.int (iI t), .int (iI 0), .int (iI 60)]) (rest := []) hC hml hl.1 (m_X3_in hE H7 (hO.ext (zS_F hS) hMo) (0) (60) (t) ⟨by omega, by omega, by omega⟩) (lw_S q1536 q1537 q67 q1538) nd_X3_in rfl rfl (Nat.le_of_ble_eq_true rfl) ⟨Nat.le_of_ble_eq_true rfl, Nat.le_of_ble_eq_true rfl⟩ ⟨zfit (k := 0) (z := 70) rfl rfl (by omega), zfit (k := 0) (z := 1100) rfl rfl (by omega)⟩ dX3_power_40) ⟨zad (k := 0) rfl (by omega), zad (k := 0) rfl (by omega)⟩ hS (fun _ z => z.elim) (fun r H10 locs hp hF hS1 => ?_)
        obtain ⟨_, rfl, rfl⟩ := hp
        have hP := zpk hP hF
        have hP : va_P G.1 zCl ([]) H10 := hP
        have hD : va_D (zA (FM G μ σ) H0) ([]) := hD
        have hH1 : HM G s0 μ σ 0 H10 := hH1.ext0 hE hF
        have hS := hS1
        obtain ⟨fl, hfl, hfl2⟩ : ∃ fl : Nat, fl ≤ 1 ∧ (if 0 ≤ t ∧ t ≤ 60 then (1 : Int) else 0) = fl ∧ (fl = 1 ↔ 0 ≤ t ∧ t ≤ 60) := by by_cases h : 0 ≤ t ∧ t ≤ 60; exact ⟨1, by decide, by rw [if_pos h]; rfl, ⟨fun _ => h, fun _ => rfl⟩⟩; exact ⟨0, by decide, by rw [if_neg h]; rfl, ⟨fun z => absurd z (by decide), fun z => absurd z h⟩⟩
        refine z_top (b := ((fl : Nat) : Int)) (hfl2.1) ?_
        refine z_zne (tgt := 52) hx hb dX3_power_43 (by decide) (by omega) (fun c11 => ?_) (fun c11 => ?_)
        · have hrg : 0 ≤ t ∧ t ≤ 60 := hfl2.2.mp (by omega)
          obtain ⟨tt, rfl⟩ : ∃ tt : Nat, t = tt := ⟨t.toNat, by omega⟩
          refine lv_aload_n hx hb dX3_power_52 rfl (lv_at hl 0 rfl) ?_
          refine lv_iload_n hx hb dX3_power_53 rfl (lv_at hl 1 rfl) ?_
          refine lv_aload_n hx hb dX3_power_54 rfl (lv_at hl 0 rfl) ?_
          refine lv_iload_n hx hb dX3_power_55 rfl (lv_at hl 1 rfl) ?_
          refine z_go 0 0 (z_runV (As := [.int (iI ((a : Nat) : Int))]) (rest := [.int (iI ((a : Nat) : Int)), .ref (μ (0, 0, 0))]) hC hml hl.1 (m_X3_home hE H10 (hO.ext (zS_F hS) hMo) μ σ 0 a hH1 (by omega)) (lw_V q1682 q1684 qs40 q67 q1685) rfl nd_X3_home rfl (z_rv hC (ci := 2) rfl hH1.2.2.1.1 rfl) rfl (Nat.le_of_ble_eq_true rfl) ⟨Nat.le_of_ble_eq_true rfl, Nat.le_of_ble_eq_true rfl⟩ ⟨zfit (k := 0) (z := 70) rfl rfl (by omega), zfit (k := 0) (z := 1100) rfl rfl (by omega)⟩ dX3_power_56) ⟨zad (k := 0) rfl (by omega), zad (k := 0) rfl (by omega)⟩ hS (fun _ z => z.elim) (fun r H12 locs hp hF hS1 => ?_)
          obtain ⟨_, rfl, rfl⟩ := hp
          have hP := zpk hP hF
          have hP : va_P G.1 zCl ([]) H12 := hP
          have hD : va_D (zA (FM G μ σ) H0) ([]) := hD
          have hH1 : HM G s0 μ σ 0 H12 := hH1.ext0 hE hF
          have hS := hS1
          have hRb := (hH1.el (j := b) (by omega)).2
          have hVb := hH1.row (j := b) (by omega)
          rw [← hone] at hRb hVb
          refine lv_aload_n hx hb dX3_power_59 rfl (lv_at hl 0 rfl) ?_
          refine lv_iload_n hx hb dX3_power_60 rfl (lv_at hl 2 rfl) ?_
          refine z_go 0 0 (z_runV (As := [.int (iI ((b : Nat) : Int))]) (rest := [.ref (μ (6, St_ea σ a, 0)), .int (iI ((a : Nat) : Int)), .ref (μ (0, 0, 0))]) hC hml hl.1 (m_X3_row hE H12 (hO.ext (zS_F hS) hMo) μ σ 0 b hH1 (by omega)) (lw_V q1654 q1656 qs36 q67 q1657) rfl nd_X3_row rfl (z_rv hC (ci := 2) rfl hH1.2.2.1.1 rfl) rfl (Nat.le_of_ble_eq_true rfl) ⟨Nat.le_of_ble_eq_true rfl, Nat.le_of_ble_eq_true rfl⟩ ⟨zfit (k := 0) (z := 70) rfl rfl (by omega), zfit (k := 0) (z := 1100) rfl rfl (by omega)⟩ dX3_power_61) ⟨zad (k := 0) rfl (by omega), zad (k := 0) rfl (by omega)⟩ hS (fun _ z => z.elim) (fun r H13 locs hp hF hS1 => ?_)
          obtain ⟨_, rfl, rfl⟩ := hp
          have hP := zpk hP hF
          have hP : va_P G.1 zCl ([]) H13 := hP
          have hD : va_D (zA (FM G μ σ) H0) ([]) := hD
          have hH1 : HM G s0 μ σ 0 H13 := hH1.ext0 hE hF
          have hS := hS1
          have hRb := (hH1.el (j := b) (by omega)).2
          have hVb := hH1.row (j := b) (by omega)
          rw [← hone] at hRb hVb
          refine lv_iload_n hx hb dX3_power_64 rfl (lv_at hl 3 rfl) ?_
          have hsz9 : H0.size ≤ H13.size := hS.1
          have hUSt_eaσa := hH1.al (k := St_ea σ a) hea
          refine z_go 70 1100 (z_runV (As := [.ref (μ (14, b, 0)), .int (iI ((tt : Nat) : Int))]) (rest := [.int (iI ((a : Nat) : Int)), .ref (μ (0, 0, 0))]) hC hml hl.1 (m_X6_power hE H13 (hO.ext (zS_F hS) hMo) μ σ 0 (St_ea σ a) (μ (14, b, 0)) (St_ev σ b) tt hH1 hea hRb hVb (by omega)) (lw_V q1710 q1711 q1712 q82 q1713) rfl nd_X6_power rfl (z_rv hC (ci := 5) rfl hUSt_eaσa.1 rfl) rfl (Nat.le_of_ble_eq_true rfl) ⟨Nat.le_of_ble_eq_true rfl, Nat.le_of_ble_eq_true rfl⟩ ⟨zfit (k := 70) (z := 70) rfl rfl (by omega), zfit (k := 1100) (z := 1100) rfl rfl (by omega)⟩ dX3_power_65) ⟨zad (k := 70) rfl (by omega), zad (k := 1100) rfl (by omega)⟩ hS (fun _ z => z.elim) (fun r H15 locs hp hF hS1 => ?_)
          obtain ⟨qr14, rfl, hN⟩ := hp
          obtain ⟨hP, hD⟩ := zjn hP hD hS.1 hF hN
          have hP : va_P G.1 zCl ([(qr14, zI G (St_n σ (St_ea σ a)) (pwV (St_p σ) (St_n σ (St_ea σ a)) (St_sg σ (St_ea σ a)) (St_ev σ b) tt))]) H15 := hP
          have hD : va_D (zA (FM G μ σ) H0) ([(qr14, zI G (St_n σ (St_ea σ a)) (pwV (St_p σ) (St_n σ (St_ea σ a)) (St_sg σ (St_ea σ a)) (St_ev σ b) tt))]) := hD
          have hH1 : HM G s0 μ σ 0 H15 := hH1.ext0 hE hF
          have hS := hS1
          have hNwqr14 : H0.size ≤ qr14 := Nat.le_trans hsz9 (hN.2.2 0 _ rfl)
          have hHb := hH1
          have hRb := hP 0 _ rfl
          refine z_go 70 1100 (z_runV (As := [.int (iI ((a : Nat) : Int)), .ref qr14]) (rest := []) hC hml hl.1 (m_X3_put hE H15 (hO.ext (zS_F hS) hMo) μ σ 0 a qr14 (pwV (St_p σ) (St_n σ (St_ea σ a)) (St_sg σ (St_ea σ a)) (St_ev σ b) tt) hHb (by omega) hRb (pwV_ok hp _ _ _ _)) (lw_V q1671 q1673 qs39 q67 q1674) rfl nd_X3_put rfl (z_rv hC (ci := 2) rfl hHb.2.2.1.1 rfl) rfl (Nat.le_of_ble_eq_true rfl) ⟨Nat.le_of_ble_eq_true rfl, Nat.le_of_ble_eq_true rfl⟩ ⟨zfit (k := 0) (z := 70) rfl rfl (by omega), zfit (k := 0) (z := 1100) rfl rfl (by omega)⟩ dX3_power_68) ⟨zad (k := 0) rfl (by omega), zad (k := 0) rfl (by omega)⟩ hS (fun z hz => Or.inl (hz ▸ FM.in hE hh.sep (domME 13 a (Or.inl rfl) (by omega)) (by simp [rAm]))) (fun r H16 locs hp hF hS1 => ?_)
          obtain ⟨_, rfl, rfl, hm9⟩ := hp
          have hP : va_P G.1 zCl [] H16 := va_nil
          have hD : va_D (zA (FM G μ σ) H0) [] := va_nilD
          have hP : va_P G.1 zCl ([]) H16 := hP
          have hD : va_D (zA (FM G μ σ) H0) ([]) := hD
          have hS := hS1
          have hPo : PoM G s0 H0 μ σ (stEl σ a (pwV (St_p σ) (St_n σ (St_ea σ a)) (St_sg σ (St_ea σ a)) (St_ev σ b) tt)) 0 H16 := HM.put hE hO hh hHb (by omega) hF hm9 (zAt.ext hRb hF (Ne.symm (z_noArr hE (ci := 7) (t := 0) rfl (hHb.el (j := a) (by omega)).1 rfl hRb))) hNwqr14 (pwV_ok hp _ _ _ _)
          exact z_iret hC hrt hlk hQ hS ⟨zle (z := 70) rfl (by omega), zle (z := 1100) rfl (by omega)⟩ ⟨_, rfl, 0, stEl σ a (pwV (St_p σ) (St_n σ (St_ea σ a)) (St_sg σ (St_ea σ a)) (St_ev σ b) tt), hPo, Or.inl ⟨rfl, ⟨a, b, ⟨by omega, by omega⟩, ⟨by omega, by omega⟩, hone, hrg, rfl, rfl⟩⟩⟩ dX3_power_71
        · refine lv_aload_n hx hb dX3_power_46 rfl (lv_at hl 0 rfl) ?_
          refine lv_iconst (v := iI 2) hx hb dX3_power_47 rfl ?_
          have hHb := hH1
          refine z_go 0 0 (z_runV (As := [.int (iI 2)]) (rest := []) hC hml hl.1 (m_X3_no hE H10 (hO.ext (zS_F hS) hMo) μ σ 0 2 hHb) (lw_V q1520 q1522 qs29 q67 q1523) rfl nd_X3_no rfl (z_rv hC (ci := 2) rfl hHb.2.2.1.1 rfl) rfl (Nat.le_of_ble_eq_true rfl) ⟨Nat.le_of_ble_eq_true rfl, Nat.le_of_ble_eq_true rfl⟩ ⟨zfit (k := 0) (z := 70) rfl rfl (by omega), zfit (k := 0) (z := 1100) rfl rfl (by omega)⟩ dX3_power_48) ⟨zad (k := 0) rfl (by omega), zad (k := 0) rfl (by omega)⟩ hS (fun z hz => Or.inl (hz ▸ FM.in hE hh.sep (domM0 0 (by omega)) (by simp [rAm]))) (fun r H17 locs hp hF hS1 => ?_)
          obtain ⟨_, rfl, rfl, hx9⟩ := hp
          have hP : va_P G.1 zCl [] H17 := va_nil
          have hD : va_D (zA (FM G μ σ) H0) [] := va_nilD
          have hP : va_P G.1 zCl ([]) H17 := hP
          have hD : va_D (zA (FM G μ σ) H0) ([]) := hD
          have hS := hS1
          have hH9 : HM G s0 μ σ ((2 : Nat) : Int) H17 := HM.thr hE hHb hF hx9
          exact z_iret hC hrt hlk hQ hS ⟨zle (z := 70) rfl (by omega), zle (z := 1100) rfl (by omega)⟩ ⟨_, rfl, 2, σ, PoM.same hH9, Or.inr ⟨by decide, rfl, by decide, Or.inr ⟨rfl, inE_n (by omega), inE_n (by omega), fun z9 => by have z8 := z9.2; have h9 := hfl2.2.mpr (z8); omega⟩⟩⟩ dX3_power_51
    · refine lv_aload_n hx hb dX3_power_21 rfl (lv_at hl 0 rfl) ?_
      refine lv_iconst (v := iI 1) hx hb dX3_power_22 rfl ?_
      have hHb := hH1
      refine z_go 0 0 (z_runV (As := [.int (iI 1)]) (rest := []) hC hml hl.1 (m_X3_no hE H5 (hO.ext (zS_F hS) hMo) μ σ 0 1 hHb) (lw_V q1520 q1522 qs29 q67 q1523) rfl nd_X3_no rfl (z_rv hC (ci := 2) rfl hHb.2.2.1.1 rfl) rfl (Nat.le_of_ble_eq_true rfl) ⟨Nat.le_of_ble_eq_true rfl, Nat.le_of_ble_eq_true rfl⟩ ⟨zfit (k := 0) (z := 70) rfl rfl (by omega), zfit (k := 0) (z := 1100) rfl rfl (by omega)⟩ dX3_power_23) ⟨zad (k := 0) rfl (by omega), zad (k := 0) rfl (by omega)⟩ hS (fun z hz => Or.inl (hz ▸ FM.in hE hh.sep (domM0 0 (by omega)) (by simp [rAm]))) (fun r H18 locs hp hF hS1 => ?_)
      obtain ⟨_, rfl, rfl, hx9⟩ := hp
      have hP : va_P G.1 zCl [] H18 := va_nil
      have hD : va_D (zA (FM G μ σ) H0) [] := va_nilD
      have hP : va_P G.1 zCl ([]) H18 := hP
      have hD : va_D (zA (FM G μ σ) H0) ([]) := hD
      have hS := hS1
      have hH9 : HM G s0 μ σ ((1 : Nat) : Int) H18 := HM.thr hE hHb hF hx9
      exact z_iret hC hrt hlk hQ hS ⟨zle (z := 70) rfl (by omega), zle (z := 1100) rfl (by omega)⟩ ⟨_, rfl, 1, σ, PoM.same hH9, Or.inr ⟨by decide, rfl, by decide, Or.inl ⟨rfl, fun z9 => by have h9 := hfl2.2.mpr (z9.2); omega⟩⟩⟩ dX3_power_26

theorem inv_no {n : Nat} {v : Nat → Int} (h : paV n v = true) (h2 : zeV n v = false) (h0 : v 0 = 0) : False := by
  simp [zeV, paV, h0] at h h2
  exact h2 h
abbrev rm_m_X3_invert : Room := { frames := 4, cells := 3, slots := 48, locals := 86 }
set_option maxHeartbeats 4000000 in
theorem m_X3_invert {l : Launch} {s0 : State} {G : zG} (hE : zE l s0 G) (H0 : Heap) (hO : zO s0 H0) (μ : Ro → Nat) (σ : St) (th : Int) (i j : Int) (hh : HM G s0 μ σ th H0) (hi : zi i ∧ zi j) : zM l s0 yX3_invert cX3_invert 5 (some FieldType.int) rm_m_X3_invert [.ref (μ (0, 0, 0)), .int (iI i), .int (iI j)] H0 (FM G μ σ) (HPM G s0 H0 μ σ [IOB, IAE, ISE] ((fun y σ' => ∃ a b : Nat, (i = a ∧ a < St_ne σ) ∧ (j = b ∧ b < St_ne σ) ∧ St_ea σ a = St_ea σ b ∧ (inOk (St_p σ) (St_n σ (St_ea σ a)) (St_kd σ (St_ea σ a)) (St_sg σ (St_ea σ a)) (St_ev σ b)) ∧ σ' = stEl σ a (inV (St_p σ) (St_n σ (St_ea σ a)) (St_kd σ (St_ea σ a)) (St_sg σ (St_ea σ a)) (St_ev σ b)) ∧ y = (szV (inV (St_p σ) (St_n σ (St_ea σ a)) (St_kd σ (St_ea σ a)) (St_sg σ (St_ea σ a)) (St_ev σ b)) (St_n σ (St_ea σ a)) : Nat))) ((X2s σ i j (fun _ b => ¬ inOk (St_p σ) (St_n σ (St_ea σ b)) (St_kd σ (St_ea σ b)) (St_sg σ (St_ea σ b)) (St_ev σ b))))) := by
  refine z_met hE (by decide +kernel) (Nat.le_of_ble_eq_true rfl) ?_
  intro pp ee ss mm args below meth cd Q ls hC hml hrt hlk hnm hH hQ hS hl
  have hx := hC.x
  have hb := hC.b
  have hl : lv_has ls 5 [(0, .ref (μ (0, 0, 0))), (1, .int (iI i)), (2, .int (iI j))] := hl
  have hP : va_P G.1 zCl [] H0 := va_nil
  have hD : va_D (zA (FM G μ σ) H0) [] := va_nilD
  have hMo : ∀ z, (FM G μ σ) z → s0.heap.size ≤ z := fun z hz => FM.ge hh.sep hz
  have hH1 := hh
  obtain ⟨hp, hna, hal, hne9, hel9, hmr9⟩ := id hh.ok
  have hp7 : 0 < St_p σ ∧ St_p σ ≤ 7 := by rcases hp with h | h | h <;> rw [h] <;> decide
  have hP : va_P G.1 zCl [((μ (0, 0, 0)), zOb 2 [.int (iI th), .int (iI (St_p σ)), .int (iI ((St_kn σ : Nat) : Int)), .ref (μ (1, 0, 0)), .ref (μ (3, 0, 0))])] H0 := zP1 hh.2.2.1.1
  have hD : va_D (zA (FM G μ σ) H0) [((μ (0, 0, 0)), zOb 2 [.int (iI th), .int (iI (St_p σ)), .int (iI ((St_kn σ : Nat) : Int)), .ref (μ (1, 0, 0)), .ref (μ (3, 0, 0))])] := zD1 (Or.inl (FM.in hE hh.sep (domM0 0 (by omega)) (by simp [rAm])))
  refine lv_aload_n hx hb dX3_invert_0 rfl (lv_at hl 0 rfl) ?_
  refine lv_iconst (v := iI 0) hx hb dX3_invert_1 rfl ?_
  refine z_putO hC hP hD hS 0 (k := 0) rfl rfl in_X3 tyX3_ok nmX3 (by decide) q1495 (fun _ h => h) rfl rfl rfl rfl (Nat.le_of_ble_eq_true rfl) (ws' := [((μ (0, 0, 0)), zOb 2 [.int (iI 0), .int (iI (St_p σ)), .int (iI ((St_kn σ : Nat) : Int)), .ref (μ (1, 0, 0)), .ref (μ (3, 0, 0))])]) rfl dX3_invert_2 (fun H1 locs hP hD hS hZ1 hZ2 => ?_)
  have hH1 : HM G s0 μ σ 0 H1 := HM.thr hE hH1 (zF.one hZ1 hZ2) (hP 0 _ rfl)
  have hP : va_P G.1 zCl [] H1 := va_nil
  have hD : va_D (zA (FM G μ σ) H0) [] := va_nilD
  refine lv_aload_n hx hb dX3_invert_5 rfl (lv_at hl 0 rfl) ?_
  refine lv_iload_n hx hb dX3_invert_6 rfl (lv_at hl 1 rfl) ?_
  refine z_go 0 0 (z_runV (As := [.int (iI i)]) (rest := []) hC hml hl.1 (m_X3_isElement hE H1 (hO.ext (zS_F hS) hMo) μ σ 0 i hH1 hi.1) (lw_V q1650 q1652 qs35 q67 q1653) rfl nd_X3_isElement rfl (z_rv hC (ci := 2) rfl hH1.2.2.1.1 rfl) rfl (Nat.le_of_ble_eq_true rfl) ⟨Nat.le_of_ble_eq_true rfl, Nat.le_of_ble_eq_true rfl⟩ ⟨zfit (k := 0) (z := 3) rfl rfl (by omega), zfit (k := 0) (z := 48) rfl rfl (by omega)⟩ dX3_invert_7) ⟨zad (k := 0) rfl (by omega), zad (k := 0) rfl (by omega)⟩ hS (fun _ z => z.elim) (fun r H2 locs hp hF hS1 => ?_)
  obtain ⟨_, rfl, rfl⟩ := hp
  have hP := zpk hP hF
  have hP : va_P G.1 zCl ([]) H2 := hP
  have hD : va_D (zA (FM G μ σ) H0) ([]) := hD
  have hH1 : HM G s0 μ σ 0 H2 := hH1.ext0 hE hF
  have hS := hS1
  obtain ⟨fl, hfl, hfl2⟩ : ∃ fl : Nat, fl ≤ 1 ∧ (if 0 ≤ i ∧ i < (((St_ne σ) : Nat) : Int) then (1 : Int) else 0) = fl ∧ (fl = 1 ↔ 0 ≤ i ∧ i < (((St_ne σ) : Nat) : Int)) := by by_cases h : 0 ≤ i ∧ i < (((St_ne σ) : Nat) : Int); exact ⟨1, by decide, by rw [if_pos h]; rfl, ⟨fun _ => h, fun _ => rfl⟩⟩; exact ⟨0, by decide, by rw [if_neg h]; rfl, ⟨fun z => absurd z (by decide), fun z => absurd z h⟩⟩
  refine z_top (b := ((fl : Nat) : Int)) (hfl2.1) ?_
  refine z_zeq (tgt := 21) hx hb dX3_invert_10 (by decide) (by omega) (fun c3 => ?_) (fun c3 => ?_)
  · refine lv_aload_n hx hb dX3_invert_21 rfl (lv_at hl 0 rfl) ?_
    refine lv_iconst (v := iI 1) hx hb dX3_invert_22 rfl ?_
    have hHb := hH1
    refine z_go 0 0 (z_runV (As := [.int (iI 1)]) (rest := []) hC hml hl.1 (m_X3_no hE H2 (hO.ext (zS_F hS) hMo) μ σ 0 1 hHb) (lw_V q1520 q1522 qs29 q67 q1523) rfl nd_X3_no rfl (z_rv hC (ci := 2) rfl hHb.2.2.1.1 rfl) rfl (Nat.le_of_ble_eq_true rfl) ⟨Nat.le_of_ble_eq_true rfl, Nat.le_of_ble_eq_true rfl⟩ ⟨zfit (k := 0) (z := 3) rfl rfl (by omega), zfit (k := 0) (z := 48) rfl rfl (by omega)⟩ dX3_invert_23) ⟨zad (k := 0) rfl (by omega), zad (k := 0) rfl (by omega)⟩ hS (fun z hz => Or.inl (hz ▸ FM.in hE hh.sep (domM0 0 (by omega)) (by simp [rAm]))) (fun r H4 locs hp hF hS1 => ?_)
    obtain ⟨_, rfl, rfl, hx9⟩ := hp
    have hP : va_P G.1 zCl [] H4 := va_nil
    have hD : va_D (zA (FM G μ σ) H0) [] := va_nilD
    have hP : va_P G.1 zCl ([]) H4 := hP
    have hD : va_D (zA (FM G μ σ) H0) ([]) := hD
    have hS := hS1
    have hH9 : HM G s0 μ σ ((1 : Nat) : Int) H4 := HM.thr hE hHb hF hx9
    exact z_iret hC hrt hlk hQ hS ⟨zle (z := 3) rfl (by omega), zle (z := 48) rfl (by omega)⟩ ⟨_, rfl, 1, σ, PoM.same hH9, Or.inr ⟨by decide, rfl, by decide, Or.inl (Or.inl ⟨rfl, fun z9 => by have h9 := hfl2.2.mpr (z9.1); omega⟩)⟩⟩ dX3_invert_26
  · have hok9 := hfl2.2.mp (by omega)
    obtain ⟨a, rfl⟩ : ∃ a : Nat, i = a := ⟨i.toNat, by omega⟩
    have ha9 : a < St_ne σ := by omega
    refine lv_aload_n hx hb dX3_invert_13 rfl (lv_at hl 0 rfl) ?_
    refine lv_iload_n hx hb dX3_invert_14 rfl (lv_at hl 2 rfl) ?_
    refine z_go 0 0 (z_runV (As := [.int (iI j)]) (rest := []) hC hml hl.1 (m_X3_isElement hE H2 (hO.ext (zS_F hS) hMo) μ σ 0 j hH1 hi.2) (lw_V q1650 q1652 qs35 q67 q1653) rfl nd_X3_isElement rfl (z_rv hC (ci := 2) rfl hH1.2.2.1.1 rfl) rfl (Nat.le_of_ble_eq_true rfl) ⟨Nat.le_of_ble_eq_true rfl, Nat.le_of_ble_eq_true rfl⟩ ⟨zfit (k := 0) (z := 3) rfl rfl (by omega), zfit (k := 0) (z := 48) rfl rfl (by omega)⟩ dX3_invert_15) ⟨zad (k := 0) rfl (by omega), zad (k := 0) rfl (by omega)⟩ hS (fun _ z => z.elim) (fun r H5 locs hp hF hS1 => ?_)
    obtain ⟨_, rfl, rfl⟩ := hp
    have hP := zpk hP hF
    have hP : va_P G.1 zCl ([]) H5 := hP
    have hD : va_D (zA (FM G μ σ) H0) ([]) := hD
    have hH1 : HM G s0 μ σ 0 H5 := hH1.ext0 hE hF
    have hS := hS1
    obtain ⟨fl, hfl, hfl2⟩ : ∃ fl : Nat, fl ≤ 1 ∧ (if 0 ≤ j ∧ j < (((St_ne σ) : Nat) : Int) then (1 : Int) else 0) = fl ∧ (fl = 1 ↔ 0 ≤ j ∧ j < (((St_ne σ) : Nat) : Int)) := by by_cases h : 0 ≤ j ∧ j < (((St_ne σ) : Nat) : Int); exact ⟨1, by decide, by rw [if_pos h]; rfl, ⟨fun _ => h, fun _ => rfl⟩⟩; exact ⟨0, by decide, by rw [if_neg h]; rfl, ⟨fun z => absurd z (by decide), fun z => absurd z h⟩⟩
    refine z_top (b := ((fl : Nat) : Int)) (hfl2.1) ?_
    refine z_zne (tgt := 27) hx hb dX3_invert_18 (by decide) (by omega) (fun c6 => ?_) (fun c6 => ?_)
    · have hok9 := hfl2.2.mp (by omega)
      obtain ⟨b, rfl⟩ : ∃ b : Nat, j = b := ⟨j.toNat, by omega⟩
      have hb9 : b < St_ne σ := by omega
      refine lv_aload_n hx hb dX3_invert_27 rfl (lv_at hl 0 rfl) ?_
      refine lv_iload_n hx hb dX3_invert_28 rfl (lv_at hl 1 rfl) ?_
      refine lv_iload_n hx hb dX3_invert_29 rfl (lv_at hl 2 rfl) ?_
      refine z_go 0 0 (z_runV (As := [.int (iI ((a : Nat) : Int)), .int (iI ((b : Nat) : Int))]) (rest := []) hC hml hl.1 (m_X3_areOne hE H5 (hO.ext (zS_F hS) hMo) μ σ 0 a b hH1 ⟨by omega, by omega⟩) (lw_V q1662 q1664 qs37 q67 q1665) rfl nd_X3_areOne rfl (z_rv hC (ci := 2) rfl hH1.2.2.1.1 rfl) rfl (Nat.le_of_ble_eq_true rfl) ⟨Nat.le_of_ble_eq_true rfl, Nat.le_of_ble_eq_true rfl⟩ ⟨zfit (k := 0) (z := 3) rfl rfl (by omega), zfit (k := 0) (z := 48) rfl rfl (by omega)⟩ dX3_invert_30) ⟨zad (k := 0) rfl (by omega), zad (k := 0) rfl (by omega)⟩ hS (fun _ z => z.elim) (fun r H7 locs hp hF hS1 => ?_)
      obtain ⟨_, rfl, rfl⟩ := hp
      have hP := zpk hP hF
      have hP : va_P G.1 zCl ([]) H7 := hP
      have hD : va_D (zA (FM G μ σ) H0) ([]) := hD
      have hH1 : HM G s0 μ σ 0 H7 := hH1.ext0 hE hF
      have hS := hS1
      obtain ⟨fl, hfl, hfl2⟩ : ∃ fl : Nat, fl ≤ 1 ∧ (if St_ea σ a = St_ea σ b then (1 : Int) else 0) = fl ∧ (fl = 1 ↔ St_ea σ a = St_ea σ b) := by by_cases h : St_ea σ a = St_ea σ b; exact ⟨1, by decide, by rw [if_pos h]; rfl, ⟨fun _ => h, fun _ => rfl⟩⟩; exact ⟨0, by decide, by rw [if_neg h]; rfl, ⟨fun z => absurd z (by decide), fun z => absurd z h⟩⟩
      refine z_top (b := ((fl : Nat) : Int)) (hfl2.1) ?_
      refine z_zne (tgt := 42) hx hb dX3_invert_33 (by decide) (by omega) (fun c8 => ?_) (fun c8 => ?_)
      · have hone : St_ea σ a = St_ea σ b := hfl2.2.mp (by omega)
        have hea := hh.ea (j := a) (by omega)
        refine lv_aload_n hx hb dX3_invert_42 rfl (lv_at hl 0 rfl) ?_
        refine lv_iload_n hx hb dX3_invert_43 rfl (lv_at hl 2 rfl) ?_
        refine z_go 0 0 (z_runV (As := [.int (iI ((b : Nat) : Int))]) (rest := []) hC hml hl.1 (m_X3_home hE H7 (hO.ext (zS_F hS) hMo) μ σ 0 b hH1 (by omega)) (lw_V q1682 q1684 qs40 q67 q1685) rfl nd_X3_home rfl (z_rv hC (ci := 2) rfl hH1.2.2.1.1 rfl) rfl (Nat.le_of_ble_eq_true rfl) ⟨Nat.le_of_ble_eq_true rfl, Nat.le_of_ble_eq_true rfl⟩ ⟨zfit (k := 0) (z := 3) rfl rfl (by omega), zfit (k := 0) (z := 48) rfl rfl (by omega)⟩ dX3_invert_44) ⟨zad (k := 0) rfl (by omega), zad (k := 0) rfl (by omega)⟩ hS (fun _ z => z.elim) (fun r H9 locs hp hF hS1 => ?_)
        obtain ⟨qh, rfl, hqh⟩ := hp
        have hP := zpk hP hF
        have hP : va_P G.1 zCl ([]) H9 := hP
        have hD : va_D (zA (FM G μ σ) H0) ([]) := hD
        have hH1 : HM G s0 μ σ 0 H9 := hH1.ext0 hE hF
        have hS := hS1
        rw [← hone] at hqh
        subst hqh
        have hRb := (hH1.el (j := b) (by omega)).2
        have hVb := hH1.row (j := b) (by omega)
        rw [← hone] at hRb hVb
        refine lv_aload_n hx hb dX3_invert_47 rfl (lv_at hl 0 rfl) ?_
        refine lv_iload_n hx hb dX3_invert_48 rfl (lv_at hl 2 rfl) ?_
        refine z_go 0 0 (z_runV (As := [.int (iI ((b : Nat) : Int))]) (rest := [.ref (μ (6, St_ea σ a, 0))]) hC hml hl.1 (m_X3_row hE H9 (hO.ext (zS_F hS) hMo) μ σ 0 b hH1 (by omega)) (lw_V q1654 q1656 qs36 q67 q1657) rfl nd_X3_row rfl (z_rv hC (ci := 2) rfl hH1.2.2.1.1 rfl) rfl (Nat.le_of_ble_eq_true rfl) ⟨Nat.le_of_ble_eq_true rfl, Nat.le_of_ble_eq_true rfl⟩ ⟨zfit (k := 0) (z := 3) rfl rfl (by omega), zfit (k := 0) (z := 48) rfl rfl (by omega)⟩ dX3_invert_49) ⟨zad (k := 0) rfl (by omega), zad (k := 0) rfl (by omega)⟩ hS (fun _ z => z.elim) (fun r H10 locs hp hF hS1 => ?_)
        obtain ⟨_, rfl, rfl⟩ := hp
        have hP := zpk hP hF
        have hP : va_P G.1 zCl ([]) H10 := hP
        have hD : va_D (zA (FM G μ σ) H0) ([]) := hD
        have hH1 : HM G s0 μ σ 0 H10 := hH1.ext0 hE hF
        have hS := hS1
        have hRb := (hH1.el (j := b) (by omega)).2
        have hVb := hH1.row (j := b) (by omega)
        rw [← hone] at hRb hVb
        have hsz9 : H0.size ≤ H10.size := hS.1
        have hUSt_eaσa := hH1.al (k := St_ea σ a) hea
        refine z_go 1 16 (z_runV (As := [.ref (μ (14, b, 0))]) (rest := []) hC hml hl.1 (m_X6_conjugated hE H10 (hO.ext (zS_F hS) hMo) μ σ 0 (St_ea σ a) (μ (14, b, 0)) (St_ev σ b)  hH1 hea hRb hVb ) (lw_V q1702 q1703 q1704 q82 q1705) rfl nd_X6_conjugated rfl (z_rv hC (ci := 5) rfl hUSt_eaσa.1 rfl) rfl (Nat.le_of_ble_eq_true rfl) ⟨Nat.le_of_ble_eq_true rfl, Nat.le_of_ble_eq_true rfl⟩ ⟨zfit (k := 1) (z := 3) rfl rfl (by omega), zfit (k := 16) (z := 48) rfl rfl (by omega)⟩ dX3_invert_52) ⟨zad (k := 1) rfl (by omega), zad (k := 16) rfl (by omega)⟩ hS (fun _ z => z.elim) (fun r H12 locs hp hF hS1 => ?_)
        obtain ⟨qr11, rfl, hN⟩ := hp
        obtain ⟨hP, hD⟩ := zjn hP hD hS.1 hF hN
        have hP : va_P G.1 zCl ([(qr11, zI G (St_n σ (St_ea σ a)) (cjV (St_p σ) (St_kd σ (St_ea σ a)) (St_ev σ b)))]) H12 := hP
        have hD : va_D (zA (FM G μ σ) H0) ([(qr11, zI G (St_n σ (St_ea σ a)) (cjV (St_p σ) (St_kd σ (St_ea σ a)) (St_ev σ b)))]) := hD
        have hH1 : HM G s0 μ σ 0 H12 := hH1.ext0 hE hF
        have hS := hS1
        have hNwqr11 : H0.size ≤ qr11 := Nat.le_trans hsz9 (hN.2.2 0 _ rfl)
        refine lv_astore_n (lv' := [(3, .ref qr11), (0, .ref (μ (0, 0, 0))), (1, .int (iI ((a : Nat) : Int))), (2, .int (iI ((b : Nat) : Int)))]) hx hb dX3_invert_55 rfl hl (by decide) rfl (fun ls hl => ?_)
        refine lv_aload_n hx hb dX3_invert_56 rfl (lv_at hl 1 rfl) ?_
        refine lv_iload_n hx hb dX3_invert_57 rfl (lv_at hl 3 rfl) ?_
        refine z_go 1 16 (z_runV (As := [.int (iI ((b : Nat) : Int))]) (rest := []) hC hml hl.1 (m_X3_home hE H12 (hO.ext (zS_F hS) hMo) μ σ 0 b hH1 (by omega)) (lw_V q1682 q1684 qs40 q67 q1685) rfl nd_X3_home rfl (z_rv hC (ci := 2) rfl hH1.2.2.1.1 rfl) rfl (Nat.le_of_ble_eq_true rfl) ⟨Nat.le_of_ble_eq_true rfl, Nat.le_of_ble_eq_true rfl⟩ ⟨zfit (k := 0) (z := 3) rfl rfl (by omega), zfit (k := 0) (z := 48) rfl rfl (by omega)⟩ dX3_invert_58) ⟨zad (k := 0) rfl (by omega), zad (k := 0) rfl (by omega)⟩ hS (fun _ z => z.elim) (fun r H13 locs hp hF hS1 => ?_)
        obtain ⟨qh, rfl, hqh⟩ := hp
        have hP := zpk hP hF
        have hP : va_P G.1 zCl ([(qr11, zI G (St_n σ (St_ea σ a)) (cjV (St_p σ) (St_kd σ (St_ea σ a)) (St_ev σ b)))]) H13 := hP
        have hD : va_D (zA (FM G μ σ) H0) ([(qr11, zI G (St_n σ (St_ea σ a)) (cjV (St_p σ) (St_kd σ (St_ea σ a)) (St_ev σ b)))]) := hD
        have hH1 : HM G s0 μ σ 0 H13 := hH1.ext0 hE hF
        have hS := hS1
        rw [← hone] at hqh
        subst hqh
        have hRb := (hH1.el (j := b) (by omega)).2
        have hVb := hH1.row (j := b) (by omega)
        rw [← hone] at hRb hVb
        refine lv_aload_n hx hb dX3_invert_61 rfl (lv_at hl 1 rfl) ?_
        refine lv_iload_n hx hb dX3_invert_62 rfl (lv_at hl 3 rfl) ?_
        refine z_go 1 16 (z_runV (As := [.int (iI ((b : Nat) : Int))]) (rest := [.ref (μ (6, St_ea σ a, 0))]) hC hml hl.1 (m_X3_row hE H13 (hO.ext (zS_F hS) hMo) μ σ 0 b hH1 (by omega)) (lw_V q1654 q1656 qs36 q67 q1657) rfl nd_X3_row rfl (z_rv hC (ci := 2) rfl hH1.2.2.1.1 rfl) rfl (Nat.le_of_ble_eq_true rfl) ⟨Nat.le_of_ble_eq_true rfl, Nat.le_of_ble_eq_true rfl⟩ ⟨zfit (k := 0) (z := 3) rfl rfl (by omega), zfit (k := 0) (z := 48) rfl rfl (by omega)⟩ dX3_invert_63) ⟨zad (k := 0) rfl (by omega), zad (k := 0) rfl (by omega)⟩ hS (fun _ z => z.elim) (fun r H14 locs hp hF hS1 => ?_)
        obtain ⟨_, rfl, rfl⟩ := hp
        have hP := zpk hP hF
        have hP : va_P G.1 zCl ([(qr11, zI G (St_n σ (St_ea σ a)) (cjV (St_p σ) (St_kd σ (St_ea σ a)) (St_ev σ b)))]) H14 := hP
        have hD : va_D (zA (FM G μ σ) H0) ([(qr11, zI G (St_n σ (St_ea σ a)) (cjV (St_p σ) (St_kd σ (St_ea σ a)) (St_ev σ b)))]) := hD
        have hH1 : HM G s0 μ σ 0 H14 := hH1.ext0 hE hF
        have hS := hS1
        have hRb := (hH1.el (j := b) (by omega)).2
        have hVb := hH1.row (j := b) (by omega)
        rw [← hone] at hRb hVb
        refine lv_aload_n hx hb dX3_invert_66 rfl (lv_at hl 0 rfl) ?_
        have hsz9 : H0.size ≤ H14.size := hS.1
        have hUSt_eaσa := hH1.al (k := St_ea σ a) hea
        refine z_go 2 32 (z_runV (As := [.ref (μ (14, b, 0)), .ref qr11]) (rest := []) hC hml hl.1 (m_X6_times hE H14 (hO.ext (zS_F hS) hMo) μ σ 0 (St_ea σ a) (μ (14, b, 0)) (St_ev σ b) qr11 (cjV (St_p σ) (St_kd σ (St_ea σ a)) (St_ev σ b))  hH1 hea hRb hVb (hP 0 _ rfl) (cjV_ok hp _ _ _) ) (lw_V q1686 q1687 q1688 q82 q1689) rfl nd_X6_times rfl (z_rv hC (ci := 5) rfl hUSt_eaσa.1 rfl) rfl (Nat.le_of_ble_eq_true rfl) ⟨Nat.le_of_ble_eq_true rfl, Nat.le_of_ble_eq_true rfl⟩ ⟨zfit (k := 1) (z := 3) rfl rfl (by omega), zfit (k := 16) (z := 48) rfl rfl (by omega)⟩ dX3_invert_67) ⟨zad (k := 1) rfl (by omega), zad (k := 16) rfl (by omega)⟩ hS (fun _ z => z.elim) (fun r H16 locs hp hF hS1 => ?_)
        obtain ⟨qr15, rfl, hN⟩ := hp
        obtain ⟨hP, hD⟩ := zjn hP hD hS.1 hF hN
        have hP : va_P G.1 zCl ([(qr11, zI G (St_n σ (St_ea σ a)) (cjV (St_p σ) (St_kd σ (St_ea σ a)) (St_ev σ b))), (qr15, zI G (St_n σ (St_ea σ a)) (tmV (St_p σ) (St_n σ (St_ea σ a)) (St_sg σ (St_ea σ a)) (St_ev σ b) (cjV (St_p σ) (St_kd σ (St_ea σ a)) (St_ev σ b))))]) H16 := hP
        have hD : va_D (zA (FM G μ σ) H0) ([(qr11, zI G (St_n σ (St_ea σ a)) (cjV (St_p σ) (St_kd σ (St_ea σ a)) (St_ev σ b))), (qr15, zI G (St_n σ (St_ea σ a)) (tmV (St_p σ) (St_n σ (St_ea σ a)) (St_sg σ (St_ea σ a)) (St_ev σ b) (cjV (St_p σ) (St_kd σ (St_ea σ a)) (St_ev σ b))))]) := hD
        have hH1 : HM G s0 μ σ 0 H16 := hH1.ext0 hE hF
        have hS := hS1
        have hNwqr15 : H0.size ≤ qr15 := Nat.le_trans hsz9 (hN.2.2 0 _ rfl)
        refine lv_astore (lv' := [(4, .ref qr15), (3, .ref qr11), (0, .ref (μ (0, 0, 0))), (1, .int (iI ((a : Nat) : Int))), (2, .int (iI ((b : Nat) : Int)))]) hx hb dX3_invert_70 hl (by decide) rfl (fun ls hl => ?_)
        refine lv_aload hx hb dX3_invert_72 (lv_at hl 0 rfl) ?_
        have hnn := hh.n hea
        have hT := tmV_ok hp (St_n σ (St_ea σ a)) (St_sg σ (St_ea σ a)) (St_ev σ b) (cjV (St_p σ) (St_kd σ (St_ea σ a)) (St_ev σ b))
        have hT0 := hT 0 (by omega)
        refine z_go 2 32 (z_runS (As := [.ref qr15]) (rest := []) hC hml hl.1 (m_X3_isPlain hE H16 (hO.ext (zS_F hS) hMo) qr15 (St_n σ (St_ea σ a)) (tmV (St_p σ) (St_n σ (St_ea σ a)) (St_sg σ (St_ea σ a)) (St_ev σ b) (cjV (St_p σ) (St_kd σ (St_ea σ a)) (St_ev σ b))) (hP 1 _ rfl) (fun j hj => by have := hT j hj; omega) hnn) (lw_S q1723 q1724 q67 q1725) nd_X3_isPlain rfl rfl (Nat.le_of_ble_eq_true rfl) ⟨Nat.le_of_ble_eq_true rfl, Nat.le_of_ble_eq_true rfl⟩ ⟨zfit (k := 0) (z := 3) rfl rfl (by omega), zfit (k := 0) (z := 48) rfl rfl (by omega)⟩ dX3_invert_74) ⟨zad (k := 0) rfl (by omega), zad (k := 0) rfl (by omega)⟩ hS (fun _ z => z.elim) (fun r H17 locs hp hF hS1 => ?_)
        obtain ⟨_, rfl, rfl⟩ := hp
        have hP := zpk hP hF
        have hP : va_P G.1 zCl ([(qr11, zI G (St_n σ (St_ea σ a)) (cjV (St_p σ) (St_kd σ (St_ea σ a)) (St_ev σ b))), (qr15, zI G (St_n σ (St_ea σ a)) (tmV (St_p σ) (St_n σ (St_ea σ a)) (St_sg σ (St_ea σ a)) (St_ev σ b) (cjV (St_p σ) (St_kd σ (St_ea σ a)) (St_ev σ b))))]) H17 := hP
        have hD : va_D (zA (FM G μ σ) H0) ([(qr11, zI G (St_n σ (St_ea σ a)) (cjV (St_p σ) (St_kd σ (St_ea σ a)) (St_ev σ b))), (qr15, zI G (St_n σ (St_ea σ a)) (tmV (St_p σ) (St_n σ (St_ea σ a)) (St_sg σ (St_ea σ a)) (St_ev σ b) (cjV (St_p σ) (St_kd σ (St_ea σ a)) (St_ev σ b))))]) := hD
        have hH1 : HM G s0 μ σ 0 H17 := hH1.ext0 hE hF
        have hS := hS1
        refine z_zeq (tgt := 87) hx hb dX3_invert_77 (by decide) (by unfold b2i; split <;> omega) (fun cp => ?_) (fun cp => ?_)
        · refine lv_aload_n hx hb dX3_invert_87 rfl (lv_at hl 2 rfl) ?_
          refine lv_iconst (v := iI 3) hx hb dX3_invert_88 rfl ?_
          have hHb := hH1
          refine z_go 2 32 (z_runV (As := [.int (iI 3)]) (rest := []) hC hml hl.1 (m_X3_no hE H17 (hO.ext (zS_F hS) hMo) μ σ 0 3 hHb) (lw_V q1520 q1522 qs29 q67 q1523) rfl nd_X3_no rfl (z_rv hC (ci := 2) rfl hHb.2.2.1.1 rfl) rfl (Nat.le_of_ble_eq_true rfl) ⟨Nat.le_of_ble_eq_true rfl, Nat.le_of_ble_eq_true rfl⟩ ⟨zfit (k := 0) (z := 3) rfl rfl (by omega), zfit (k := 0) (z := 48) rfl rfl (by omega)⟩ dX3_invert_89) ⟨zad (k := 0) rfl (by omega), zad (k := 0) rfl (by omega)⟩ hS (fun z hz => Or.inl (hz ▸ FM.in hE hh.sep (domM0 0 (by omega)) (by simp [rAm]))) (fun r H18 locs hp hF hS1 => ?_)
          obtain ⟨_, rfl, rfl, hx9⟩ := hp
          have hP : va_P G.1 zCl [] H18 := va_nil
          have hD : va_D (zA (FM G μ σ) H0) [] := va_nilD
          have hP : va_P G.1 zCl ([]) H18 := hP
          have hD : va_D (zA (FM G μ σ) H0) ([]) := hD
          have hS := hS1
          have hH9 : HM G s0 μ σ ((3 : Nat) : Int) H18 := HM.thr hE hHb hF hx9
          exact z_iret hC hrt hlk hQ hS ⟨zle (z := 3) rfl (by omega), zle (z := 48) rfl (by omega)⟩ ⟨_, rfl, 3, σ, PoM.same hH9, Or.inr ⟨by decide, rfl, by decide, Or.inr ⟨rfl, inE_n (by omega), inE_n (by omega), hone, fun z9 => by have z9 : inOk (St_p σ) (St_n σ (St_ea σ b)) (St_kd σ (St_ea σ b)) (St_sg σ (St_ea σ b)) (St_ev σ b) := z9; rw [← hone] at z9; have h1 := z9.1; rw [b2i_z cp] at h1; cases h1⟩⟩⟩ dX3_invert_92
        · have hpl := b2i_nz cp
          refine lv_aload hx hb dX3_invert_80 (lv_at hl 0 rfl) ?_
          refine lv_iconst (v := iI 0) hx hb dX3_invert_82 rfl ?_
          refine z_iald hC (hP 1 _ rfl) (k := 0) rfl (by omega) (y := (tmV (St_p σ) (St_n σ (St_ea σ a)) (St_sg σ (St_ea σ a)) (St_ev σ b) (cjV (St_p σ) (St_kd σ (St_ea σ a)) (St_ev σ b))) 0) rfl dX3_invert_83 ?_
          refine z_zne (tgt := 93) hx hb dX3_invert_84 (by decide) (by omega) (fun c19 => ?_) (fun c19 => ?_)
          · have hzf : zeV (St_n σ (St_ea σ a)) (tmV (St_p σ) (St_n σ (St_ea σ a)) (St_sg σ (St_ea σ a)) (St_ev σ b) (cjV (St_p σ) (St_kd σ (St_ea σ a)) (St_ev σ b))) = false := zeV_f (szV_p0 (by omega) (by omega))
            refine lv_aload_n hx hb dX3_invert_93 rfl (lv_at hl 2 rfl) ?_
            refine lv_iload_n hx hb dX3_invert_94 rfl (lv_at hl 3 rfl) ?_
            refine lv_aload_n hx hb dX3_invert_95 rfl (lv_at hl 2 rfl) ?_
            refine lv_iload_n hx hb dX3_invert_96 rfl (lv_at hl 3 rfl) ?_
            refine z_go 2 32 (z_runV (As := [.int (iI ((a : Nat) : Int))]) (rest := [.int (iI ((a : Nat) : Int)), .ref (μ (0, 0, 0))]) hC hml hl.1 (m_X3_home hE H17 (hO.ext (zS_F hS) hMo) μ σ 0 a hH1 (by omega)) (lw_V q1682 q1684 qs40 q67 q1685) rfl nd_X3_home rfl (z_rv hC (ci := 2) rfl hH1.2.2.1.1 rfl) rfl (Nat.le_of_ble_eq_true rfl) ⟨Nat.le_of_ble_eq_true rfl, Nat.le_of_ble_eq_true rfl⟩ ⟨zfit (k := 0) (z := 3) rfl rfl (by omega), zfit (k := 0) (z := 48) rfl rfl (by omega)⟩ dX3_invert_97) ⟨zad (k := 0) rfl (by omega), zad (k := 0) rfl (by omega)⟩ hS (fun _ z => z.elim) (fun r H20 locs hp hF hS1 => ?_)
            obtain ⟨_, rfl, rfl⟩ := hp
            have hP := zpk hP hF
            have hP : va_P G.1 zCl ([(qr11, zI G (St_n σ (St_ea σ a)) (cjV (St_p σ) (St_kd σ (St_ea σ a)) (St_ev σ b))), (qr15, zI G (St_n σ (St_ea σ a)) (tmV (St_p σ) (St_n σ (St_ea σ a)) (St_sg σ (St_ea σ a)) (St_ev σ b) (cjV (St_p σ) (St_kd σ (St_ea σ a)) (St_ev σ b))))]) H20 := hP
            have hD : va_D (zA (FM G μ σ) H0) ([(qr11, zI G (St_n σ (St_ea σ a)) (cjV (St_p σ) (St_kd σ (St_ea σ a)) (St_ev σ b))), (qr15, zI G (St_n σ (St_ea σ a)) (tmV (St_p σ) (St_n σ (St_ea σ a)) (St_sg σ (St_ea σ a)) (St_ev σ b) (cjV (St_p σ) (St_kd σ (St_ea σ a)) (St_ev σ b))))]) := hD
            have hH1 : HM G s0 μ σ 0 H20 := hH1.ext0 hE hF
            have hS := hS1
            refine lv_aload_n hx hb dX3_invert_100 rfl (lv_at hl 1 rfl) ?_
            refine lv_aload_n hx hb dX3_invert_101 rfl (lv_at hl 2 rfl) ?_
            refine lv_aload hx hb dX3_invert_102 (lv_at hl 0 rfl) ?_
            refine lv_iconst (v := iI 0) hx hb dX3_invert_104 rfl ?_
            refine z_iald hC (hP 1 _ rfl) (k := 0) rfl (by omega) (y := (tmV (St_p σ) (St_n σ (St_ea σ a)) (St_sg σ (St_ea σ a)) (St_ev σ b) (cjV (St_p σ) (St_kd σ (St_ea σ a)) (St_ev σ b))) 0) rfl dX3_invert_105 ?_
            refine z_go 2 32 (z_runV (As := [.int (iI ((tmV (St_p σ) (St_n σ (St_ea σ a)) (St_sg σ (St_ea σ a)) (St_ev σ b) (cjV (St_p σ) (St_kd σ (St_ea σ a)) (St_ev σ b))) 0))]) (rest := [.ref qr11, .ref (μ (6, St_ea σ a, 0)), .int (iI ((a : Nat) : Int)), .ref (μ (0, 0, 0))]) hC hml hl.1 (m_X3_inverse hE H20 (hO.ext (zS_F hS) hMo) (μ (0, 0, 0)) (μ (1, 0, 0)) (μ (3, 0, 0)) 0 (St_p σ) (St_kn σ) (tmV (St_p σ) (St_n σ (St_ea σ a)) (St_sg σ (St_ea σ a)) (St_ev σ b) (cjV (St_p σ) (St_kd σ (St_ea σ a)) (St_ev σ b)) 0) hH1.2.2.1.1 hp (by rw [Int.emod_eq_of_lt hT0.1 hT0.2]; omega) (by omega)) (lw_V q1726 q1728 qs41 q67 q1729) rfl nd_X3_inverse rfl (z_rv hC (ci := 2) rfl hH1.2.2.1.1 rfl) rfl (Nat.le_of_ble_eq_true rfl) ⟨Nat.le_of_ble_eq_true rfl, Nat.le_of_ble_eq_true rfl⟩ ⟨zfit (k := 0) (z := 3) rfl rfl (by omega), zfit (k := 0) (z := 48) rfl rfl (by omega)⟩ dX3_invert_106) ⟨zad (k := 0) rfl (by omega), zad (k := 0) rfl (by omega)⟩ hS (fun _ z => z.elim) (fun r H21 locs hp hF hS1 => ?_)
            obtain ⟨_, rfl, rfl⟩ := hp
            have hP := zpk hP hF
            have hP : va_P G.1 zCl ([(qr11, zI G (St_n σ (St_ea σ a)) (cjV (St_p σ) (St_kd σ (St_ea σ a)) (St_ev σ b))), (qr15, zI G (St_n σ (St_ea σ a)) (tmV (St_p σ) (St_n σ (St_ea σ a)) (St_sg σ (St_ea σ a)) (St_ev σ b) (cjV (St_p σ) (St_kd σ (St_ea σ a)) (St_ev σ b))))]) H21 := hP
            have hD : va_D (zA (FM G μ σ) H0) ([(qr11, zI G (St_n σ (St_ea σ a)) (cjV (St_p σ) (St_kd σ (St_ea σ a)) (St_ev σ b))), (qr15, zI G (St_n σ (St_ea σ a)) (tmV (St_p σ) (St_n σ (St_ea σ a)) (St_sg σ (St_ea σ a)) (St_ev σ b) (cjV (St_p σ) (St_kd σ (St_ea σ a)) (St_ev σ b))))]) := hD
            have hH1 : HM G s0 μ σ 0 H21 := hH1.ext0 hE hF
            have hS := hS1
            obtain ⟨hi1, hi2, hi3, hi4⟩ := iv_ex (z := tmV (St_p σ) (St_n σ (St_ea σ a)) (St_sg σ (St_ea σ a)) (St_ev σ b) (cjV (St_p σ) (St_kd σ (St_ea σ a)) (St_ev σ b)) 0) hp (by rw [Int.emod_eq_of_lt hT0.1 hT0.2]; omega)
            have hsz9 : H0.size ≤ H21.size := hS.1
            have hUSt_eaσa := hH1.al (k := St_ea σ a) hea
            refine z_go 3 48 (z_runV (As := [.ref qr11, .int (iI (ivS (St_p σ) (tmV (St_p σ) (St_n σ (St_ea σ a)) (St_sg σ (St_ea σ a)) (St_ev σ b) (cjV (St_p σ) (St_kd σ (St_ea σ a)) (St_ev σ b)) 0)))]) (rest := [.int (iI ((a : Nat) : Int)), .ref (μ (0, 0, 0))]) hC hml hl.1 (m_X6_scaled hE H21 (hO.ext (zS_F hS) hMo) μ σ 0 (St_ea σ a) qr11 (cjV (St_p σ) (St_kd σ (St_ea σ a)) (St_ev σ b)) (ivS (St_p σ) (tmV (St_p σ) (St_n σ (St_ea σ a)) (St_sg σ (St_ea σ a)) (St_ev σ b) (cjV (St_p σ) (St_kd σ (St_ea σ a)) (St_ev σ b)) 0)) hH1 hea (hP 0 _ rfl) (cjV_ok hp _ _ _) (by omega)) (lw_V q1694 q1695 q1696 q82 q1697) rfl nd_X6_scaled rfl (z_rv hC (ci := 5) rfl hUSt_eaσa.1 rfl) rfl (Nat.le_of_ble_eq_true rfl) ⟨Nat.le_of_ble_eq_true rfl, Nat.le_of_ble_eq_true rfl⟩ ⟨zfit (k := 1) (z := 3) rfl rfl (by omega), zfit (k := 16) (z := 48) rfl rfl (by omega)⟩ dX3_invert_109) ⟨zad (k := 1) rfl (by omega), zad (k := 16) rfl (by omega)⟩ hS (fun _ z => z.elim) (fun r H23 locs hp hF hS1 => ?_)
            obtain ⟨qr22, rfl, hN⟩ := hp
            obtain ⟨hP, hD⟩ := zjn hP hD hS.1 hF hN
            have hP : va_P G.1 zCl ([(qr11, zI G (St_n σ (St_ea σ a)) (cjV (St_p σ) (St_kd σ (St_ea σ a)) (St_ev σ b))), (qr15, zI G (St_n σ (St_ea σ a)) (tmV (St_p σ) (St_n σ (St_ea σ a)) (St_sg σ (St_ea σ a)) (St_ev σ b) (cjV (St_p σ) (St_kd σ (St_ea σ a)) (St_ev σ b)))), (qr22, zI G (St_n σ (St_ea σ a)) (inV (St_p σ) (St_n σ (St_ea σ a)) (St_kd σ (St_ea σ a)) (St_sg σ (St_ea σ a)) (St_ev σ b)))]) H23 := hP
            have hD : va_D (zA (FM G μ σ) H0) ([(qr11, zI G (St_n σ (St_ea σ a)) (cjV (St_p σ) (St_kd σ (St_ea σ a)) (St_ev σ b))), (qr15, zI G (St_n σ (St_ea σ a)) (tmV (St_p σ) (St_n σ (St_ea σ a)) (St_sg σ (St_ea σ a)) (St_ev σ b) (cjV (St_p σ) (St_kd σ (St_ea σ a)) (St_ev σ b)))), (qr22, zI G (St_n σ (St_ea σ a)) (inV (St_p σ) (St_n σ (St_ea σ a)) (St_kd σ (St_ea σ a)) (St_sg σ (St_ea σ a)) (St_ev σ b)))]) := hD
            have hH1 : HM G s0 μ σ 0 H23 := hH1.ext0 hE hF
            have hS := hS1
            have hNwqr22 : H0.size ≤ qr22 := Nat.le_trans hsz9 (hN.2.2 0 _ rfl)
            have hHb := hH1
            have hRb := hP 2 _ rfl
            refine z_go 3 48 (z_runV (As := [.int (iI ((a : Nat) : Int)), .ref qr22]) (rest := []) hC hml hl.1 (m_X3_put hE H23 (hO.ext (zS_F hS) hMo) μ σ 0 a qr22 (inV (St_p σ) (St_n σ (St_ea σ a)) (St_kd σ (St_ea σ a)) (St_sg σ (St_ea σ a)) (St_ev σ b)) hHb (by omega) hRb (scV_ok hp _ _ _)) (lw_V q1671 q1673 qs39 q67 q1674) rfl nd_X3_put rfl (z_rv hC (ci := 2) rfl hHb.2.2.1.1 rfl) rfl (Nat.le_of_ble_eq_true rfl) ⟨Nat.le_of_ble_eq_true rfl, Nat.le_of_ble_eq_true rfl⟩ ⟨zfit (k := 0) (z := 3) rfl rfl (by omega), zfit (k := 0) (z := 48) rfl rfl (by omega)⟩ dX3_invert_112) ⟨zad (k := 0) rfl (by omega), zad (k := 0) rfl (by omega)⟩ hS (fun z hz => Or.inl (hz ▸ FM.in hE hh.sep (domME 13 a (Or.inl rfl) (by omega)) (by simp [rAm]))) (fun r H24 locs hp hF hS1 => ?_)
            obtain ⟨_, rfl, rfl, hm9⟩ := hp
            have hP : va_P G.1 zCl [] H24 := va_nil
            have hD : va_D (zA (FM G μ σ) H0) [] := va_nilD
            have hP : va_P G.1 zCl ([]) H24 := hP
            have hD : va_D (zA (FM G μ σ) H0) ([]) := hD
            have hS := hS1
            have hPo : PoM G s0 H0 μ σ (stEl σ a (inV (St_p σ) (St_n σ (St_ea σ a)) (St_kd σ (St_ea σ a)) (St_sg σ (St_ea σ a)) (St_ev σ b))) 0 H24 := HM.put hE hO hh hHb (by omega) hF hm9 (zAt.ext hRb hF (Ne.symm (z_noArr hE (ci := 7) (t := 0) rfl (hHb.el (j := a) (by omega)).1 rfl hRb))) hNwqr22 (scV_ok hp _ _ _)
            exact z_iret hC hrt hlk hQ hS ⟨zle (z := 3) rfl (by omega), zle (z := 48) rfl (by omega)⟩ ⟨_, rfl, 0, stEl σ a (inV (St_p σ) (St_n σ (St_ea σ a)) (St_kd σ (St_ea σ a)) (St_sg σ (St_ea σ a)) (St_ev σ b)), hPo, Or.inl ⟨rfl, ⟨a, b, ⟨by omega, by omega⟩, ⟨by omega, by omega⟩, hone, ⟨hpl, hzf⟩, rfl, rfl⟩⟩⟩ dX3_invert_115
          · refine lv_aload_n hx hb dX3_invert_87 rfl (lv_at hl 2 rfl) ?_
            refine lv_iconst (v := iI 3) hx hb dX3_invert_88 rfl ?_
            have hHb := hH1
            refine z_go 2 32 (z_runV (As := [.int (iI 3)]) (rest := []) hC hml hl.1 (m_X3_no hE H17 (hO.ext (zS_F hS) hMo) μ σ 0 3 hHb) (lw_V q1520 q1522 qs29 q67 q1523) rfl nd_X3_no rfl (z_rv hC (ci := 2) rfl hHb.2.2.1.1 rfl) rfl (Nat.le_of_ble_eq_true rfl) ⟨Nat.le_of_ble_eq_true rfl, Nat.le_of_ble_eq_true rfl⟩ ⟨zfit (k := 0) (z := 3) rfl rfl (by omega), zfit (k := 0) (z := 48) rfl rfl (by omega)⟩ dX3_invert_89) ⟨zad (k := 0) rfl (by omega), zad (k := 0) rfl (by omega)⟩ hS (fun z hz => Or.inl (hz ▸ FM.in hE hh.sep (domM0 0 (by omega)) (by simp [rAm]))) (fun r H25 locs hp hF hS1 => ?_)
            obtain ⟨_, rfl, rfl, hx9⟩ := hp
            have hP : va_P G.1 zCl [] H25 := va_nil
            have hD : va_D (zA (FM G μ σ) H0) [] := va_nilD
            have hP : va_P G.1 zCl ([]) H25 := hP
            have hD : va_D (zA (FM G μ σ) H0) ([]) := hD
            have hS := hS1
            have hH9 : HM G s0 μ σ ((3 : Nat) : Int) H25 := HM.thr hE hHb hF hx9
            exact z_iret hC hrt hlk hQ hS ⟨zle (z := 3) rfl (by omega), zle (z := 48) rfl (by omega)⟩ ⟨_, rfl, 3, σ, PoM.same hH9, Or.inr ⟨by decide, rfl, by decide, Or.inr ⟨rfl, inE_n (by omega), inE_n (by omega), hone, fun z9 => by have z9 : inOk (St_p σ) (St_n σ (St_ea σ b)) (St_kd σ (St_ea σ b)) (St_sg σ (St_ea σ b)) (St_ev σ b) := z9; rw [← hone] at z9; have h0 := z9.2; have h1 := z9.1; exact inv_no h1 h0 (by omega)⟩⟩⟩ dX3_invert_92
      · refine lv_aload_n hx hb dX3_invert_36 rfl (lv_at hl 0 rfl) ?_
        refine lv_iconst (v := iI 2) hx hb dX3_invert_37 rfl ?_
        have hHb := hH1
        refine z_go 0 0 (z_runV (As := [.int (iI 2)]) (rest := []) hC hml hl.1 (m_X3_no hE H7 (hO.ext (zS_F hS) hMo) μ σ 0 2 hHb) (lw_V q1520 q1522 qs29 q67 q1523) rfl nd_X3_no rfl (z_rv hC (ci := 2) rfl hHb.2.2.1.1 rfl) rfl (Nat.le_of_ble_eq_true rfl) ⟨Nat.le_of_ble_eq_true rfl, Nat.le_of_ble_eq_true rfl⟩ ⟨zfit (k := 0) (z := 3) rfl rfl (by omega), zfit (k := 0) (z := 48) rfl rfl (by omega)⟩ dX3_invert_38) ⟨zad (k := 0) rfl (by omega), zad (k := 0) rfl (by omega)⟩ hS (fun z hz => Or.inl (hz ▸ FM.in hE hh.sep (domM0 0 (by omega)) (by simp [rAm]))) (fun r H26 locs hp hF hS1 => ?_)
        obtain ⟨_, rfl, rfl, hx9⟩ := hp
        have hP : va_P G.1 zCl [] H26 := va_nil
        have hD : va_D (zA (FM G μ σ) H0) [] := va_nilD
        have hP : va_P G.1 zCl ([]) H26 := hP
        have hD : va_D (zA (FM G μ σ) H0) ([]) := hD
        have hS := hS1
        have hH9 : HM G s0 μ σ ((2 : Nat) : Int) H26 := HM.thr hE hHb hF hx9
        exact z_iret hC hrt hlk hQ hS ⟨zle (z := 3) rfl (by omega), zle (z := 48) rfl (by omega)⟩ ⟨_, rfl, 2, σ, PoM.same hH9, Or.inr ⟨by decide, rfl, by decide, Or.inl (Or.inr ⟨rfl, inE_n (by omega), inE_n (by omega), fun z9 => by have h9 := hfl2.2.mpr z9.1; omega⟩)⟩⟩ dX3_invert_41
    · refine lv_aload_n hx hb dX3_invert_21 rfl (lv_at hl 0 rfl) ?_
      refine lv_iconst (v := iI 1) hx hb dX3_invert_22 rfl ?_
      have hHb := hH1
      refine z_go 0 0 (z_runV (As := [.int (iI 1)]) (rest := []) hC hml hl.1 (m_X3_no hE H5 (hO.ext (zS_F hS) hMo) μ σ 0 1 hHb) (lw_V q1520 q1522 qs29 q67 q1523) rfl nd_X3_no rfl (z_rv hC (ci := 2) rfl hHb.2.2.1.1 rfl) rfl (Nat.le_of_ble_eq_true rfl) ⟨Nat.le_of_ble_eq_true rfl, Nat.le_of_ble_eq_true rfl⟩ ⟨zfit (k := 0) (z := 3) rfl rfl (by omega), zfit (k := 0) (z := 48) rfl rfl (by omega)⟩ dX3_invert_23) ⟨zad (k := 0) rfl (by omega), zad (k := 0) rfl (by omega)⟩ hS (fun z hz => Or.inl (hz ▸ FM.in hE hh.sep (domM0 0 (by omega)) (by simp [rAm]))) (fun r H27 locs hp hF hS1 => ?_)
      obtain ⟨_, rfl, rfl, hx9⟩ := hp
      have hP : va_P G.1 zCl [] H27 := va_nil
      have hD : va_D (zA (FM G μ σ) H0) [] := va_nilD
      have hP : va_P G.1 zCl ([]) H27 := hP
      have hD : va_D (zA (FM G μ σ) H0) ([]) := hD
      have hS := hS1
      have hH9 : HM G s0 μ σ ((1 : Nat) : Int) H27 := HM.thr hE hHb hF hx9
      exact z_iret hC hrt hlk hQ hS ⟨zle (z := 3) rfl (by omega), zle (z := 48) rfl (by omega)⟩ ⟨_, rfl, 1, σ, PoM.same hH9, Or.inr ⟨by decide, rfl, by decide, Or.inl (Or.inl ⟨rfl, fun z9 => by have h9 := hfl2.2.mpr (z9.2); omega⟩)⟩⟩ dX3_invert_26

