/-! THE MODEL: the poise and the texts -/
set_option maxRecDepth 100000
abbrev rm_m_J10_abs_2 : Room := { frames := 0, cells := 0, slots := 0, locals := 0 }
set_option maxHeartbeats 4000000 in
theorem m_J10_abs_2 {l : Launch} {s0 : State} {G : zG} (hE : zE l s0 G) (H0 : Heap) (hO : zO s0 H0) (z : Int) (h : -1000 ≤ z ∧ z ≤ 1000) : zM l s0 yJ10_abs_2 cJ10_abs_2 1 (some FieldType.int) rm_m_J10_abs_2 [.int (iI z)] H0 M0 (ri (fun y _ => y = (z.natAbs : Nat))) := by
  refine z_met hE (by decide +kernel) (Nat.le_of_ble_eq_true rfl) ?_
  intro pp ee ss mm args below meth cd Q ls hC hml hrt hlk hnm hH hQ hS hl
  have hx := hC.x
  have hb := hC.b
  have hl : lv_has ls 1 [(0, .int (iI z))] := hl
  have hP : va_P G.1 zCl [] H0 := va_nil
  have hD : va_D (zA M0 H0) [] := va_nilD
  refine lv_iload_n hx hb dJ10_abs_2_0 rfl (lv_at hl 0 rfl) ?_
  refine z_zge (tgt := 9) hx hb dJ10_abs_2_1 (by decide) (by omega) (fun c1 => ?_) (fun c1 => ?_)
  · refine lv_iload_n hx hb dJ10_abs_2_9 rfl (lv_at hl 0 rfl) ?_
    exact z_iret hC hrt hlk hQ hS ⟨zle (z := 0) rfl (by omega), zle (z := 0) rfl (by omega)⟩ ⟨_, rfl, by omega⟩ dJ10_abs_2_10
  · refine lv_iload_n hx hb dJ10_abs_2_4 rfl (lv_at hl 0 rfl) ?_
    refine z_neg hx hb (z := -z) dJ10_abs_2_5 rfl ?_
    refine lv_goto (tgt := 10) hx hb dJ10_abs_2_6 (by decide) ?_
    exact z_iret hC hrt hlk hQ hS ⟨zle (z := 0) rfl (by omega), zle (z := 0) rfl (by omega)⟩ ⟨_, rfl, by omega⟩ dJ10_abs_2_10

abbrev rm_m_X3_poise : Room := { frames := 6, cells := 0, slots := 0, locals := 130 }
set_option maxHeartbeats 4000000 in
theorem m_X3_poise {l : Launch} {s0 : State} {G : zG} (hE : zE l s0 G) (H0 : Heap) (hO : zO s0 H0) (μ : Ro → Nat) (σ : St) (th : Int) (hh : HM G s0 μ σ th H0) : zM l s0 yX3_poise cX3_poise 6 (some FieldType.double) rm_m_X3_poise [.ref (μ (0, 0, 0))] H0 (FM G μ σ) (rd (fun y h1 => y = poD σ ∧ PoM G s0 H0 μ σ σ 0 h1)) := by
  refine z_met hE (by decide +kernel) (Nat.le_of_ble_eq_true rfl) ?_
  intro pp ee ss mm args below meth cd Q ls hC hml hrt hlk hnm hH hQ hS hl
  have hx := hC.x
  have hb := hC.b
  have hl : lv_has ls 6 [(0, .ref (μ (0, 0, 0)))] := hl
  have hP : va_P G.1 zCl [] H0 := va_nil
  have hD : va_D (zA (FM G μ σ) H0) [] := va_nilD
  have hMo : ∀ z, (FM G μ σ) z → s0.heap.size ≤ z := fun z hz => FM.ge hh.sep hz
  have hH1 := hh
  obtain ⟨hp, hna, hal, hne9, hel9, hmr9⟩ := id hh.ok
  have hp7 : 0 < St_p σ ∧ St_p σ ≤ 7 := by rcases hp with h | h | h <;> rw [h] <;> decide
  have hP : va_P G.1 zCl [((μ (0, 0, 0)), zOb 2 [.int (iI th), .int (iI (St_p σ)), .int (iI ((St_kn σ : Nat) : Int)), .ref (μ (1, 0, 0)), .ref (μ (3, 0, 0))])] H0 := zP1 hh.2.2.1.1
  have hD : va_D (zA (FM G μ σ) H0) [((μ (0, 0, 0)), zOb 2 [.int (iI th), .int (iI (St_p σ)), .int (iI ((St_kn σ : Nat) : Int)), .ref (μ (1, 0, 0)), .ref (μ (3, 0, 0))])] := zD1 (Or.inl (FM.in hE hh.sep (domM0 0 (by omega)) (by simp [rAm])))
  refine lv_aload_n hx hb dX3_poise_0 rfl (lv_at hl 0 rfl) ?_
  refine lv_iconst (v := iI 0) hx hb dX3_poise_1 rfl ?_
  refine z_putO hC hP hD hS 0 (k := 0) rfl rfl in_X3 tyX3_ok nmX3 (by decide) q1495 (fun _ h => h) rfl rfl rfl rfl (Nat.le_of_ble_eq_true rfl) (ws' := [((μ (0, 0, 0)), zOb 2 [.int (iI 0), .int (iI (St_p σ)), .int (iI ((St_kn σ : Nat) : Int)), .ref (μ (1, 0, 0)), .ref (μ (3, 0, 0))])]) rfl dX3_poise_2 (fun H1 locs hP hD hS hZ1 hZ2 => ?_)
  have hH1 : HM G s0 μ σ 0 H1 := HM.thr hE hH1 (zF.one hZ1 hZ2) (hP 0 _ rfl)
  have hP : va_P G.1 zCl [] H1 := va_nil
  have hD : va_D (zA (FM G μ σ) H0) [] := va_nilD
  have hls := leS_in hne9
  have hxx := hH1.2.2.1.1
  refine lv_aload_n hx hb dX3_poise_5 rfl (lv_at hl 0 rfl) ?_
  refine z_get hC (k := 4) rfl in_X3 hxx (by decide) q1500 (fun _ h => h) rfl dX3_poise_6 ?_
  obtain ⟨mde, hLe⟩ := id hH1.2.2.1.2.2
  refine z_go5 0 0 (z_runF (n := 0) (As := []) (rest := []) (ci := 8) hC hml hl.1 (m_J2_size hE H1 (hO.ext (zS_F hS) hMo) (μ (3, 0, 0)) (St_ne σ) (fun j => μ (13, j, 0)) (μ (4, 0, 0)) mde hLe) q232 q1525 q1529 q230 q65 q1527 q1526 q1531 q1530 q1528 ⟨by decide +kernel, by decide +kernel, by decide +kernel⟩ rfl rfl rfl (z_rv hC (ci := 8) rfl hLe.1 rfl) rfl (Nat.le_of_ble_eq_true rfl) ⟨Nat.le_of_ble_eq_true rfl, Nat.le_of_ble_eq_true rfl⟩ ⟨zfit (k := 0) (z := 0) rfl rfl (by omega), zfit (k := 0) (z := 0) rfl rfl (by omega)⟩ dX3_poise_9) ⟨zad (k := 0) rfl (by omega), zad (k := 0) rfl (by omega)⟩ hS (fun _ z => z.elim) (fun r H2 locs hp hF hS1 => ?_)
  obtain ⟨_, rfl, rfl⟩ := hp
  have hP := zpk hP hF
  have hP : va_P G.1 zCl ([]) H2 := hP
  have hD : va_D (zA (FM G μ σ) H0) ([]) := hD
  have hH1 : HM G s0 μ σ 0 H2 := hH1.ext0 hE hF
  have hS := hS1
  refine z_zne (tgt := 19) hx hb dX3_poise_14 (by decide) (by omega) (fun c3 => ?_) (fun c3 => ?_)
  · have hxx := hH1.2.2.1.1
    refine lv_iconst (v := iI 4) hx hb dX3_poise_19 rfl ?_
    refine lv_aload_n hx hb dX3_poise_20 rfl (lv_at hl 0 rfl) ?_
    refine z_get hC (k := 4) rfl in_X3 hxx (by decide) q1500 (fun _ h => h) rfl dX3_poise_21 ?_
    obtain ⟨mde, hLe⟩ := id hH1.2.2.1.2.2
    refine z_go5 0 0 (z_runF (n := 0) (As := []) (rest := [.int (iI 4)]) (ci := 8) hC hml hl.1 (m_J2_size hE H2 (hO.ext (zS_F hS) hMo) (μ (3, 0, 0)) (St_ne σ) (fun j => μ (13, j, 0)) (μ (4, 0, 0)) mde hLe) q232 q1525 q1529 q230 q65 q1527 q1526 q1531 q1530 q1528 ⟨by decide +kernel, by decide +kernel, by decide +kernel⟩ rfl rfl rfl (z_rv hC (ci := 8) rfl hLe.1 rfl) rfl (Nat.le_of_ble_eq_true rfl) ⟨Nat.le_of_ble_eq_true rfl, Nat.le_of_ble_eq_true rfl⟩ ⟨zfit (k := 0) (z := 0) rfl rfl (by omega), zfit (k := 0) (z := 0) rfl rfl (by omega)⟩ dX3_poise_24) ⟨zad (k := 0) rfl (by omega), zad (k := 0) rfl (by omega)⟩ hS (fun _ z => z.elim) (fun r H4 locs hp hF hS1 => ?_)
    obtain ⟨_, rfl, rfl⟩ := hp
    have hP := zpk hP hF
    have hP : va_P G.1 zCl ([]) H4 := hP
    have hD : va_D (zA (FM G μ σ) H0) ([]) := hD
    have hH1 : HM G s0 μ σ 0 H4 := hH1.ext0 hE hF
    have hS := hS1
    refine z_mul hx hb (z := 4 * ((St_ne σ : Nat) : Int)) dX3_poise_29 rfl ?_
    refine z_top (b := ((4 * St_ne σ : Nat) : Int)) (by omega) ?_
    refine lv_istore_n (lv' := [(1, .int (iI ((4 * St_ne σ : Nat) : Int))), (0, .ref (μ (0, 0, 0)))]) hx hb dX3_poise_30 rfl hl (by decide) rfl (fun ls hl => ?_)
    refine lv_aload_n hx hb dX3_poise_31 rfl (lv_at hl 1 rfl) ?_
    refine z_go 0 0 (z_runV (As := []) (rest := []) hC hml hl.1 (m_X3_allQuarters hE H4 (hO.ext (zS_F hS) hMo) μ σ 0  hH1 ) (lw_V q1887 q1889 qs55 q67 q1890) rfl nd_X3_allQuarters rfl (z_rv hC (ci := 2) rfl hH1.2.2.1.1 rfl) rfl (Nat.le_of_ble_eq_true rfl) ⟨Nat.le_of_ble_eq_true rfl, Nat.le_of_ble_eq_true rfl⟩ ⟨zfit (k := 0) (z := 0) rfl rfl (by omega), zfit (k := 0) (z := 0) rfl rfl (by omega)⟩ dX3_poise_32) ⟨zad (k := 0) rfl (by omega), zad (k := 0) rfl (by omega)⟩ hS (fun _ z => z.elim) (fun r H5 locs hp hF hS1 => ?_)
    obtain ⟨_, rfl, rfl⟩ := hp
    have hP := zpk hP hF
    have hP : va_P G.1 zCl ([]) H5 := hP
    have hD : va_D (zA (FM G μ σ) H0) ([]) := hD
    have hH1 : HM G s0 μ σ 0 H5 := hH1.ext0 hE hF
    have hS := hS1
    refine lv_istore_n (lv' := [(2, .int (iI (leS σ))), (1, .int (iI ((4 * St_ne σ : Nat) : Int))), (0, .ref (μ (0, 0, 0)))]) hx hb dX3_poise_35 rfl hl (by decide) rfl (fun ls hl => ?_)
    refine lv_iload_n hx hb dX3_poise_36 rfl (lv_at hl 0 rfl) ?_
    refine z_go 0 0 (z_runS (As := [.int (iI (leS σ))]) (rest := []) hC hml hl.1 (m_J10_abs_2 hE H5 (hO.ext (zS_F hS) hMo) (leS σ) (by omega)) (lw_S q1891 q1892 q78 q1893) nd_J10_abs_2 rfl rfl (Nat.le_of_ble_eq_true rfl) ⟨Nat.le_of_ble_eq_true rfl, Nat.le_of_ble_eq_true rfl⟩ ⟨zfit (k := 0) (z := 0) rfl rfl (by omega), zfit (k := 0) (z := 0) rfl rfl (by omega)⟩ dX3_poise_37) ⟨zad (k := 0) rfl (by omega), zad (k := 0) rfl (by omega)⟩ hS (fun _ z => z.elim) (fun r H6 locs hp hF hS1 => ?_)
    obtain ⟨_, rfl, rfl⟩ := hp
    have hP := zpk hP hF
    have hP : va_P G.1 zCl ([]) H6 := hP
    have hD : va_D (zA (FM G μ σ) H0) ([]) := hD
    have hH1 : HM G s0 μ σ 0 H6 := hH1.ext0 hE hF
    have hS := hS1
    have hna : (leS σ).natAbs ≤ 310 := by omega
    obtain ⟨zn, hzn⟩ : ∃ zn : Nat, zn = (leS σ).natAbs := ⟨_, rfl⟩
    obtain ⟨ov, hov⟩ : ∃ ov : Nat, ov = 4 * St_ne σ := ⟨_, rfl⟩
    rw [← hzn] at hna
    refine z_top (b := ((zn : Nat) : Int)) (by rw [hzn]) ?_
    rw [← hov] at hl
    have hdv := Nat.div_le_self zn ov
    have hmd : zn % ov < ov := Nat.mod_lt _ (by omega)
    have hdv0 : 0 ≤ ((zn / ov : Nat) : Int) := Int.natCast_nonneg _
    have hmd0 : 0 ≤ ((zn % ov : Nat) : Int) := Int.natCast_nonneg _
    refine lv_istore_n (lv' := [(3, .int (iI ((zn : Nat) : Int))), (2, .int (iI (leS σ))), (1, .int (iI ((ov : Nat) : Int))), (0, .ref (μ (0, 0, 0)))]) hx hb dX3_poise_40 rfl hl (by decide) rfl (fun ls hl => ?_)
    refine lv_iload_n hx hb dX3_poise_41 rfl (lv_at hl 0 rfl) ?_
    refine lv_iload_n hx hb dX3_poise_42 rfl (lv_at hl 2 rfl) ?_
    refine z_div hx hb (z := Int.tdiv ((zn : Nat) : Int) ((ov : Nat) : Int)) dX3_poise_43 (by omega) rfl ?_
    refine z_top (b := ((zn / ov : Nat) : Int)) (by rw [Int.tdiv_eq_ediv_of_nonneg (by omega)]; exact (Int.natCast_ediv _ _).symm) ?_
    refine lv_istore (lv' := [(4, .int (iI ((zn / ov : Nat) : Int))), (3, .int (iI ((zn : Nat) : Int))), (2, .int (iI (leS σ))), (1, .int (iI ((ov : Nat) : Int))), (0, .ref (μ (0, 0, 0)))]) hx hb dX3_poise_44 hl (by decide) rfl (fun ls hl => ?_)
    refine lv_iconst (v := iI 2) hx hb dX3_poise_46 rfl ?_
    refine lv_iload_n hx hb dX3_poise_47 rfl (lv_at hl 1 rfl) ?_
    refine lv_iload_n hx hb dX3_poise_48 rfl (lv_at hl 3 rfl) ?_
    refine z_rem hx hb (z := Int.tmod ((zn : Nat) : Int) ((ov : Nat) : Int)) dX3_poise_49 (by omega) rfl ?_
    refine z_top (b := ((zn % ov : Nat) : Int)) (by rw [Int.tmod_eq_emod_of_nonneg (by omega)]; exact (Int.natCast_emod _ _).symm) ?_
    refine z_mul hx hb (z := 2 * ((zn % ov : Nat) : Int)) dX3_poise_50 rfl ?_
    refine z_top (b := ((2 * (zn % ov) : Nat) : Int)) (by omega) ?_
    refine lv_istore (lv' := [(5, .int (iI ((2 * (zn % ov) : Nat) : Int))), (4, .int (iI ((zn / ov : Nat) : Int))), (3, .int (iI ((zn : Nat) : Int))), (2, .int (iI (leS σ))), (1, .int (iI ((ov : Nat) : Int))), (0, .ref (μ (0, 0, 0)))]) hx hb dX3_poise_51 hl (by decide) rfl (fun ls hl => ?_)
    refine lv_iload hx hb dX3_poise_53 (lv_at hl 0 rfl) ?_
    refine lv_iload_n hx hb dX3_poise_55 rfl (lv_at hl 4 rfl) ?_
    refine z_cgt (tgt := 73) hx hb dX3_poise_56 (by decide) (by omega) (fun c7 => ?_) (fun c7 => ?_)
    · refine z_iinc (z := ((zn / ov + 1 : Nat) : Int)) (lv' := [(4, .int (iI ((zn / ov + 1 : Nat) : Int))), (5, .int (iI ((2 * (zn % ov) : Nat) : Int))), (3, .int (iI ((zn : Nat) : Int))), (2, .int (iI (leS σ))), (1, .int (iI ((ov : Nat) : Int))), (0, .ref (μ (0, 0, 0)))]) hx hb dX3_poise_73 hl (k := 1) rfl (by omega) (by decide) rfl (fun ls hl => ?_)
      have hpw : poW (leS σ) (St_ne σ) = zn / ov + 1 := by unfold poW; rw [← hzn, ← hov, if_pos (by omega)]
      refine lv_iload_n hx hb dX3_poise_76 rfl (lv_at hl 3 rfl) ?_
      refine z_zge (tgt := 88) hx hb dX3_poise_77 (by decide) (by omega) (fun c8 => ?_) (fun c8 => ?_)
      · refine lv_iload hx hb dX3_poise_88 (lv_at hl 0 rfl) ?_
        refine z_top (b := poV (leS σ) (St_ne σ)) (by unfold poV; rw [if_neg (by omega), hpw]) ?_
        refine lv_i2d hx hb dX3_poise_90 ?_
        exact z_dret hC hrt hlk hQ hS ⟨zle (z := 0) rfl (by omega), zle (z := 0) rfl (by omega)⟩ ⟨_, rfl, by unfold poD; rw [if_neg (by omega)], PoM.same hH1⟩ dX3_poise_91
      · refine lv_iconst (v := iI 0) hx hb dX3_poise_80 rfl ?_
        refine lv_iload hx hb dX3_poise_81 (lv_at hl 0 rfl) ?_
        refine z_sub hx hb (z := 0 - ((zn / ov + 1 : Nat) : Int)) dX3_poise_83 rfl ?_
        refine z_top (b := poV (leS σ) (St_ne σ)) (by unfold poV; rw [if_pos (by omega), hpw]) ?_
        refine lv_i2d hx hb dX3_poise_84 ?_
        refine lv_goto (tgt := 91) hx hb dX3_poise_85 (by decide) ?_
        exact z_dret hC hrt hlk hQ hS ⟨zle (z := 0) rfl (by omega), zle (z := 0) rfl (by omega)⟩ ⟨_, rfl, by unfold poD; rw [if_neg (by omega)], PoM.same hH1⟩ dX3_poise_91
    · refine lv_iload hx hb dX3_poise_59 (lv_at hl 0 rfl) ?_
      refine lv_iload_n hx hb dX3_poise_61 rfl (lv_at hl 4 rfl) ?_
      refine z_cne (tgt := 76) hx hb dX3_poise_62 (by decide) (by omega) (fun c9 => ?_) (fun c9 => ?_)
      · have hpw : poW (leS σ) (St_ne σ) = zn / ov := by unfold poW; rw [← hzn, ← hov, if_neg (by omega)]; rfl
        refine lv_iload_n hx hb dX3_poise_76 rfl (lv_at hl 3 rfl) ?_
        refine z_zge (tgt := 88) hx hb dX3_poise_77 (by decide) (by omega) (fun c10 => ?_) (fun c10 => ?_)
        · refine lv_iload hx hb dX3_poise_88 (lv_at hl 1 rfl) ?_
          refine z_top (b := poV (leS σ) (St_ne σ)) (by unfold poV; rw [if_neg (by omega), hpw]) ?_
          refine lv_i2d hx hb dX3_poise_90 ?_
          exact z_dret hC hrt hlk hQ hS ⟨zle (z := 0) rfl (by omega), zle (z := 0) rfl (by omega)⟩ ⟨_, rfl, by unfold poD; rw [if_neg (by omega)], PoM.same hH1⟩ dX3_poise_91
        · refine lv_iconst (v := iI 0) hx hb dX3_poise_80 rfl ?_
          refine lv_iload hx hb dX3_poise_81 (lv_at hl 1 rfl) ?_
          refine z_sub hx hb (z := 0 - ((zn / ov : Nat) : Int)) dX3_poise_83 rfl ?_
          refine z_top (b := poV (leS σ) (St_ne σ)) (by unfold poV; rw [if_pos (by omega), hpw]) ?_
          refine lv_i2d hx hb dX3_poise_84 ?_
          refine lv_goto (tgt := 91) hx hb dX3_poise_85 (by decide) ?_
          exact z_dret hC hrt hlk hQ hS ⟨zle (z := 0) rfl (by omega), zle (z := 0) rfl (by omega)⟩ ⟨_, rfl, by unfold poD; rw [if_neg (by omega)], PoM.same hH1⟩ dX3_poise_91
      · refine lv_iload hx hb dX3_poise_65 (lv_at hl 1 rfl) ?_
        refine lv_iconst (v := iI 2) hx hb dX3_poise_67 rfl ?_
        refine z_rem hx hb (z := Int.tmod ((zn / ov : Nat) : Int) 2) dX3_poise_68 (by omega) rfl ?_
        refine z_top (b := ((zn / ov % 2 : Nat) : Int)) (by rw [Int.tmod_eq_emod_of_nonneg (by omega)]; omega) ?_
        refine lv_iconst (v := iI 1) hx hb dX3_poise_69 rfl ?_
        refine z_cne (tgt := 76) hx hb dX3_poise_70 (by decide) (by omega) (fun c11 => ?_) (fun c11 => ?_)
        · have hpw : poW (leS σ) (St_ne σ) = zn / ov := by unfold poW; rw [← hzn, ← hov, if_neg (by omega)]; rfl
          refine lv_iload_n hx hb dX3_poise_76 rfl (lv_at hl 3 rfl) ?_
          refine z_zge (tgt := 88) hx hb dX3_poise_77 (by decide) (by omega) (fun c12 => ?_) (fun c12 => ?_)
          · refine lv_iload hx hb dX3_poise_88 (lv_at hl 1 rfl) ?_
            refine z_top (b := poV (leS σ) (St_ne σ)) (by unfold poV; rw [if_neg (by omega), hpw]) ?_
            refine lv_i2d hx hb dX3_poise_90 ?_
            exact z_dret hC hrt hlk hQ hS ⟨zle (z := 0) rfl (by omega), zle (z := 0) rfl (by omega)⟩ ⟨_, rfl, by unfold poD; rw [if_neg (by omega)], PoM.same hH1⟩ dX3_poise_91
          · refine lv_iconst (v := iI 0) hx hb dX3_poise_80 rfl ?_
            refine lv_iload hx hb dX3_poise_81 (lv_at hl 1 rfl) ?_
            refine z_sub hx hb (z := 0 - ((zn / ov : Nat) : Int)) dX3_poise_83 rfl ?_
            refine z_top (b := poV (leS σ) (St_ne σ)) (by unfold poV; rw [if_pos (by omega), hpw]) ?_
            refine lv_i2d hx hb dX3_poise_84 ?_
            refine lv_goto (tgt := 91) hx hb dX3_poise_85 (by decide) ?_
            exact z_dret hC hrt hlk hQ hS ⟨zle (z := 0) rfl (by omega), zle (z := 0) rfl (by omega)⟩ ⟨_, rfl, by unfold poD; rw [if_neg (by omega)], PoM.same hH1⟩ dX3_poise_91
        · refine z_iinc (z := ((zn / ov + 1 : Nat) : Int)) (lv' := [(4, .int (iI ((zn / ov + 1 : Nat) : Int))), (5, .int (iI ((2 * (zn % ov) : Nat) : Int))), (3, .int (iI ((zn : Nat) : Int))), (2, .int (iI (leS σ))), (1, .int (iI ((ov : Nat) : Int))), (0, .ref (μ (0, 0, 0)))]) hx hb dX3_poise_73 hl (k := 1) rfl (by omega) (by decide) rfl (fun ls hl => ?_)
          have hpw : poW (leS σ) (St_ne σ) = zn / ov + 1 := by unfold poW; rw [← hzn, ← hov, if_pos (by omega)]
          refine lv_iload_n hx hb dX3_poise_76 rfl (lv_at hl 3 rfl) ?_
          refine z_zge (tgt := 88) hx hb dX3_poise_77 (by decide) (by omega) (fun c13 => ?_) (fun c13 => ?_)
          · refine lv_iload hx hb dX3_poise_88 (lv_at hl 0 rfl) ?_
            refine z_top (b := poV (leS σ) (St_ne σ)) (by unfold poV; rw [if_neg (by omega), hpw]) ?_
            refine lv_i2d hx hb dX3_poise_90 ?_
            exact z_dret hC hrt hlk hQ hS ⟨zle (z := 0) rfl (by omega), zle (z := 0) rfl (by omega)⟩ ⟨_, rfl, by unfold poD; rw [if_neg (by omega)], PoM.same hH1⟩ dX3_poise_91
          · refine lv_iconst (v := iI 0) hx hb dX3_poise_80 rfl ?_
            refine lv_iload hx hb dX3_poise_81 (lv_at hl 0 rfl) ?_
            refine z_sub hx hb (z := 0 - ((zn / ov + 1 : Nat) : Int)) dX3_poise_83 rfl ?_
            refine z_top (b := poV (leS σ) (St_ne σ)) (by unfold poV; rw [if_pos (by omega), hpw]) ?_
            refine lv_i2d hx hb dX3_poise_84 ?_
            refine lv_goto (tgt := 91) hx hb dX3_poise_85 (by decide) ?_
            exact z_dret hC hrt hlk hQ hS ⟨zle (z := 0) rfl (by omega), zle (z := 0) rfl (by omega)⟩ ⟨_, rfl, by unfold poD; rw [if_neg (by omega)], PoM.same hH1⟩ dX3_poise_91
  · refine lv_dconst0 hx hb dX3_poise_17 ?_
    exact z_dret hC hrt hlk hQ hS ⟨zle (z := 0) rfl (by omega), zle (z := 0) rfl (by omega)⟩ ⟨_, rfl, by unfold poD; rw [if_pos (by omega)], PoM.same hH1⟩ dX3_poise_18

abbrev rm_m_X3_textNow : Room := { frames := 6, cells := 12, slots := 900, locals := 171 }
set_option maxHeartbeats 4000000 in
theorem m_X3_textNow {l : Launch} {s0 : State} {G : zG} (hE : zE l s0 G) (H0 : Heap) (hO : zO s0 H0) (μ : Ro → Nat) (σ : St) (th : Int) (j : Nat) (hh : HM G s0 μ σ th H0) (hj : j < St_ne σ) : zM l s0 yX3_textNow cX3_textNow 4 (some (FieldType.object "java/lang/String")) rm_m_X3_textNow [.ref (μ (0, 0, 0)), .int (iI ((j : Nat) : Int))] H0 M0 (rr (fun y h1 => zStr G H0 y (txF (St_n σ (St_ea σ j)) (St_ev σ j)) h1)) := by
  refine z_met hE (by decide +kernel) (Nat.le_of_ble_eq_true rfl) ?_
  intro pp ee ss mm args below meth cd Q ls hC hml hrt hlk hnm hH hQ hS hl
  have hx := hC.x
  have hb := hC.b
  have hl : lv_has ls 4 [(0, .ref (μ (0, 0, 0))), (1, .int (iI ((j : Nat) : Int)))] := hl
  have hP : va_P G.1 zCl [] H0 := va_nil
  have hD : va_D (zA M0 H0) [] := va_nilD
  have hH1 := hh
  obtain ⟨hp, hna, hal, hne9, hel9, hmr9⟩ := id hh.ok
  have hp7 : 0 < St_p σ ∧ St_p σ ≤ 7 := by rcases hp with h | h | h <;> rw [h] <;> decide
  have heaj := hh.ea hj
  have hnn := hh.n heaj
  have hv0 := hh.row hj
  obtain ⟨v, hvv⟩ : ∃ v, v = St_ev σ j := ⟨_, rfl⟩
  obtain ⟨n, hne0⟩ : ∃ n, n = St_n σ (St_ea σ j) := ⟨_, rfl⟩
  have hn16 : 1 ≤ n ∧ n ≤ 16 := by rw [hne0]; exact hnn
  have hv : rw_ok (St_p σ) n v := by rw [hne0, hvv]; exact hv0
  rw [← hvv, ← hne0] at hQ
  refine z_new hC hP hD hS (c1 := 1) (s1 := 4) (fs := [.null, .int (iI 0), .int (iI 0), .int (iI 0)]) (ci := 11) rfl in_J24 tyJ24_ok q1835 q550 q98 df_J24 ⟨zle (z := 12) rfl (by omega), zle (z := 900) rfl (by omega)⟩ ⟨by omega, by omega⟩ (ws' := fun q1 => [(q1, zOb 11 [.null, .int (iI 0), .int (iI 0), .int (iI 0)])]) (fun _ => rfl) dX3_textNow_0 (fun q1 H2 hq0q1 hq1q1 hP hD hS hF => ?_)
  refine lv_dup hx hb dX3_textNow_3 rfl ?_
  refine z_go 2 20 (z_runI (As := []) (rest := [.ref q1]) hC hml hl.1 (m_J24_init hE H2 (hO.ext0 (zS_F hS)) q1 (Nat.le_trans hO.1 hq0q1) (hP 0 _ rfl)) q553 q98 q1836 q552 rfl nd_J24_init rfl rfl (Nat.le_of_ble_eq_true rfl) ⟨Nat.le_of_ble_eq_true rfl, Nat.le_of_ble_eq_true rfl⟩ ⟨zfit (k := 1) (z := 12) rfl rfl (by omega), zfit (k := 16) (z := 900) rfl rfl (by omega)⟩ dX3_textNow_4) ⟨zad (k := 1) rfl (by omega), zad (k := 16) rfl (by omega)⟩ hS (fun q z => by subst z; exact hD.2 0 _ rfl) (fun r H3 locs hp hF hS1 => ?_)
  obtain ⟨rfl, arr0, hm, hN⟩ := hp
  obtain ⟨hP, hD⟩ := zjmn hP hD hS.1 hF 0 rfl hm hN
  have hP : va_P G.1 zCl ([(q1, zOb 11 [.ref arr0, .int (iI 0), .int (iI 0), .int (iI 0)]), (arr0, zB G 16 (fun _ => 0))]) H3 := hP
  have hD : va_D (zA M0 H0) ([(q1, zOb 11 [.ref arr0, .int (iI 0), .int (iI 0), .int (iI 0)]), (arr0, zB G 16 (fun _ => 0))]) := hD
  have hS := hS1
  refine lv_astore_n (lv' := [(2, .ref q1), (0, .ref (μ (0, 0, 0))), (1, .int (iI ((j : Nat) : Int)))]) hx hb dX3_textNow_7 rfl hl (by decide) rfl (fun ls hl => ?_)
  refine lv_iconst (v := iI 0) hx hb dX3_textNow_8 rfl ?_
  refine lv_istore_n (lv' := [(3, .int (iI 0)), (2, .ref q1), (0, .ref (μ (0, 0, 0))), (1, .int (iI ((j : Nat) : Int)))]) hx hb dX3_textNow_9 rfl hl (by decide) rfl (fun ls hl => ?_)
  have lp4 : ∀ (dlp4 : Nat) (k : Nat) (len0 : Nat) (arr09 : Nat) (mm09 : Nat) (gr0 : Nat) (f09 : Nat → Int), n - k = dlp4 → (k ≤ n) → (sbI (txL v k) len0 mm09 gr0 f09) → (len0 ≤ 5 * k) → ∀ (H5 : Heap) (locs : List Loc) (ls : Array Slot), va_P G.1 zCl ([(q1, zOb 11 [.ref arr09, .int (iI 0), .int (iI 0), .int (iI ((len0 : Nat) : Int))]), (arr09, zB G mm09 f09)]) H5 → va_D (zA M0 H0) ([(q1, zOb 11 [.ref arr09, .int (iI 0), .int (iI 0), .int (iI ((len0 : Nat) : Int))]), (arr09, zB G mm09 f09)]) → va_S (zA M0 H0) H0 H5 locs → lv_has ls 4 [(3, .int (iI ((k : Nat) : Int))), (2, .ref q1), (0, .ref (μ (0, 0, 0))), (1, .int (iI ((j : Nat) : Int)))] → W pp l ee rm_m_X3_textNow ss mm args below meth cd H5 locs (2 + gr0) (20 + 200 * gr0) Q (F0 mm 10 ls []) := by
    intro dlp4
    induction dlp4 using Nat.strongRecOn with
    | ind dlp4 ihlp4 =>
      intro k len0 arr09 mm09 gr0 f09 hdlp4 hk hs0 hlen0 H5 locs ls  hP hD hS hl
      have hcap := hs0.2.2.2.2
      unfold capR at hcap
      have hlm := hs0.2.2.2.1
      refine lv_iload_n hx hb dX3_textNow_10 rfl (lv_at hl 0 rfl) ?_
      refine lv_aload_n hx hb dX3_textNow_11 rfl (lv_at hl 2 rfl) ?_
      refine lv_iload_n hx hb dX3_textNow_12 rfl (lv_at hl 3 rfl) ?_
      have hH1 : HM G s0 μ σ th H5 := hh.ext0 hE (zS_F hS)
      refine z_go (2 + gr0) (20 + 200 * gr0) (z_runV (As := [.int (iI ((j : Nat) : Int))]) (rest := [.int (iI ((k : Nat) : Int))]) hC hml hl.1 (m_X3_row hE H5 (hO.ext0 (zS_F hS)) μ σ th j hH1 hj) (lw_V q1654 q1656 qs36 q67 q1657) rfl nd_X3_row rfl (z_rv hC (ci := 2) rfl hH1.2.2.1.1 rfl) rfl (Nat.le_of_ble_eq_true rfl) ⟨Nat.le_of_ble_eq_true rfl, Nat.le_of_ble_eq_true rfl⟩ ⟨zfit (k := 0) (z := 12) rfl rfl (by omega), zfit (k := 0) (z := 900) rfl rfl (by omega)⟩ dX3_textNow_13) ⟨zad (k := 0) rfl (by omega), zad (k := 0) rfl (by omega)⟩ hS (fun _ z => z.elim) (fun r H6 locs hp hF hS1 => ?_)
      obtain ⟨_, rfl, rfl⟩ := hp
      have hP := zpk hP hF
      have hP : va_P G.1 zCl ([(q1, zOb 11 [.ref arr09, .int (iI 0), .int (iI 0), .int (iI ((len0 : Nat) : Int))]), (arr09, zB G mm09 f09)]) H6 := hP
      have hD : va_D (zA M0 H0) ([(q1, zOb 11 [.ref arr09, .int (iI 0), .int (iI 0), .int (iI ((len0 : Nat) : Int))]), (arr09, zB G mm09 f09)]) := hD
      have hS := hS1
      have hH1 : HM G s0 μ σ th H6 := hh.ext0 hE (zS_F hS)
      have hRj := (hH1.el (j := j) hj).2
      rw [← hvv, ← hne0] at hRj
      refine z_alen hC 0 hRj rfl (y := ((n : Nat) : Int)) rfl dX3_textNow_16 ?_
      refine z_cge (tgt := 74) hx hb dX3_textNow_17 (by decide) (by omega) (fun c7 => ?_) (fun c7 => ?_)
      · have ek : k = n := by omega
        rw [ek] at hs0
        have hcap := hs0.2.2.2.2
        unfold capR at hcap
        have hlm := hs0.2.2.2.1
        refine lv_aload_n hx hb dX3_textNow_74 rfl (lv_at hl 1 rfl) ?_
        refine z_go (2 + gr0) (20 + 200 * gr0) (z_runV (As := []) (rest := []) hC hml hl.1 (m_J24_length hE H6 (hO.ext0 (zS_F hS)) q1 arr09 len0 (hP 0 _ rfl)) (lw_V q1837 q582 q583 q98 q584) rfl nd_J24_length rfl (z_rv hC (ci := 11) rfl (hP 0 _ rfl) rfl) rfl (Nat.le_of_ble_eq_true rfl) ⟨Nat.le_of_ble_eq_true rfl, Nat.le_of_ble_eq_true rfl⟩ ⟨zfit (k := 0) (z := 12) rfl rfl (by omega), zfit (k := 0) (z := 900) rfl rfl (by omega)⟩ dX3_textNow_75) ⟨zad (k := 0) rfl (by omega), zad (k := 0) rfl (by omega)⟩ hS (fun _ z => z.elim) (fun r H8 locs hp hF hS1 => ?_)
        obtain ⟨_, rfl, rfl⟩ := hp
        have hP := zpk hP hF
        have hP : va_P G.1 zCl ([(q1, zOb 11 [.ref arr09, .int (iI 0), .int (iI 0), .int (iI ((len0 : Nat) : Int))]), (arr09, zB G mm09 f09)]) H8 := hP
        have hD : va_D (zA M0 H0) ([(q1, zOb 11 [.ref arr09, .int (iI 0), .int (iI 0), .int (iI ((len0 : Nat) : Int))]), (arr09, zB G mm09 f09)]) := hD
        have hS := hS1
        refine z_zne (tgt := 86) hx hb dX3_textNow_78 (by decide) (by omega) (fun c9 => ?_) (fun c9 => ?_)
        · refine lv_aload_n hx hb dX3_textNow_86 rfl (lv_at hl 1 rfl) ?_
          refine z_go ((2 + gr0) + 2) ((20 + 200 * gr0) + 104) (z_runV (As := []) (rest := []) hC hml hl.1 (m_J24_toString hE H8 (hO.ext0 (zS_F hS)) q1 arr09 len0 mm09 f09 (hP 0 _ rfl) (hP 1 _ rfl) ⟨by omega, by omega, by omega⟩ (fun j hj => hs0.2.2.1 j (by omega))) (lw_V q1841 q717 q718 q98 q719) rfl nd_J24_toString rfl (z_rv hC (ci := 11) rfl (hP 0 _ rfl) rfl) rfl (Nat.le_of_ble_eq_true rfl) ⟨Nat.le_of_ble_eq_true rfl, Nat.le_of_ble_eq_true rfl⟩ ⟨zfit (k := 2) (z := 12) rfl rfl (by omega), zfit (k := 104) (z := 900) rfl rfl (by omega)⟩ dX3_textNow_87) ⟨zad (k := 2) rfl (by omega), zad (k := 104) rfl (by omega)⟩ hS (fun _ z => z.elim) (fun r H10 locs hp hF hS1 => ?_)
          obtain ⟨qs9, rfl, b9, f1, hf1, hN⟩ := hp
          obtain ⟨hP, hD⟩ := zjn hP hD hS.1 hF hN
          have hP : va_P G.1 zCl ([(q1, zOb 11 [.ref arr09, .int (iI 0), .int (iI 0), .int (iI ((len0 : Nat) : Int))]), (arr09, zB G mm09 f09), (qs9, zOb 12 [.ref b9, .int (iI 0), .int (iI 0), .int (iI 0)]), (b9, zB G len0 f1)]) H10 := hP
          have hD : va_D (zA M0 H0) ([(q1, zOb 11 [.ref arr09, .int (iI 0), .int (iI 0), .int (iI ((len0 : Nat) : Int))]), (arr09, zB G mm09 f09), (qs9, zOb 12 [.ref b9, .int (iI 0), .int (iI 0), .int (iI 0)]), (b9, zB G len0 f1)]) := hD
          have hS := hS1
          have hne : txL v n ≠ [] := fun e => by have := hs0.1; rw [e] at this; simp at this; omega
          have etx : txF n v = txL v n := by unfold txF; rw [if_neg hne]
          have hP : va_P G.1 zCl [(q1, zOb 11 [.ref arr09, .int (iI 0), .int (iI 0), .int (iI ((len0 : Nat) : Int))]), (arr09, zB G mm09 f09), (qs9, zOb 12 [.ref b9, .int (iI 0), .int (iI 0), .int (iI 0)]), (b9, zB G ((txF n v).length) (fun j => (txF n v).getD j 0))] H10 := by rw [etx, ← hs0.1]; exact zcB hP 3 rfl (fun j hj => by rw [hf1 j hj]; exact hs0.2.1 j hj)
          have hD : va_D (zA M0 H0) [(q1, zOb 11 [.ref arr09, .int (iI 0), .int (iI 0), .int (iI ((len0 : Nat) : Int))]), (arr09, zB G mm09 f09), (qs9, zOb 12 [.ref b9, .int (iI 0), .int (iI 0), .int (iI 0)]), (b9, zB G ((txF n v).length) (fun j => (txF n v).getD j 0))] := by rw [etx, ← hs0.1]; exact hD.set (p := 3) rfl
          exact z_aret hC hrt hlk hQ hS ⟨zle (z := 12) rfl (by omega), zle (z := 900) rfl (by omega)⟩ ⟨_, rfl, Or.inl ⟨_, hP.sub [2, 3] rfl, zdn (hD.sub [2, 3] (by decide) rfl)⟩⟩ dX3_textNow_90
        · have he : txL v n = [] := List.length_eq_zero_iff.mp (by have := hs0.1; omega)
          refine z_lds hC hE.2.2.2.1.2.2.2.2.2.2.1.2.1 dX3_textNow_81 ?_
          refine lv_goto (tgt := 90) hx hb dX3_textNow_83 (by decide) ?_
          exact z_aret hC hrt hlk hQ hS ⟨zle (z := 12) rfl (by omega), zle (z := 900) rfl (by omega)⟩ ⟨_, rfl, Or.inr ⟨rfl, by unfold txF; rw [if_pos he]⟩⟩ dX3_textNow_90
      · have hvk := hv k (by omega)
        have hcap := hs0.2.2.2.2
        unfold capR at hcap
        have hlm := hs0.2.2.2.1
        refine lv_aload_n hx hb dX3_textNow_20 rfl (lv_at hl 2 rfl) ?_
        refine lv_iload_n hx hb dX3_textNow_21 rfl (lv_at hl 3 rfl) ?_
        have hH1 : HM G s0 μ σ th H6 := hh.ext0 hE (zS_F hS)
        refine z_go (2 + gr0) (20 + 200 * gr0) (z_runV (As := [.int (iI ((j : Nat) : Int))]) (rest := []) hC hml hl.1 (m_X3_row hE H6 (hO.ext0 (zS_F hS)) μ σ th j hH1 hj) (lw_V q1654 q1656 qs36 q67 q1657) rfl nd_X3_row rfl (z_rv hC (ci := 2) rfl hH1.2.2.1.1 rfl) rfl (Nat.le_of_ble_eq_true rfl) ⟨Nat.le_of_ble_eq_true rfl, Nat.le_of_ble_eq_true rfl⟩ ⟨zfit (k := 0) (z := 12) rfl rfl (by omega), zfit (k := 0) (z := 900) rfl rfl (by omega)⟩ dX3_textNow_22) ⟨zad (k := 0) rfl (by omega), zad (k := 0) rfl (by omega)⟩ hS (fun _ z => z.elim) (fun r H11 locs hp hF hS1 => ?_)
        obtain ⟨_, rfl, rfl⟩ := hp
        have hP := zpk hP hF
        have hP : va_P G.1 zCl ([(q1, zOb 11 [.ref arr09, .int (iI 0), .int (iI 0), .int (iI ((len0 : Nat) : Int))]), (arr09, zB G mm09 f09)]) H11 := hP
        have hD : va_D (zA M0 H0) ([(q1, zOb 11 [.ref arr09, .int (iI 0), .int (iI 0), .int (iI ((len0 : Nat) : Int))]), (arr09, zB G mm09 f09)]) := hD
        have hS := hS1
        have hH1 : HM G s0 μ σ th H11 := hh.ext0 hE (zS_F hS)
        have hRj := (hH1.el (j := j) hj).2
        rw [← hvv, ← hne0] at hRj
        refine lv_iload_n hx hb dX3_textNow_25 rfl (lv_at hl 0 rfl) ?_
        refine z_iald hC hRj (k := k) rfl (by omega) (y := v k) rfl dX3_textNow_26 ?_
        refine z_zne (tgt := 33) hx hb dX3_textNow_27 (by decide) (by omega) (fun c12 => ?_) (fun c12 => ?_)
        · refine lv_aload_n hx hb dX3_textNow_33 rfl (lv_at hl 1 rfl) ?_
          refine z_go (2 + gr0) (20 + 200 * gr0) (z_runV (As := []) (rest := []) hC hml hl.1 (m_J24_length hE H11 (hO.ext0 (zS_F hS)) q1 arr09 len0 (hP 0 _ rfl)) (lw_V q1837 q582 q583 q98 q584) rfl nd_J24_length rfl (z_rv hC (ci := 11) rfl (hP 0 _ rfl) rfl) rfl (Nat.le_of_ble_eq_true rfl) ⟨Nat.le_of_ble_eq_true rfl, Nat.le_of_ble_eq_true rfl⟩ ⟨zfit (k := 0) (z := 12) rfl rfl (by omega), zfit (k := 0) (z := 900) rfl rfl (by omega)⟩ dX3_textNow_34) ⟨zad (k := 0) rfl (by omega), zad (k := 0) rfl (by omega)⟩ hS (fun _ z => z.elim) (fun r H13 locs hp hF hS1 => ?_)
          obtain ⟨_, rfl, rfl⟩ := hp
          have hP := zpk hP hF
          have hP : va_P G.1 zCl ([(q1, zOb 11 [.ref arr09, .int (iI 0), .int (iI 0), .int (iI ((len0 : Nat) : Int))]), (arr09, zB G mm09 f09)]) H13 := hP
          have hD : va_D (zA M0 H0) ([(q1, zOb 11 [.ref arr09, .int (iI 0), .int (iI 0), .int (iI ((len0 : Nat) : Int))]), (arr09, zB G mm09 f09)]) := hD
          have hS := hS1
          have ja : ∀ (len1 : Nat) (arr19 : Nat) (mm19 : Nat) (gr1 : Nat) (f19 : Nat → Int), (sbI (plL (txL v k)) len1 mm19 gr1 f19) → (len1 ≤ 5 * k + 1) → ∀ (H14 : Heap) (locs : List Loc) (ls : Array Slot), va_P G.1 zCl ([(q1, zOb 11 [.ref arr19, .int (iI 0), .int (iI 0), .int (iI ((len1 : Nat) : Int))]), (arr19, zB G mm19 f19)]) H14 → va_D (zA M0 H0) ([(q1, zOb 11 [.ref arr19, .int (iI 0), .int (iI 0), .int (iI ((len1 : Nat) : Int))]), (arr19, zB G mm19 f19)]) → va_S (zA M0 H0) H0 H14 locs → lv_has ls 4 [(3, .int (iI ((k : Nat) : Int))), (2, .ref q1), (0, .ref (μ (0, 0, 0))), (1, .int (iI ((j : Nat) : Int)))] → W pp l ee rm_m_X3_textNow ss mm args below meth cd H14 locs (2 + gr1) (20 + 200 * gr1) Q (F0 mm 47 ls []) := by
            intro len1 arr19 mm19 gr1 f19 hs1 hlen1 H14 locs ls  hP hD hS hl
            have hcap := hs1.2.2.2.2
            unfold capR at hcap
            have hlm := hs1.2.2.2.1
            refine lv_aload_n hx hb dX3_textNow_47 rfl (lv_at hl 1 rfl) ?_
            refine lv_aload_n hx hb dX3_textNow_48 rfl (lv_at hl 2 rfl) ?_
            refine lv_iload_n hx hb dX3_textNow_49 rfl (lv_at hl 3 rfl) ?_
            have hH1 : HM G s0 μ σ th H14 := hh.ext0 hE (zS_F hS)
            refine z_go (2 + gr1) (20 + 200 * gr1) (z_runV (As := [.int (iI ((j : Nat) : Int))]) (rest := [.ref q1]) hC hml hl.1 (m_X3_row hE H14 (hO.ext0 (zS_F hS)) μ σ th j hH1 hj) (lw_V q1654 q1656 qs36 q67 q1657) rfl nd_X3_row rfl (z_rv hC (ci := 2) rfl hH1.2.2.1.1 rfl) rfl (Nat.le_of_ble_eq_true rfl) ⟨Nat.le_of_ble_eq_true rfl, Nat.le_of_ble_eq_true rfl⟩ ⟨zfit (k := 0) (z := 12) rfl rfl (by omega), zfit (k := 0) (z := 900) rfl rfl (by omega)⟩ dX3_textNow_50) ⟨zad (k := 0) rfl (by omega), zad (k := 0) rfl (by omega)⟩ hS (fun _ z => z.elim) (fun r H15 locs hp hF hS1 => ?_)
            obtain ⟨_, rfl, rfl⟩ := hp
            have hP := zpk hP hF
            have hP : va_P G.1 zCl ([(q1, zOb 11 [.ref arr19, .int (iI 0), .int (iI 0), .int (iI ((len1 : Nat) : Int))]), (arr19, zB G mm19 f19)]) H15 := hP
            have hD : va_D (zA M0 H0) ([(q1, zOb 11 [.ref arr19, .int (iI 0), .int (iI 0), .int (iI ((len1 : Nat) : Int))]), (arr19, zB G mm19 f19)]) := hD
            have hS := hS1
            have hH1 : HM G s0 μ σ th H15 := hh.ext0 hE (zS_F hS)
            have hRj := (hH1.el (j := j) hj).2
            rw [← hvv, ← hne0] at hRj
            refine lv_iload_n hx hb dX3_textNow_53 rfl (lv_at hl 0 rfl) ?_
            refine z_iald hC hRj (k := k) rfl (by omega) (y := v k) rfl dX3_textNow_54 ?_
            refine z_top (b := (((v k).toNat : Nat) : Int)) (by omega) ?_
            have hs19 : ssz (v k).toNat = 1 := by unfold ssz; rw [if_pos (by omega)]
            have jb : ∀ (len2 : Nat) (arr29 : Nat) (mm29 : Nat) (gr2 : Nat) (f29 : Nat → Int), (sbI (plL (txL v k) ++ dgL (v k).toNat) len2 mm29 gr2 f29) → (len2 ≤ 5 * k + 2) → ∀ (H16 : Heap) (locs : List Loc) (ls : Array Slot), va_P G.1 zCl ([(q1, zOb 11 [.ref arr29, .int (iI 0), .int (iI 0), .int (iI ((len2 : Nat) : Int))]), (arr29, zB G mm29 f29)]) H16 → va_D (zA M0 H0) ([(q1, zOb 11 [.ref arr29, .int (iI 0), .int (iI 0), .int (iI ((len2 : Nat) : Int))]), (arr29, zB G mm29 f29)]) → va_S (zA M0 H0) H0 H16 locs → lv_has ls 4 [(3, .int (iI ((k : Nat) : Int))), (2, .ref q1), (0, .ref (μ (0, 0, 0))), (1, .int (iI ((j : Nat) : Int)))] → W pp l ee rm_m_X3_textNow ss mm args below meth cd H16 locs (2 + gr2) (20 + 200 * gr2) Q (F0 mm 58 ls [.ref q1]) := by
              intro len2 arr29 mm29 gr2 f29 hs2 hlen2 H16 locs ls  hP hD hS hl
              refine lv_bipush (v := iI 101) hx hb dX3_textNow_58 (by decide) ?_
              have jc : ∀ (len3 : Nat) (arr39 : Nat) (mm39 : Nat) (gr3 : Nat) (f39 : Nat → Int), (sbI ((plL (txL v k) ++ dgL (v k).toNat) ++ [((101 : Nat) : Int)]) len3 mm39 gr3 f39) → (len3 ≤ 5 * k + 3) → ∀ (H17 : Heap) (locs : List Loc) (ls : Array Slot), va_P G.1 zCl ([(q1, zOb 11 [.ref arr39, .int (iI 0), .int (iI 0), .int (iI ((len3 : Nat) : Int))]), (arr39, zB G mm39 f39)]) H17 → va_D (zA M0 H0) ([(q1, zOb 11 [.ref arr39, .int (iI 0), .int (iI 0), .int (iI ((len3 : Nat) : Int))]), (arr39, zB G mm39 f39)]) → va_S (zA M0 H0) H0 H17 locs → lv_has ls 4 [(3, .int (iI ((k : Nat) : Int))), (2, .ref q1), (0, .ref (μ (0, 0, 0))), (1, .int (iI ((j : Nat) : Int)))] → W pp l ee rm_m_X3_textNow ss mm args below meth cd H17 locs (2 + gr3) (20 + 200 * gr3) Q (F0 mm 63 ls [.ref q1]) := by
                intro len3 arr39 mm39 gr3 f39 hs3 hlen3 H17 locs ls  hP hD hS hl
                refine lv_iload_n hx hb dX3_textNow_63 rfl (lv_at hl 0 rfl) ?_
                have jd : ∀ (len4 : Nat) (arr49 : Nat) (mm49 : Nat) (gr4 : Nat) (f49 : Nat → Int), (sbI (((plL (txL v k) ++ dgL (v k).toNat) ++ [((101 : Nat) : Int)]) ++ dgL k) len4 mm49 gr4 f49) → (len4 ≤ 5 * k + 5) → ∀ (H18 : Heap) (locs : List Loc) (ls : Array Slot), va_P G.1 zCl ([(q1, zOb 11 [.ref arr49, .int (iI 0), .int (iI 0), .int (iI ((len4 : Nat) : Int))]), (arr49, zB G mm49 f49)]) H18 → va_D (zA M0 H0) ([(q1, zOb 11 [.ref arr49, .int (iI 0), .int (iI 0), .int (iI ((len4 : Nat) : Int))]), (arr49, zB G mm49 f49)]) → va_S (zA M0 H0) H0 H18 locs → lv_has ls 4 [(3, .int (iI ((k : Nat) : Int))), (2, .ref q1), (0, .ref (μ (0, 0, 0))), (1, .int (iI ((j : Nat) : Int)))] → W pp l ee rm_m_X3_textNow ss mm args below meth cd H18 locs (2 + gr4) (20 + 200 * gr4) Q (F0 mm 67 ls [.ref q1]) := by
                  intro len4 arr49 mm49 gr4 f49 hs4 hlen4 H18 locs ls  hP hD hS hl
                  refine lv_pop hx hb dX3_textNow_67 rfl ?_
                  refine z_iinc (z := ((k + 1 : Nat) : Int)) (lv' := [(3, .int (iI ((k + 1 : Nat) : Int))), (2, .ref q1), (0, .ref (μ (0, 0, 0))), (1, .int (iI ((j : Nat) : Int)))]) hx hb dX3_textNow_68 hl (k := 0) rfl (by omega) (by decide) rfl (fun ls hl => ?_)
                  refine lv_goto (tgt := 10) hx hb dX3_textNow_71 (by decide) ?_
                  exact W.widen (by omega) (by omega) (ihlp4 (n - (k + 1)) (by omega) (k + 1) len4 arr49 mm49 gr4 f49 rfl (by omega) (by rw [txL_s (by omega)]; exact hs4) (by omega) _ _ _  hP hD hS hl)
                have hsz := ssz_in (k)
                have hcap := hs3.2.2.2.2
                have hlm := hs3.2.2.2.1
                unfold capR at hcap
                rcases (show len3 + ssz (k) ≤ mm39 ∨ mm39 < len3 + ssz (k) from by omega) with hfit | hfit
                · refine z_go (2 + gr3) (20 + 200 * gr3) (z_runV (As := [.int (iI ((k : Nat) : Int))]) (rest := []) hC hml hl.1 (m_J24_appendi_a hE H17 (hO.ext0 (zS_F hS)) q1 arr39 len3 mm39 f39 (k) (sb_hb hO hD) (hP 0 _ rfl) (hP 1 _ rfl) (by omega) (by omega)) (lw_V q1839 q682 q683 q98 q684) rfl nd_J24_append_2 rfl (z_rv hC (ci := 11) rfl (hP 0 _ rfl) rfl) rfl (Nat.le_of_ble_eq_true rfl) ⟨Nat.le_of_ble_eq_true rfl, Nat.le_of_ble_eq_true rfl⟩ ⟨zfit (k := 0) (z := 12) rfl rfl (by omega), zfit (k := 0) (z := 900) rfl rfl (by omega)⟩ dX3_textNow_64) ⟨zad (k := 0) rfl (by omega), zad (k := 0) rfl (by omega)⟩ hS (fun q z => z.elim (fun y => by rw [y]; exact hD.2 0 _ rfl) (fun y => by rw [y]; exact hD.2 1 _ rfl)) (fun r H19 locs hp hF hS1 => ?_)
                  obtain ⟨y9, rfl, hy9, hm1, hm2⟩ := hp
                  obtain ⟨hP, hD⟩ := zjm2 hP hD hF 0 1 rfl rfl hm1 hm2
                  have hP : va_P G.1 zCl ([(q1, zOb 11 [.ref arr39, .int (iI 0), .int (iI 0), .int (iI ((len3 + ssz (k) : Nat) : Int))]), (arr39, zB G mm39 (gcV f39 (len3 + ssz (k)) (k)))]) H19 := hP
                  have hD : va_D (zA M0 H0) ([(q1, zOb 11 [.ref arr39, .int (iI 0), .int (iI 0), .int (iI ((len3 + ssz (k) : Nat) : Int))]), (arr39, zB G mm39 (gcV f39 (len3 + ssz (k)) (k)))]) := hD
                  have hS := hS1
                  have hy9 := hy9.symm
                  subst hy9
                  exact W.widen (by omega) (by omega) (jd (len3 + ssz (k)) arr39 mm39 gr3 (gcV f39 (len3 + ssz (k)) (k)) (hs3.num (by omega) (by omega)) (by omega) _ _ _  hP hD hS hl)
                · refine z_go ((2 + gr3) + 1) ((20 + 200 * gr3) + 200) (z_runV (As := [.int (iI ((k : Nat) : Int))]) (rest := []) hC hml hl.1 (m_J24_appendi_b hE H17 (hO.ext0 (zS_F hS)) q1 arr39 len3 mm39 f39 (k) ⟨(sb_hb hO hD).1.1, (sb_hb hO hD).2⟩ (hP 0 _ rfl) (hP 1 _ rfl) hs3.2.2.1 (by omega) (by omega)) (lw_V q1839 q682 q683 q98 q684) rfl nd_J24_append_2 rfl (z_rv hC (ci := 11) rfl (hP 0 _ rfl) rfl) rfl (Nat.le_of_ble_eq_true rfl) ⟨Nat.le_of_ble_eq_true rfl, Nat.le_of_ble_eq_true rfl⟩ ⟨zfit (k := 1) (z := 12) rfl rfl (by omega), zfit (k := 200) (z := 900) rfl rfl (by omega)⟩ dX3_textNow_64) ⟨zad (k := 1) rfl (by omega), zad (k := 200) rfl (by omega)⟩ hS (fun q z => by subst z; exact hD.2 0 _ rfl) (fun r H20 locs hp hF hS1 => ?_)
                  obtain ⟨y9, rfl, hy9, ab9, hm, hN⟩ := hp
                  obtain ⟨hP, hD⟩ := zjmn hP hD hS.1 hF 0 rfl hm hN
                  have hP : va_P G.1 zCl ([(q1, zOb 11 [.ref ab9, .int (iI 0), .int (iI 0), .int (iI ((len3 + ssz (k) : Nat) : Int))]), (arr39, zB G mm39 f39), (ab9, zB G (2 * mm39 + 2) (gcV (fun j => if j < mm39 then f39 j else 0) (len3 + ssz (k)) (k)))]) H20 := hP
                  have hD : va_D (zA M0 H0) ([(q1, zOb 11 [.ref ab9, .int (iI 0), .int (iI 0), .int (iI ((len3 + ssz (k) : Nat) : Int))]), (arr39, zB G mm39 f39), (ab9, zB G (2 * mm39 + 2) (gcV (fun j => if j < mm39 then f39 j else 0) (len3 + ssz (k)) (k)))]) := hD
                  have hS := hS1
                  have hy9 := hy9.symm
                  subst hy9
                  exact W.widen (by omega) (by omega) (jd (len3 + ssz (k)) ab9 (2 * mm39 + 2) (gr3 + 1) (gcV (fun j => if j < mm39 then f39 j else 0) (len3 + ssz (k)) (k)) ((hs3.grown (by omega)).num (by omega) (by omega)) (by omega) _ _ _  (hP.sub [0, 2] rfl) (hD.sub [0, 2] (by decide) rfl) hS hl)
              have hcap := hs2.2.2.2.2
              have hlm := hs2.2.2.2.1
              unfold capR at hcap
              rcases (show len2 + 1 ≤ mm29 ∨ mm29 < len2 + 1 from by omega) with hfit | hfit
              · refine z_go (2 + gr2) (20 + 200 * gr2) (z_runV (As := [.int (iI 101)]) (rest := []) hC hml hl.1 (m_J24_append_a hE H16 (hO.ext0 (zS_F hS)) q1 arr29 len2 mm29 f29 (101) (sb_hb hO hD) (hP 0 _ rfl) (hP 1 _ rfl) (by omega) (by omega)) (lw_V q1838 q589 q590 q98 q591) rfl nd_J24_append rfl (z_rv hC (ci := 11) rfl (hP 0 _ rfl) rfl) rfl (Nat.le_of_ble_eq_true rfl) ⟨Nat.le_of_ble_eq_true rfl, Nat.le_of_ble_eq_true rfl⟩ ⟨zfit (k := 0) (z := 12) rfl rfl (by omega), zfit (k := 0) (z := 900) rfl rfl (by omega)⟩ dX3_textNow_60) ⟨zad (k := 0) rfl (by omega), zad (k := 0) rfl (by omega)⟩ hS (fun q z => z.elim (fun y => by rw [y]; exact hD.2 0 _ rfl) (fun y => by rw [y]; exact hD.2 1 _ rfl)) (fun r H21 locs hp hF hS1 => ?_)
                obtain ⟨y9, rfl, hy9, hm1, hm2⟩ := hp
                obtain ⟨hP, hD⟩ := zjm2 hP hD hF 0 1 rfl rfl hm1 hm2
                have hP : va_P G.1 zCl ([(q1, zOb 11 [.ref arr29, .int (iI 0), .int (iI 0), .int (iI ((len2 + 1 : Nat) : Int))]), (arr29, zB G mm29 (va_up f29 len2 ((101 : Nat) : Int)))]) H21 := hP
                have hD : va_D (zA M0 H0) ([(q1, zOb 11 [.ref arr29, .int (iI 0), .int (iI 0), .int (iI ((len2 + 1 : Nat) : Int))]), (arr29, zB G mm29 (va_up f29 len2 ((101 : Nat) : Int)))]) := hD
                have hS := hS1
                have hy9 := hy9.symm
                subst hy9
                exact W.widen (by omega) (by omega) (jc (len2 + 1) arr29 mm29 gr2 (va_up f29 len2 ((101 : Nat) : Int)) (hs2.chr (by omega) (by omega)) (by omega) _ _ _  hP hD hS hl)
              · refine z_go ((2 + gr2) + 1) ((20 + 200 * gr2) + 200) (z_runV (As := [.int (iI 101)]) (rest := []) hC hml hl.1 (m_J24_append_b hE H16 (hO.ext0 (zS_F hS)) q1 arr29 len2 mm29 f29 (101) ⟨(sb_hb hO hD).1.1, (sb_hb hO hD).2⟩ (hP 0 _ rfl) (hP 1 _ rfl) hs2.2.2.1 (by omega) (by omega)) (lw_V q1838 q589 q590 q98 q591) rfl nd_J24_append rfl (z_rv hC (ci := 11) rfl (hP 0 _ rfl) rfl) rfl (Nat.le_of_ble_eq_true rfl) ⟨Nat.le_of_ble_eq_true rfl, Nat.le_of_ble_eq_true rfl⟩ ⟨zfit (k := 1) (z := 12) rfl rfl (by omega), zfit (k := 200) (z := 900) rfl rfl (by omega)⟩ dX3_textNow_60) ⟨zad (k := 1) rfl (by omega), zad (k := 200) rfl (by omega)⟩ hS (fun q z => by subst z; exact hD.2 0 _ rfl) (fun r H22 locs hp hF hS1 => ?_)
                obtain ⟨y9, rfl, hy9, ab9, hm, hN⟩ := hp
                obtain ⟨hP, hD⟩ := zjmn hP hD hS.1 hF 0 rfl hm hN
                have hP : va_P G.1 zCl ([(q1, zOb 11 [.ref ab9, .int (iI 0), .int (iI 0), .int (iI ((len2 + 1 : Nat) : Int))]), (arr29, zB G mm29 f29), (ab9, zB G (2 * mm29 + 2) (va_up (fun j => if j < mm29 then f29 j else 0) len2 ((101 : Nat) : Int)))]) H22 := hP
                have hD : va_D (zA M0 H0) ([(q1, zOb 11 [.ref ab9, .int (iI 0), .int (iI 0), .int (iI ((len2 + 1 : Nat) : Int))]), (arr29, zB G mm29 f29), (ab9, zB G (2 * mm29 + 2) (va_up (fun j => if j < mm29 then f29 j else 0) len2 ((101 : Nat) : Int)))]) := hD
                have hS := hS1
                have hy9 := hy9.symm
                subst hy9
                exact W.widen (by omega) (by omega) (jc (len2 + 1) ab9 (2 * mm29 + 2) (gr2 + 1) (va_up (fun j => if j < mm29 then f29 j else 0) len2 ((101 : Nat) : Int)) ((hs2.grown (by omega)).chr (by omega) (by omega)) (by omega) _ _ _  (hP.sub [0, 2] rfl) (hD.sub [0, 2] (by decide) rfl) hS hl)
            have hsz := ssz_in ((v k).toNat)
            have hcap := hs1.2.2.2.2
            have hlm := hs1.2.2.2.1
            unfold capR at hcap
            rcases (show len1 + ssz ((v k).toNat) ≤ mm19 ∨ mm19 < len1 + ssz ((v k).toNat) from by omega) with hfit | hfit
            · refine z_go (2 + gr1) (20 + 200 * gr1) (z_runV (As := [.int (iI (((v k).toNat : Nat) : Int))]) (rest := []) hC hml hl.1 (m_J24_appendi_a hE H15 (hO.ext0 (zS_F hS)) q1 arr19 len1 mm19 f19 ((v k).toNat) (sb_hb hO hD) (hP 0 _ rfl) (hP 1 _ rfl) (by omega) (by omega)) (lw_V q1839 q682 q683 q98 q684) rfl nd_J24_append_2 rfl (z_rv hC (ci := 11) rfl (hP 0 _ rfl) rfl) rfl (Nat.le_of_ble_eq_true rfl) ⟨Nat.le_of_ble_eq_true rfl, Nat.le_of_ble_eq_true rfl⟩ ⟨zfit (k := 0) (z := 12) rfl rfl (by omega), zfit (k := 0) (z := 900) rfl rfl (by omega)⟩ dX3_textNow_55) ⟨zad (k := 0) rfl (by omega), zad (k := 0) rfl (by omega)⟩ hS (fun q z => z.elim (fun y => by rw [y]; exact hD.2 0 _ rfl) (fun y => by rw [y]; exact hD.2 1 _ rfl)) (fun r H23 locs hp hF hS1 => ?_)
              obtain ⟨y9, rfl, hy9, hm1, hm2⟩ := hp
              obtain ⟨hP, hD⟩ := zjm2 hP hD hF 0 1 rfl rfl hm1 hm2
              have hP : va_P G.1 zCl ([(q1, zOb 11 [.ref arr19, .int (iI 0), .int (iI 0), .int (iI ((len1 + ssz ((v k).toNat) : Nat) : Int))]), (arr19, zB G mm19 (gcV f19 (len1 + ssz ((v k).toNat)) ((v k).toNat)))]) H23 := hP
              have hD : va_D (zA M0 H0) ([(q1, zOb 11 [.ref arr19, .int (iI 0), .int (iI 0), .int (iI ((len1 + ssz ((v k).toNat) : Nat) : Int))]), (arr19, zB G mm19 (gcV f19 (len1 + ssz ((v k).toNat)) ((v k).toNat)))]) := hD
              have hS := hS1
              have hy9 := hy9.symm
              subst hy9
              exact W.widen (by omega) (by omega) (jb (len1 + ssz ((v k).toNat)) arr19 mm19 gr1 (gcV f19 (len1 + ssz ((v k).toNat)) ((v k).toNat)) (hs1.num (by omega) (by omega)) (by omega) _ _ _  hP hD hS hl)
            · refine z_go ((2 + gr1) + 1) ((20 + 200 * gr1) + 200) (z_runV (As := [.int (iI (((v k).toNat : Nat) : Int))]) (rest := []) hC hml hl.1 (m_J24_appendi_b hE H15 (hO.ext0 (zS_F hS)) q1 arr19 len1 mm19 f19 ((v k).toNat) ⟨(sb_hb hO hD).1.1, (sb_hb hO hD).2⟩ (hP 0 _ rfl) (hP 1 _ rfl) hs1.2.2.1 (by omega) (by omega)) (lw_V q1839 q682 q683 q98 q684) rfl nd_J24_append_2 rfl (z_rv hC (ci := 11) rfl (hP 0 _ rfl) rfl) rfl (Nat.le_of_ble_eq_true rfl) ⟨Nat.le_of_ble_eq_true rfl, Nat.le_of_ble_eq_true rfl⟩ ⟨zfit (k := 1) (z := 12) rfl rfl (by omega), zfit (k := 200) (z := 900) rfl rfl (by omega)⟩ dX3_textNow_55) ⟨zad (k := 1) rfl (by omega), zad (k := 200) rfl (by omega)⟩ hS (fun q z => by subst z; exact hD.2 0 _ rfl) (fun r H24 locs hp hF hS1 => ?_)
              obtain ⟨y9, rfl, hy9, ab9, hm, hN⟩ := hp
              obtain ⟨hP, hD⟩ := zjmn hP hD hS.1 hF 0 rfl hm hN
              have hP : va_P G.1 zCl ([(q1, zOb 11 [.ref ab9, .int (iI 0), .int (iI 0), .int (iI ((len1 + ssz ((v k).toNat) : Nat) : Int))]), (arr19, zB G mm19 f19), (ab9, zB G (2 * mm19 + 2) (gcV (fun j => if j < mm19 then f19 j else 0) (len1 + ssz ((v k).toNat)) ((v k).toNat)))]) H24 := hP
              have hD : va_D (zA M0 H0) ([(q1, zOb 11 [.ref ab9, .int (iI 0), .int (iI 0), .int (iI ((len1 + ssz ((v k).toNat) : Nat) : Int))]), (arr19, zB G mm19 f19), (ab9, zB G (2 * mm19 + 2) (gcV (fun j => if j < mm19 then f19 j else 0) (len1 + ssz ((v k).toNat)) ((v k).toNat)))]) := hD
              have hS := hS1
              have hy9 := hy9.symm
              subst hy9
              exact W.widen (by omega) (by omega) (jb (len1 + ssz ((v k).toNat)) ab9 (2 * mm19 + 2) (gr1 + 1) (gcV (fun j => if j < mm19 then f19 j else 0) (len1 + ssz ((v k).toNat)) ((v k).toNat)) ((hs1.grown (by omega)).num (by omega) (by omega)) (by omega) _ _ _  (hP.sub [0, 2] rfl) (hD.sub [0, 2] (by decide) rfl) hS hl)
          refine z_zle (tgt := 47) hx hb dX3_textNow_37 (by decide) (by omega) (fun c25 => ?_) (fun c25 => ?_)
          · exact W.widen (by omega) (by omega) (ja len0 arr09 mm09 gr0 f09 (hs0.pl0 (by omega)) (by omega) _ _ _  hP hD hS hl)
          · have hne : txL v k ≠ [] := hs0.ne (by omega)
            refine lv_aload_n hx hb dX3_textNow_40 rfl (lv_at hl 1 rfl) ?_
            refine lv_bipush (v := iI 43) hx hb dX3_textNow_41 (by decide) ?_
            have jz : ∀ (len5 : Nat) (arr59 : Nat) (mm59 : Nat) (gr5 : Nat) (f59 : Nat → Int), (sbI (txL v k ++ [((43 : Nat) : Int)]) len5 mm59 gr5 f59) → (len5 ≤ 5 * k + 1) → ∀ (H26 : Heap) (locs : List Loc) (ls : Array Slot), va_P G.1 zCl ([(q1, zOb 11 [.ref arr59, .int (iI 0), .int (iI 0), .int (iI ((len5 : Nat) : Int))]), (arr59, zB G mm59 f59)]) H26 → va_D (zA M0 H0) ([(q1, zOb 11 [.ref arr59, .int (iI 0), .int (iI 0), .int (iI ((len5 : Nat) : Int))]), (arr59, zB G mm59 f59)]) → va_S (zA M0 H0) H0 H26 locs → lv_has ls 4 [(3, .int (iI ((k : Nat) : Int))), (2, .ref q1), (0, .ref (μ (0, 0, 0))), (1, .int (iI ((j : Nat) : Int)))] → W pp l ee rm_m_X3_textNow ss mm args below meth cd H26 locs (2 + gr5) (20 + 200 * gr5) Q (F0 mm 46 ls [.ref q1]) := by
              intro len5 arr59 mm59 gr5 f59 hs5 hlen5 H26 locs ls  hP hD hS hl
              refine lv_pop hx hb dX3_textNow_46 rfl ?_
              exact W.widen (by omega) (by omega) (ja len5 arr59 mm59 gr5 f59 (hs5.pl1 hne) (by omega) _ _ _  hP hD hS hl)
            have hcap := hs0.2.2.2.2
            have hlm := hs0.2.2.2.1
            unfold capR at hcap
            rcases (show len0 + 1 ≤ mm09 ∨ mm09 < len0 + 1 from by omega) with hfit | hfit
            · refine z_go (2 + gr0) (20 + 200 * gr0) (z_runV (As := [.int (iI 43)]) (rest := []) hC hml hl.1 (m_J24_append_a hE H13 (hO.ext0 (zS_F hS)) q1 arr09 len0 mm09 f09 (43) (sb_hb hO hD) (hP 0 _ rfl) (hP 1 _ rfl) (by omega) (by omega)) (lw_V q1838 q589 q590 q98 q591) rfl nd_J24_append rfl (z_rv hC (ci := 11) rfl (hP 0 _ rfl) rfl) rfl (Nat.le_of_ble_eq_true rfl) ⟨Nat.le_of_ble_eq_true rfl, Nat.le_of_ble_eq_true rfl⟩ ⟨zfit (k := 0) (z := 12) rfl rfl (by omega), zfit (k := 0) (z := 900) rfl rfl (by omega)⟩ dX3_textNow_43) ⟨zad (k := 0) rfl (by omega), zad (k := 0) rfl (by omega)⟩ hS (fun q z => z.elim (fun y => by rw [y]; exact hD.2 0 _ rfl) (fun y => by rw [y]; exact hD.2 1 _ rfl)) (fun r H27 locs hp hF hS1 => ?_)
              obtain ⟨y9, rfl, hy9, hm1, hm2⟩ := hp
              obtain ⟨hP, hD⟩ := zjm2 hP hD hF 0 1 rfl rfl hm1 hm2
              have hP : va_P G.1 zCl ([(q1, zOb 11 [.ref arr09, .int (iI 0), .int (iI 0), .int (iI ((len0 + 1 : Nat) : Int))]), (arr09, zB G mm09 (va_up f09 len0 ((43 : Nat) : Int)))]) H27 := hP
              have hD : va_D (zA M0 H0) ([(q1, zOb 11 [.ref arr09, .int (iI 0), .int (iI 0), .int (iI ((len0 + 1 : Nat) : Int))]), (arr09, zB G mm09 (va_up f09 len0 ((43 : Nat) : Int)))]) := hD
              have hS := hS1
              have hy9 := hy9.symm
              subst hy9
              exact W.widen (by omega) (by omega) (jz (len0 + 1) arr09 mm09 gr0 (va_up f09 len0 ((43 : Nat) : Int)) (hs0.chr (by omega) (by omega)) (by omega) _ _ _  hP hD hS hl)
            · refine z_go ((2 + gr0) + 1) ((20 + 200 * gr0) + 200) (z_runV (As := [.int (iI 43)]) (rest := []) hC hml hl.1 (m_J24_append_b hE H13 (hO.ext0 (zS_F hS)) q1 arr09 len0 mm09 f09 (43) ⟨(sb_hb hO hD).1.1, (sb_hb hO hD).2⟩ (hP 0 _ rfl) (hP 1 _ rfl) hs0.2.2.1 (by omega) (by omega)) (lw_V q1838 q589 q590 q98 q591) rfl nd_J24_append rfl (z_rv hC (ci := 11) rfl (hP 0 _ rfl) rfl) rfl (Nat.le_of_ble_eq_true rfl) ⟨Nat.le_of_ble_eq_true rfl, Nat.le_of_ble_eq_true rfl⟩ ⟨zfit (k := 1) (z := 12) rfl rfl (by omega), zfit (k := 200) (z := 900) rfl rfl (by omega)⟩ dX3_textNow_43) ⟨zad (k := 1) rfl (by omega), zad (k := 200) rfl (by omega)⟩ hS (fun q z => by subst z; exact hD.2 0 _ rfl) (fun r H28 locs hp hF hS1 => ?_)
              obtain ⟨y9, rfl, hy9, ab9, hm, hN⟩ := hp
              obtain ⟨hP, hD⟩ := zjmn hP hD hS.1 hF 0 rfl hm hN
              have hP : va_P G.1 zCl ([(q1, zOb 11 [.ref ab9, .int (iI 0), .int (iI 0), .int (iI ((len0 + 1 : Nat) : Int))]), (arr09, zB G mm09 f09), (ab9, zB G (2 * mm09 + 2) (va_up (fun j => if j < mm09 then f09 j else 0) len0 ((43 : Nat) : Int)))]) H28 := hP
              have hD : va_D (zA M0 H0) ([(q1, zOb 11 [.ref ab9, .int (iI 0), .int (iI 0), .int (iI ((len0 + 1 : Nat) : Int))]), (arr09, zB G mm09 f09), (ab9, zB G (2 * mm09 + 2) (va_up (fun j => if j < mm09 then f09 j else 0) len0 ((43 : Nat) : Int)))]) := hD
              have hS := hS1
              have hy9 := hy9.symm
              subst hy9
              exact W.widen (by omega) (by omega) (jz (len0 + 1) ab9 (2 * mm09 + 2) (gr0 + 1) (va_up (fun j => if j < mm09 then f09 j else 0) len0 ((43 : Nat) : Int)) ((hs0.grown (by omega)).chr (by omega) (by omega)) (by omega) _ _ _  (hP.sub [0, 2] rfl) (hD.sub [0, 2] (by decide) rfl) hS hl)
        · refine lv_goto (tgt := 68) hx hb dX3_textNow_30 (by decide) ?_
          refine z_iinc (z := ((k + 1 : Nat) : Int)) (lv' := [(3, .int (iI ((k + 1 : Nat) : Int))), (2, .ref q1), (0, .ref (μ (0, 0, 0))), (1, .int (iI ((j : Nat) : Int)))]) hx hb dX3_textNow_68 hl (k := 0) rfl (by omega) (by decide) rfl (fun ls hl => ?_)
          refine lv_goto (tgt := 10) hx hb dX3_textNow_71 (by decide) ?_
          exact W.widen (by omega) (by omega) (ihlp4 (n - (k + 1)) (by omega) (k + 1) len0 arr09 mm09 gr0 f09 rfl (by omega) (by simp only [txL]; rw [if_pos (by omega)]; exact hs0) (by omega) _ _ _  hP hD hS hl)
  exact W.widen (by omega) (by omega) (lp4 _ 0 0 arr0 16 0 (fun _ => 0) rfl (Nat.zero_le _) (⟨rfl, fun j hj => absurd hj (Nat.not_lt_zero j), fun j _ => by show 0 ≤ (0 : Int) ∧ (0 : Int) < 128; decide, by omega, Or.inl ⟨rfl, rfl⟩⟩) (by omega) _ _ _  hP hD hS hl)

theorem zStr.ext0 {G : zG} {H0 H1 H2 : Heap} {y : Nat} {L : List Int} (h : zStr G H1 y L H2) (h0 : H0.size ≤ H1.size) : zStr G H0 y L H2 := h.imp (fun ⟨b, h1, h2⟩ => ⟨b, h1, va_D.weaken h2 (fun _ _ _ z => Nat.le_trans h0 z)⟩) id
abbrev rm_m_X3_text : Room := { frames := 7, cells := 12, slots := 900, locals := 194 }
set_option maxHeartbeats 4000000 in
theorem m_X3_text {l : Launch} {s0 : State} {G : zG} (hE : zE l s0 G) (H0 : Heap) (hO : zO s0 H0) (μ : Ro → Nat) (σ : St) (th : Int) (i : Int) (hh : HM G s0 μ σ th H0) (hi : zi i) : zM l s0 yX3_text cX3_text 2 (some (FieldType.object "java/lang/String")) rm_m_X3_text [.ref (μ (0, 0, 0)), .int (iI i)] H0 (FM G μ σ) (rr (fun y h1 => ∃ (k : Nat), PoM G s0 H0 μ σ σ (k : Int) h1 ∧ ((k = 0 ∧ ∃ a : Nat, (i = a ∧ a < St_ne σ) ∧ zStr G H0 y (txF (St_n σ (St_ea σ a)) (St_ev σ a)) h1) ∨ (k = 1 ∧ ¬ inE σ i)))) := by
  refine z_met hE (by decide +kernel) (Nat.le_of_ble_eq_true rfl) ?_
  intro pp ee ss mm args below meth cd Q ls hC hml hrt hlk hnm hH hQ hS hl
  have hx := hC.x
  have hb := hC.b
  have hl : lv_has ls 2 [(0, .ref (μ (0, 0, 0))), (1, .int (iI i))] := hl
  have hP : va_P G.1 zCl [] H0 := va_nil
  have hD : va_D (zA (FM G μ σ) H0) [] := va_nilD
  have hMo : ∀ z, (FM G μ σ) z → s0.heap.size ≤ z := fun z hz => FM.ge hh.sep hz
  have hH1 := hh
  obtain ⟨hp, hna, hal, hne9, hel9, hmr9⟩ := id hh.ok
  have hp7 : 0 < St_p σ ∧ St_p σ ≤ 7 := by rcases hp with h | h | h <;> rw [h] <;> decide
  have hP : va_P G.1 zCl [((μ (0, 0, 0)), zOb 2 [.int (iI th), .int (iI (St_p σ)), .int (iI ((St_kn σ : Nat) : Int)), .ref (μ (1, 0, 0)), .ref (μ (3, 0, 0))])] H0 := zP1 hh.2.2.1.1
  have hD : va_D (zA (FM G μ σ) H0) [((μ (0, 0, 0)), zOb 2 [.int (iI th), .int (iI (St_p σ)), .int (iI ((St_kn σ : Nat) : Int)), .ref (μ (1, 0, 0)), .ref (μ (3, 0, 0))])] := zD1 (Or.inl (FM.in hE hh.sep (domM0 0 (by omega)) (by simp [rAm])))
  refine lv_aload_n hx hb dX3_text_0 rfl (lv_at hl 0 rfl) ?_
  refine lv_iconst (v := iI 0) hx hb dX3_text_1 rfl ?_
  refine z_putO hC hP hD hS 0 (k := 0) rfl rfl in_X3 tyX3_ok nmX3 (by decide) q1495 (fun _ h => h) rfl rfl rfl rfl (Nat.le_of_ble_eq_true rfl) (ws' := [((μ (0, 0, 0)), zOb 2 [.int (iI 0), .int (iI (St_p σ)), .int (iI ((St_kn σ : Nat) : Int)), .ref (μ (1, 0, 0)), .ref (μ (3, 0, 0))])]) rfl dX3_text_2 (fun H1 locs hP hD hS hZ1 hZ2 => ?_)
  have hH1 : HM G s0 μ σ 0 H1 := HM.thr hE hH1 (zF.one hZ1 hZ2) (hP 0 _ rfl)
  have hP : va_P G.1 zCl [] H1 := va_nil
  have hD : va_D (zA (FM G μ σ) H0) [] := va_nilD
  refine lv_aload_n hx hb dX3_text_5 rfl (lv_at hl 0 rfl) ?_
  refine lv_iload_n hx hb dX3_text_6 rfl (lv_at hl 1 rfl) ?_
  refine z_go 0 0 (z_runV (As := [.int (iI i)]) (rest := []) hC hml hl.1 (m_X3_isElement hE H1 (hO.ext (zS_F hS) hMo) μ σ 0 i hH1 hi) (lw_V q1650 q1652 qs35 q67 q1653) rfl nd_X3_isElement rfl (z_rv hC (ci := 2) rfl hH1.2.2.1.1 rfl) rfl (Nat.le_of_ble_eq_true rfl) ⟨Nat.le_of_ble_eq_true rfl, Nat.le_of_ble_eq_true rfl⟩ ⟨zfit (k := 0) (z := 12) rfl rfl (by omega), zfit (k := 0) (z := 900) rfl rfl (by omega)⟩ dX3_text_7) ⟨zad (k := 0) rfl (by omega), zad (k := 0) rfl (by omega)⟩ hS (fun _ z => z.elim) (fun r H2 locs hp hF hS1 => ?_)
  obtain ⟨_, rfl, rfl⟩ := hp
  have hP := zpk hP hF
  have hP : va_P G.1 zCl ([]) H2 := hP
  have hD : va_D (zA (FM G μ σ) H0) ([]) := hD
  have hH1 : HM G s0 μ σ 0 H2 := hH1.ext0 hE hF
  have hS := hS1
  obtain ⟨fl, hfl, hfl2⟩ : ∃ fl : Nat, fl ≤ 1 ∧ (if 0 ≤ i ∧ i < ((St_ne σ : Nat) : Int) then (1 : Int) else 0) = fl ∧ (fl = 1 ↔ 0 ≤ i ∧ i < ((St_ne σ : Nat) : Int)) := by by_cases h : 0 ≤ i ∧ i < ((St_ne σ : Nat) : Int); exact ⟨1, by decide, by rw [if_pos h]; rfl, ⟨fun _ => h, fun _ => rfl⟩⟩; exact ⟨0, by decide, by rw [if_neg h]; rfl, ⟨fun z => absurd z (by decide), fun z => absurd z h⟩⟩
  refine z_top (b := ((fl : Nat) : Int)) (hfl2.1) ?_
  refine z_zne (tgt := 21) hx hb dX3_text_10 (by decide) (by omega) (fun c3 => ?_) (fun c3 => ?_)
  · have hok9 := hfl2.2.mp (by omega)
    obtain ⟨a, rfl⟩ : ∃ a : Nat, i = a := ⟨i.toNat, by omega⟩
    refine lv_aload_n hx hb dX3_text_21 rfl (lv_at hl 0 rfl) ?_
    refine lv_iload_n hx hb dX3_text_22 rfl (lv_at hl 1 rfl) ?_
    have hsz9 : H0.size ≤ H2.size := hS.1
    refine z_go 12 900 (z_runV (As := [.int (iI ((a : Nat) : Int))]) (rest := []) hC hml hl.1 (m_X3_textNow hE H2 (hO.ext (zS_F hS) hMo) μ σ 0 a hH1 (by omega)) (lw_V q1831 q1833 qs51 q67 q1834) rfl nd_X3_textNow rfl (z_rv hC (ci := 2) rfl hH1.2.2.1.1 rfl) rfl (Nat.le_of_ble_eq_true rfl) ⟨Nat.le_of_ble_eq_true rfl, Nat.le_of_ble_eq_true rfl⟩ ⟨zfit (k := 12) (z := 12) rfl rfl (by omega), zfit (k := 900) (z := 900) rfl rfl (by omega)⟩ dX3_text_23) ⟨zad (k := 12) rfl (by omega), zad (k := 900) rfl (by omega)⟩ hS (fun _ z => z.elim) (fun r H4 locs hp hF hS1 => ?_)
    obtain ⟨qs, rfl, hst⟩ := hp
    have hP : va_P G.1 zCl [] H4 := va_nil
    have hD : va_D (zA (FM G μ σ) H0) [] := va_nilD
    have hP : va_P G.1 zCl ([]) H4 := hP
    have hD : va_D (zA (FM G μ σ) H0) ([]) := hD
    have hH1 : HM G s0 μ σ 0 H4 := hH1.ext0 hE hF
    have hS := hS1
    exact z_aret hC hrt hlk hQ hS ⟨zle (z := 12) rfl (by omega), zle (z := 900) rfl (by omega)⟩ ⟨_, rfl, 0, PoM.same hH1, Or.inl ⟨rfl, a, ⟨by omega, by omega⟩, hst.ext0 hsz9⟩⟩ dX3_text_26
  · have hHb := hH1
    have hP : va_P G.1 zCl [((μ (0, 0, 0)), zOb 2 [.int (iI 0), .int (iI (St_p σ)), .int (iI ((St_kn σ : Nat) : Int)), .ref (μ (1, 0, 0)), .ref (μ (3, 0, 0))])] H2 := zP1 hH1.2.2.1.1
    have hD : va_D (zA (FM G μ σ) H0) [((μ (0, 0, 0)), zOb 2 [.int (iI 0), .int (iI (St_p σ)), .int (iI ((St_kn σ : Nat) : Int)), .ref (μ (1, 0, 0)), .ref (μ (3, 0, 0))])] := zD1 (Or.inl (FM.in hE hh.sep (domM0 0 (by omega)) (by simp [rAm])))
    refine lv_aload_n hx hb dX3_text_13 rfl (lv_at hl 0 rfl) ?_
    refine lv_iconst (v := iI 1) hx hb dX3_text_14 rfl ?_
    refine z_putO hC hP hD hS 0 (k := 0) rfl rfl in_X3 tyX3_ok nmX3 (by decide) q1495 (fun _ h => h) rfl rfl rfl rfl (Nat.le_of_ble_eq_true rfl) (ws' := [((μ (0, 0, 0)), zOb 2 [.int (iI 1), .int (iI (St_p σ)), .int (iI ((St_kn σ : Nat) : Int)), .ref (μ (1, 0, 0)), .ref (μ (3, 0, 0))])]) rfl dX3_text_15 (fun H5 locs hP hD hS hZ1 hZ2 => ?_)
    have hH9 : HM G s0 μ σ 1 H5 := HM.thr hE hHb (zF.one hZ1 hZ2) (hP 0 _ rfl)
    refine z_lds hC hE.2.2.2.1.2.2.2.2.2.2.1.2.2.1 dX3_text_18 ?_
    exact z_aret hC hrt hlk hQ hS ⟨zle (z := 12) rfl (by omega), zle (z := 900) rfl (by omega)⟩ ⟨_, rfl, 1, PoM.same hH9, Or.inr ⟨rfl, fun z9 => by have h9 := hfl2.2.mpr z9; omega⟩⟩ dX3_text_20

