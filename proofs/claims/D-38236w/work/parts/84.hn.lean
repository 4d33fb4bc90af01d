/-! THE MODEL: what one asks of all -/
set_option maxRecDepth 100000
def leT (z : Int) : Bool := FP.f2d (fq z) == FP.ddiv (FP.i2d (iI z)) 4616189618054758400 && n64 (FP.ddiv (FP.i2d (iI z)) 4616189618054758400)
theorem leT_all : ∀ k : Nat, k < 63 → leT ((k : Int) - 31) = true := by decide +kernel
theorem le_T {z : Int} (h : -31 ≤ z ∧ z ≤ 31) : FP.f2d (fq z) = FP.ddiv (FP.i2d (iI z)) 4616189618054758400 ∧ vf_n64 (FP.ddiv (FP.i2d (iI z)) 4616189618054758400) := by
  have := leT_all (z + 31).toNat (by omega)
  rw [show (((z + 31).toNat : Nat) : Int) - 31 = z by omega] at this
  simp only [leT, Bool.and_eq_true, beq_iff_eq] at this
  refine ⟨this.1, ?_⟩
  have h2 := this.2
  unfold n64 at h2
  unfold vf_n64
  exact of_decide_eq_true h2
abbrev rm_m_X3_quarters : Room := { frames := 4, cells := 0, slots := 0, locals := 85 }
set_option maxHeartbeats 4000000 in
theorem m_X3_quarters {l : Launch} {s0 : State} {G : zG} (hE : zE l s0 G) (H0 : Heap) (hO : zO s0 H0) (μ : Ro → Nat) (σ : St) (th : Int) (j : Nat) (hh : HM G s0 μ σ th H0) (hj : j < St_ne σ) : zM l s0 yX3_quarters cX3_quarters 4 (some FieldType.int) rm_m_X3_quarters [.ref (μ (0, 0, 0)), .int (iI ((j : Nat) : Int))] H0 M0 (ri (fun y _ => y = lnV (St_p σ) (St_n σ (St_ea σ j)) (St_ev σ j))) := by
  refine z_met hE (by decide +kernel) (Nat.le_of_ble_eq_true rfl) ?_
  intro pp ee ss mm args below meth cd Q ls hC hml hrt hlk hnm hH hQ hS hl
  have hx := hC.x
  have hb := hC.b
  have hl : lv_has ls 4 [(0, .ref (μ (0, 0, 0))), (1, .int (iI ((j : Nat) : Int)))] := hl
  have hP : va_P G.1 zCl [] H0 := va_nil
  have hD : va_D (zA M0 H0) [] := va_nilD
  have hH1 := hh
  obtain ⟨hp, hna, hal, hne9, hel9, hmr9⟩ := id hh.ok
  have hp7 : 0 < St_p σ ∧ St_p σ ≤ 7 := by rcases hp with h | h | h <;> rw [h] <;> decide
  have heaj := hh.ea hj
  have hnn := hh.n heaj
  have hvj := hh.row hj
  refine lv_iconst (v := iI 0) hx hb dX3_quarters_0 rfl ?_
  refine lv_istore_n (lv' := [(2, .int (iI 0)), (0, .ref (μ (0, 0, 0))), (1, .int (iI ((j : Nat) : Int)))]) hx hb dX3_quarters_1 rfl hl (by decide) rfl (fun ls hl => ?_)
  refine lv_iconst (v := iI 0) hx hb dX3_quarters_2 rfl ?_
  refine lv_istore_n (lv' := [(3, .int (iI 0)), (2, .int (iI 0)), (0, .ref (μ (0, 0, 0))), (1, .int (iI ((j : Nat) : Int)))]) hx hb dX3_quarters_3 rfl hl (by decide) rfl (fun ls hl => ?_)
  have lp1 : ∀ (dlp1 : Nat) (k : Nat) (z : Int), St_n σ (St_ea σ j) - k = dlp1 → (k ≤ St_n σ (St_ea σ j)) → (z = lnS (St_p σ) (St_ev σ j) k) → ∀ (H2 : Heap) (locs : List Loc) (ls : Array Slot), va_P G.1 zCl ([]) H2 → va_D (zA M0 H0) ([]) → va_S (zA M0 H0) H0 H2 locs → lv_has ls 4 [(3, .int (iI ((k : Nat) : Int))), (2, .int (iI z)), (0, .ref (μ (0, 0, 0))), (1, .int (iI ((j : Nat) : Int)))] → W pp l ee rm_m_X3_quarters ss mm args below meth cd H2 locs 0 0 Q (F0 mm 4 ls []) := by
    intro dlp1
    induction dlp1 using Nat.strongRecOn with
    | ind dlp1 ihlp1 =>
      intro k z hdlp1 hk hz H2 locs ls  hP hD hS hl
      have hzb := lnS_in hp hvj hnn.2 k hk
      have hH1 : HM G s0 μ σ th H2 := hh.ext0 hE (zS_F hS)
      have hxx := hH1.2.2.1.1
      refine lv_iload_n hx hb dX3_quarters_4 rfl (lv_at hl 0 rfl) ?_
      refine lv_aload_n hx hb dX3_quarters_5 rfl (lv_at hl 2 rfl) ?_
      refine lv_iload_n hx hb dX3_quarters_6 rfl (lv_at hl 3 rfl) ?_
      have hH1 : HM G s0 μ σ th H2 := hh.ext0 hE (zS_F hS)
      refine z_go 0 0 (z_runV (As := [.int (iI ((j : Nat) : Int))]) (rest := [.int (iI ((k : Nat) : Int))]) hC hml hl.1 (m_X3_row hE H2 (hO.ext0 (zS_F hS)) μ σ th j hH1 hj) (lw_V q1654 q1656 qs36 q67 q1657) rfl nd_X3_row rfl (z_rv hC (ci := 2) rfl hH1.2.2.1.1 rfl) rfl (Nat.le_of_ble_eq_true rfl) ⟨Nat.le_of_ble_eq_true rfl, Nat.le_of_ble_eq_true rfl⟩ ⟨zfit (k := 0) (z := 0) rfl rfl (by omega), zfit (k := 0) (z := 0) rfl rfl (by omega)⟩ dX3_quarters_7) ⟨zad (k := 0) rfl (by omega), zad (k := 0) rfl (by omega)⟩ hS (fun _ z => z.elim) (fun r H3 locs hp hF hS1 => ?_)
      obtain ⟨_, rfl, rfl⟩ := hp
      have hP := zpk hP hF
      have hP : va_P G.1 zCl ([]) H3 := hP
      have hD : va_D (zA M0 H0) ([]) := hD
      have hS := hS1
      have hH1 : HM G s0 μ σ th H3 := hh.ext0 hE (zS_F hS)
      have hRj := (hH1.el (j := j) (by omega)).2
      have hVj := hH1.row (j := j) (by omega)
      refine z_alen hC 0 hRj rfl (y := ((St_n σ (St_ea σ j) : Nat) : Int)) rfl dX3_quarters_10 ?_
      refine z_cge (tgt := 65) hx hb dX3_quarters_11 (by decide) (by omega) (fun c4 => ?_) (fun c4 => ?_)
      · have ek : k = St_n σ (St_ea σ j) := by omega
        have hzz : z = lnS (St_p σ) (St_ev σ j) (St_n σ (St_ea σ j)) := by rw [hz, ek]
        refine lv_aload_n hx hb dX3_quarters_65 rfl (lv_at hl 2 rfl) ?_
        refine lv_iload_n hx hb dX3_quarters_66 rfl (lv_at hl 3 rfl) ?_
        have hH1 : HM G s0 μ σ th H3 := hh.ext0 hE (zS_F hS)
        refine z_go 0 0 (z_runV (As := [.int (iI ((j : Nat) : Int))]) (rest := []) hC hml hl.1 (m_X3_row hE H3 (hO.ext0 (zS_F hS)) μ σ th j hH1 hj) (lw_V q1654 q1656 qs36 q67 q1657) rfl nd_X3_row rfl (z_rv hC (ci := 2) rfl hH1.2.2.1.1 rfl) rfl (Nat.le_of_ble_eq_true rfl) ⟨Nat.le_of_ble_eq_true rfl, Nat.le_of_ble_eq_true rfl⟩ ⟨zfit (k := 0) (z := 0) rfl rfl (by omega), zfit (k := 0) (z := 0) rfl rfl (by omega)⟩ dX3_quarters_67) ⟨zad (k := 0) rfl (by omega), zad (k := 0) rfl (by omega)⟩ hS (fun _ z => z.elim) (fun r H5 locs hp hF hS1 => ?_)
        obtain ⟨_, rfl, rfl⟩ := hp
        have hP := zpk hP hF
        have hP : va_P G.1 zCl ([]) H5 := hP
        have hD : va_D (zA M0 H0) ([]) := hD
        have hS := hS1
        have hH1 : HM G s0 μ σ th H5 := hh.ext0 hE (zS_F hS)
        have hRj := (hH1.el (j := j) (by omega)).2
        have hVj := hH1.row (j := j) (by omega)
        refine z_go 0 0 (z_runS (As := [.ref (μ (14, j, 0))]) (rest := []) hC hml hl.1 (m_X3_isPlain hE H5 (hO.ext0 (zS_F hS)) (μ (14, j, 0)) (St_n σ (St_ea σ j)) (St_ev σ j) hRj (fun j9 hj9 => by have := hVj j9 hj9; omega) hnn) (lw_S q1723 q1724 q67 q1725) nd_X3_isPlain rfl rfl (Nat.le_of_ble_eq_true rfl) ⟨Nat.le_of_ble_eq_true rfl, Nat.le_of_ble_eq_true rfl⟩ ⟨zfit (k := 0) (z := 0) rfl rfl (by omega), zfit (k := 0) (z := 0) rfl rfl (by omega)⟩ dX3_quarters_70) ⟨zad (k := 0) rfl (by omega), zad (k := 0) rfl (by omega)⟩ hS (fun _ z => z.elim) (fun r H6 locs hp hF hS1 => ?_)
        obtain ⟨_, rfl, rfl⟩ := hp
        have hP := zpk hP hF
        have hP : va_P G.1 zCl ([]) H6 := hP
        have hD : va_D (zA M0 H0) ([]) := hD
        have hS := hS1
        refine z_zeq (tgt := 84) hx hb dX3_quarters_73 (by decide) (by unfold b2i; split <;> omega) (fun cp => ?_) (fun cp => ?_)
        · refine lv_iload_n hx hb dX3_quarters_84 rfl (lv_at hl 1 rfl) ?_
          refine lv_bipush (v := iI 32) hx hb dX3_quarters_85 (by decide) ?_
          refine z_rem hx hb (z := Int.tmod z 32) dX3_quarters_87 (by omega) rfl ?_
          exact z_iret hC hrt hlk hQ hS ⟨zle (z := 0) rfl (by omega), zle (z := 0) rfl (by omega)⟩ ⟨_, rfl, by unfold lnV; rw [if_neg (by rw [b2i_z cp]; decide), ← hzz]⟩ dX3_quarters_88
        · refine lv_iload_n hx hb dX3_quarters_76 rfl (lv_at hl 1 rfl) ?_
          refine lv_bipush (v := iI 32) hx hb dX3_quarters_77 (by decide) ?_
          refine z_rem hx hb (z := Int.tmod z 32) dX3_quarters_79 (by omega) rfl ?_
          refine z_neg hx hb (z := -(Int.tmod z 32)) dX3_quarters_80 rfl ?_
          refine lv_goto (tgt := 88) hx hb dX3_quarters_81 (by decide) ?_
          exact z_iret hC hrt hlk hQ hS ⟨zle (z := 0) rfl (by omega), zle (z := 0) rfl (by omega)⟩ ⟨_, rfl, by unfold lnV; rw [if_pos (b2i_nz cp), ← hzz]⟩ dX3_quarters_88
      · have hvk := hvj k (by omega)
        refine lv_iload_n hx hb dX3_quarters_14 rfl (lv_at hl 1 rfl) ?_
        refine lv_aload_n hx hb dX3_quarters_15 rfl (lv_at hl 2 rfl) ?_
        refine lv_iload_n hx hb dX3_quarters_16 rfl (lv_at hl 3 rfl) ?_
        have hH1 : HM G s0 μ σ th H3 := hh.ext0 hE (zS_F hS)
        refine z_go 0 0 (z_runV (As := [.int (iI ((j : Nat) : Int))]) (rest := [.int (iI z)]) hC hml hl.1 (m_X3_row hE H3 (hO.ext0 (zS_F hS)) μ σ th j hH1 hj) (lw_V q1654 q1656 qs36 q67 q1657) rfl nd_X3_row rfl (z_rv hC (ci := 2) rfl hH1.2.2.1.1 rfl) rfl (Nat.le_of_ble_eq_true rfl) ⟨Nat.le_of_ble_eq_true rfl, Nat.le_of_ble_eq_true rfl⟩ ⟨zfit (k := 0) (z := 0) rfl rfl (by omega), zfit (k := 0) (z := 0) rfl rfl (by omega)⟩ dX3_quarters_17) ⟨zad (k := 0) rfl (by omega), zad (k := 0) rfl (by omega)⟩ hS (fun _ z => z.elim) (fun r H7 locs hp hF hS1 => ?_)
        obtain ⟨_, rfl, rfl⟩ := hp
        have hP := zpk hP hF
        have hP : va_P G.1 zCl ([]) H7 := hP
        have hD : va_D (zA M0 H0) ([]) := hD
        have hS := hS1
        have hH1 : HM G s0 μ σ th H7 := hh.ext0 hE (zS_F hS)
        have hRj := (hH1.el (j := j) (by omega)).2
        have hVj := hH1.row (j := j) (by omega)
        have hH1 : HM G s0 μ σ th H7 := hh.ext0 hE (zS_F hS)
        have hxx := hH1.2.2.1.1
        refine lv_iload_n hx hb dX3_quarters_20 rfl (lv_at hl 0 rfl) ?_
        refine z_iald hC hRj (k := k) rfl (by omega) (y := (St_ev σ j) k) rfl dX3_quarters_21 ?_
        refine lv_aload_n hx hb dX3_quarters_22 rfl (lv_at hl 2 rfl) ?_
        have hH1 : HM G s0 μ σ th H7 := hh.ext0 hE (zS_F hS)
        have hxx := hH1.2.2.1.1
        refine z_get hC (k := 1) rfl in_X3 hxx (by decide) q1496 (fun _ h => h) rfl dX3_quarters_23 ?_
        refine lv_iconst (v := iI 2) hx hb dX3_quarters_26 rfl ?_
        refine z_div hx hb (z := Int.tdiv (St_p σ) 2) dX3_quarters_27 (by omega) rfl ?_
        refine z_top (b := St_p σ / 2) (Int.tdiv_eq_ediv_of_nonneg (by omega)) ?_
        refine z_cle (tgt := 46) hx hb dX3_quarters_28 (by decide) (by omega) (fun c8 => ?_) (fun c8 => ?_)
        · refine lv_aload_n hx hb dX3_quarters_46 rfl (lv_at hl 2 rfl) ?_
          refine lv_iload_n hx hb dX3_quarters_47 rfl (lv_at hl 3 rfl) ?_
          have hH1 : HM G s0 μ σ th H7 := hh.ext0 hE (zS_F hS)
          refine z_go 0 0 (z_runV (As := [.int (iI ((j : Nat) : Int))]) (rest := [.int (iI z)]) hC hml hl.1 (m_X3_row hE H7 (hO.ext0 (zS_F hS)) μ σ th j hH1 hj) (lw_V q1654 q1656 qs36 q67 q1657) rfl nd_X3_row rfl (z_rv hC (ci := 2) rfl hH1.2.2.1.1 rfl) rfl (Nat.le_of_ble_eq_true rfl) ⟨Nat.le_of_ble_eq_true rfl, Nat.le_of_ble_eq_true rfl⟩ ⟨zfit (k := 0) (z := 0) rfl rfl (by omega), zfit (k := 0) (z := 0) rfl rfl (by omega)⟩ dX3_quarters_48) ⟨zad (k := 0) rfl (by omega), zad (k := 0) rfl (by omega)⟩ hS (fun _ z => z.elim) (fun r H9 locs hp hF hS1 => ?_)
          obtain ⟨_, rfl, rfl⟩ := hp
          have hP := zpk hP hF
          have hP : va_P G.1 zCl ([]) H9 := hP
          have hD : va_D (zA M0 H0) ([]) := hD
          have hS := hS1
          have hH1 : HM G s0 μ σ th H9 := hh.ext0 hE (zS_F hS)
          have hRj := (hH1.el (j := j) (by omega)).2
          have hVj := hH1.row (j := j) (by omega)
          refine lv_iload_n hx hb dX3_quarters_51 rfl (lv_at hl 0 rfl) ?_
          refine z_iald hC hRj (k := k) rfl (by omega) (y := (St_ev σ j) k) rfl dX3_quarters_52 ?_
          refine z_top (b := sgV (St_p σ) (St_ev σ j k)) (by unfold sgV; rw [if_neg (by omega)]) ?_
          refine lv_iload_n hx hb dX3_quarters_53 rfl (lv_at hl 0 rfl) ?_
          refine lv_iconst (v := iI 1) hx hb dX3_quarters_54 rfl ?_
          refine z_add hx hb (z := ((k : Nat) : Int) + 1) dX3_quarters_55 rfl ?_
          refine z_mul hx hb (z := (sgV (St_p σ) (St_ev σ j k)) * (((k : Nat) : Int) + 1)) dX3_quarters_56 rfl ?_
          refine z_top (b := ((k : Int) + 1) * sgV (St_p σ) (St_ev σ j k)) (Int.mul_comm _ _) ?_
          refine z_add hx hb (z := z + (((k : Int) + 1) * sgV (St_p σ) (St_ev σ j k))) dX3_quarters_57 rfl ?_
          refine lv_istore_n (lv' := [(2, .int (iI (z + (((k : Int) + 1) * sgV (St_p σ) (St_ev σ j k))))), (3, .int (iI ((k : Nat) : Int))), (0, .ref (μ (0, 0, 0))), (1, .int (iI ((j : Nat) : Int)))]) hx hb dX3_quarters_58 rfl hl (by decide) rfl (fun ls hl => ?_)
          refine z_iinc (z := ((k + 1 : Nat) : Int)) (lv' := [(3, .int (iI ((k + 1 : Nat) : Int))), (2, .int (iI (z + (((k : Int) + 1) * sgV (St_p σ) (St_ev σ j k))))), (0, .ref (μ (0, 0, 0))), (1, .int (iI ((j : Nat) : Int)))]) hx hb dX3_quarters_59 hl (k := 1) rfl (by omega) (by decide) rfl (fun ls hl => ?_)
          refine lv_goto (tgt := 4) hx hb dX3_quarters_62 (by decide) ?_
          exact W.widen (by omega) (by omega) (ihlp1 (St_n σ (St_ea σ j) - (k + 1)) (by omega) (k + 1) (z + ((k : Int) + 1) * sgV (St_p σ) (St_ev σ j k)) rfl (by omega) (by rw [hz]; rfl) _ _ _  hP hD hS hl)
        · refine lv_aload_n hx hb dX3_quarters_31 rfl (lv_at hl 2 rfl) ?_
          refine lv_iload_n hx hb dX3_quarters_32 rfl (lv_at hl 3 rfl) ?_
          have hH1 : HM G s0 μ σ th H7 := hh.ext0 hE (zS_F hS)
          refine z_go 0 0 (z_runV (As := [.int (iI ((j : Nat) : Int))]) (rest := [.int (iI z)]) hC hml hl.1 (m_X3_row hE H7 (hO.ext0 (zS_F hS)) μ σ th j hH1 hj) (lw_V q1654 q1656 qs36 q67 q1657) rfl nd_X3_row rfl (z_rv hC (ci := 2) rfl hH1.2.2.1.1 rfl) rfl (Nat.le_of_ble_eq_true rfl) ⟨Nat.le_of_ble_eq_true rfl, Nat.le_of_ble_eq_true rfl⟩ ⟨zfit (k := 0) (z := 0) rfl rfl (by omega), zfit (k := 0) (z := 0) rfl rfl (by omega)⟩ dX3_quarters_33) ⟨zad (k := 0) rfl (by omega), zad (k := 0) rfl (by omega)⟩ hS (fun _ z => z.elim) (fun r H10 locs hp hF hS1 => ?_)
          obtain ⟨_, rfl, rfl⟩ := hp
          have hP := zpk hP hF
          have hP : va_P G.1 zCl ([]) H10 := hP
          have hD : va_D (zA M0 H0) ([]) := hD
          have hS := hS1
          have hH1 : HM G s0 μ σ th H10 := hh.ext0 hE (zS_F hS)
          have hRj := (hH1.el (j := j) (by omega)).2
          have hVj := hH1.row (j := j) (by omega)
          refine lv_iload_n hx hb dX3_quarters_36 rfl (lv_at hl 0 rfl) ?_
          refine z_iald hC hRj (k := k) rfl (by omega) (y := (St_ev σ j) k) rfl dX3_quarters_37 ?_
          refine lv_aload_n hx hb dX3_quarters_38 rfl (lv_at hl 2 rfl) ?_
          have hH1 : HM G s0 μ σ th H10 := hh.ext0 hE (zS_F hS)
          have hxx := hH1.2.2.1.1
          refine z_get hC (k := 1) rfl in_X3 hxx (by decide) q1496 (fun _ h => h) rfl dX3_quarters_39 ?_
          refine z_sub hx hb (z := ((St_ev σ j) k) - (St_p σ)) dX3_quarters_42 rfl ?_
          refine z_top (b := sgV (St_p σ) (St_ev σ j k)) (by unfold sgV; rw [if_pos (by omega)]) ?_
          refine lv_goto (tgt := 53) hx hb dX3_quarters_43 (by decide) ?_
          refine lv_iload_n hx hb dX3_quarters_53 rfl (lv_at hl 0 rfl) ?_
          refine lv_iconst (v := iI 1) hx hb dX3_quarters_54 rfl ?_
          refine z_add hx hb (z := ((k : Nat) : Int) + 1) dX3_quarters_55 rfl ?_
          refine z_mul hx hb (z := (sgV (St_p σ) (St_ev σ j k)) * (((k : Nat) : Int) + 1)) dX3_quarters_56 rfl ?_
          refine z_top (b := ((k : Int) + 1) * sgV (St_p σ) (St_ev σ j k)) (Int.mul_comm _ _) ?_
          refine z_add hx hb (z := z + (((k : Int) + 1) * sgV (St_p σ) (St_ev σ j k))) dX3_quarters_57 rfl ?_
          refine lv_istore_n (lv' := [(2, .int (iI (z + (((k : Int) + 1) * sgV (St_p σ) (St_ev σ j k))))), (3, .int (iI ((k : Nat) : Int))), (0, .ref (μ (0, 0, 0))), (1, .int (iI ((j : Nat) : Int)))]) hx hb dX3_quarters_58 rfl hl (by decide) rfl (fun ls hl => ?_)
          refine z_iinc (z := ((k + 1 : Nat) : Int)) (lv' := [(3, .int (iI ((k + 1 : Nat) : Int))), (2, .int (iI (z + (((k : Int) + 1) * sgV (St_p σ) (St_ev σ j k))))), (0, .ref (μ (0, 0, 0))), (1, .int (iI ((j : Nat) : Int)))]) hx hb dX3_quarters_59 hl (k := 1) rfl (by omega) (by decide) rfl (fun ls hl => ?_)
          refine lv_goto (tgt := 4) hx hb dX3_quarters_62 (by decide) ?_
          exact W.widen (by omega) (by omega) (ihlp1 (St_n σ (St_ea σ j) - (k + 1)) (by omega) (k + 1) (z + ((k : Int) + 1) * sgV (St_p σ) (St_ev σ j k)) rfl (by omega) (by rw [hz]; rfl) _ _ _  hP hD hS hl)
  exact W.widen (by omega) (by omega) (lp1 _ 0 0 rfl (Nat.zero_le _) rfl _ _ _  hP hD hS hl)

abbrev rm_m_X3_allQuarters : Room := { frames := 5, cells := 0, slots := 0, locals := 108 }
set_option maxHeartbeats 4000000 in
theorem m_X3_allQuarters {l : Launch} {s0 : State} {G : zG} (hE : zE l s0 G) (H0 : Heap) (hO : zO s0 H0) (μ : Ro → Nat) (σ : St) (th : Int) (hh : HM G s0 μ σ th H0) : zM l s0 yX3_allQuarters cX3_allQuarters 3 (some FieldType.int) rm_m_X3_allQuarters [.ref (μ (0, 0, 0))] H0 M0 (ri (fun y _ => y = leS σ)) := by
  refine z_met hE (by decide +kernel) (Nat.le_of_ble_eq_true rfl) ?_
  intro pp ee ss mm args below meth cd Q ls hC hml hrt hlk hnm hH hQ hS hl
  have hx := hC.x
  have hb := hC.b
  have hl : lv_has ls 3 [(0, .ref (μ (0, 0, 0)))] := hl
  have hP : va_P G.1 zCl [] H0 := va_nil
  have hD : va_D (zA M0 H0) [] := va_nilD
  have hH1 := hh
  obtain ⟨hp, hna, hal, hne9, hel9, hmr9⟩ := id hh.ok
  have hp7 : 0 < St_p σ ∧ St_p σ ≤ 7 := by rcases hp with h | h | h <;> rw [h] <;> decide
  refine lv_iconst (v := iI 0) hx hb dX3_allQuarters_0 rfl ?_
  refine lv_istore_n (lv' := [(1, .int (iI 0)), (0, .ref (μ (0, 0, 0)))]) hx hb dX3_allQuarters_1 rfl hl (by decide) rfl (fun ls hl => ?_)
  refine lv_iconst (v := iI 0) hx hb dX3_allQuarters_2 rfl ?_
  refine lv_istore_n (lv' := [(2, .int (iI 0)), (1, .int (iI 0)), (0, .ref (μ (0, 0, 0)))]) hx hb dX3_allQuarters_3 rfl hl (by decide) rfl (fun ls hl => ?_)
  have lp1 : ∀ (dlp1 : Nat) (k : Nat) (z : Int), St_ne σ - k = dlp1 → (k ≤ St_ne σ) → (z = suZ (leF σ) k) → ∀ (H2 : Heap) (locs : List Loc) (ls : Array Slot), va_P G.1 zCl ([]) H2 → va_D (zA M0 H0) ([]) → va_S (zA M0 H0) H0 H2 locs → lv_has ls 3 [(2, .int (iI ((k : Nat) : Int))), (1, .int (iI z)), (0, .ref (μ (0, 0, 0)))] → W pp l ee rm_m_X3_allQuarters ss mm args below meth cd H2 locs 0 0 Q (F0 mm 4 ls []) := by
    intro dlp1
    induction dlp1 using Nat.strongRecOn with
    | ind dlp1 ihlp1 =>
      intro k z hdlp1 hk hz H2 locs ls  hP hD hS hl
      have hH1 : HM G s0 μ σ th H2 := hh.ext0 hE (zS_F hS)
      have hxx := hH1.2.2.1.1
      refine lv_iload_n hx hb dX3_allQuarters_4 rfl (lv_at hl 0 rfl) ?_
      refine lv_aload_n hx hb dX3_allQuarters_5 rfl (lv_at hl 2 rfl) ?_
      refine z_get hC (k := 4) rfl in_X3 hxx (by decide) q1500 (fun _ h => h) rfl dX3_allQuarters_6 ?_
      have hH1 : HM G s0 μ σ th H2 := hh.ext0 hE (zS_F hS)
      obtain ⟨mde, hLe⟩ := id hH1.2.2.1.2.2
      refine z_go5 0 0 (z_runF (n := 0) (As := []) (rest := [.int (iI ((k : Nat) : Int))]) (ci := 8) hC hml hl.1 (m_J2_size hE H2 (hO.ext0 (zS_F hS)) (μ (3, 0, 0)) (St_ne σ) (fun j => μ (13, j, 0)) (μ (4, 0, 0)) mde hLe) q232 q1525 q1529 q230 q65 q1527 q1526 q1531 q1530 q1528 ⟨by decide +kernel, by decide +kernel, by decide +kernel⟩ rfl rfl rfl (z_rv hC (ci := 8) rfl hLe.1 rfl) rfl (Nat.le_of_ble_eq_true rfl) ⟨Nat.le_of_ble_eq_true rfl, Nat.le_of_ble_eq_true rfl⟩ ⟨zfit (k := 0) (z := 0) rfl rfl (by omega), zfit (k := 0) (z := 0) rfl rfl (by omega)⟩ dX3_allQuarters_9) ⟨zad (k := 0) rfl (by omega), zad (k := 0) rfl (by omega)⟩ hS (fun _ z => z.elim) (fun r H3 locs hp hF hS1 => ?_)
      obtain ⟨_, rfl, rfl⟩ := hp
      have hP := zpk hP hF
      have hP : va_P G.1 zCl ([]) H3 := hP
      have hD : va_D (zA M0 H0) ([]) := hD
      have hS := hS1
      refine z_cge (tgt := 31) hx hb dX3_allQuarters_14 (by decide) (by omega) (fun c4 => ?_) (fun c4 => ?_)
      · have ek : k = St_ne σ := by omega
        refine lv_iload_n hx hb dX3_allQuarters_31 rfl (lv_at hl 1 rfl) ?_
        exact z_iret hC hrt hlk hQ hS ⟨zle (z := 0) rfl (by omega), zle (z := 0) rfl (by omega)⟩ ⟨_, rfl, by rw [hz, ek]; rfl⟩ dX3_allQuarters_32
      · refine lv_iload_n hx hb dX3_allQuarters_17 rfl (lv_at hl 1 rfl) ?_
        refine lv_aload_n hx hb dX3_allQuarters_18 rfl (lv_at hl 2 rfl) ?_
        refine lv_iload_n hx hb dX3_allQuarters_19 rfl (lv_at hl 0 rfl) ?_
        have hH1 : HM G s0 μ σ th H3 := hh.ext0 hE (zS_F hS)
        refine z_go 0 0 (z_runV (As := [.int (iI ((k : Nat) : Int))]) (rest := [.int (iI z)]) hC hml hl.1 (m_X3_quarters hE H3 (hO.ext0 (zS_F hS)) μ σ th k hH1 (by omega)) (lw_V q1878 q1880 qs54 q67 q1881) rfl nd_X3_quarters rfl (z_rv hC (ci := 2) rfl hH1.2.2.1.1 rfl) rfl (Nat.le_of_ble_eq_true rfl) ⟨Nat.le_of_ble_eq_true rfl, Nat.le_of_ble_eq_true rfl⟩ ⟨zfit (k := 0) (z := 0) rfl rfl (by omega), zfit (k := 0) (z := 0) rfl rfl (by omega)⟩ dX3_allQuarters_20) ⟨zad (k := 0) rfl (by omega), zad (k := 0) rfl (by omega)⟩ hS (fun _ z => z.elim) (fun r H5 locs hp hF hS1 => ?_)
        obtain ⟨_, rfl, rfl⟩ := hp
        have hP := zpk hP hF
        have hP : va_P G.1 zCl ([]) H5 := hP
        have hD : va_D (zA M0 H0) ([]) := hD
        have hS := hS1
        refine z_add hx hb (z := z + (leF σ k)) dX3_allQuarters_23 rfl ?_
        refine lv_istore_n (lv' := [(1, .int (iI (z + (leF σ k)))), (2, .int (iI ((k : Nat) : Int))), (0, .ref (μ (0, 0, 0)))]) hx hb dX3_allQuarters_24 rfl hl (by decide) rfl (fun ls hl => ?_)
        refine z_iinc (z := ((k + 1 : Nat) : Int)) (lv' := [(2, .int (iI ((k + 1 : Nat) : Int))), (1, .int (iI (z + (leF σ k)))), (0, .ref (μ (0, 0, 0)))]) hx hb dX3_allQuarters_25 hl (k := 1) rfl (by omega) (by decide) rfl (fun ls hl => ?_)
        refine lv_goto (tgt := 4) hx hb dX3_allQuarters_28 (by decide) ?_
        exact W.widen (by omega) (by omega) (ihlp1 (St_ne σ - (k + 1)) (by omega) (k + 1) (z + leF σ k) rfl (by omega) (by rw [hz]; rfl) _ _ _  hP hD hS hl)
  exact W.widen (by omega) (by omega) (lp1 _ 0 0 rfl (Nat.zero_le _) rfl _ _ _  hP hD hS hl)

abbrev rm_m_X3_meanSize : Room := { frames := 4, cells := 0, slots := 0, locals := 85 }
set_option maxHeartbeats 4000000 in
theorem m_X3_meanSize {l : Launch} {s0 : State} {G : zG} (hE : zE l s0 G) (H0 : Heap) (hO : zO s0 H0) (μ : Ro → Nat) (σ : St) (th : Int) (hh : HM G s0 μ σ th H0) : zM l s0 yX3_meanSize cX3_meanSize 3 (some FieldType.double) rm_m_X3_meanSize [.ref (μ (0, 0, 0))] H0 (FM G μ σ) (rd (fun y h1 => y = mnV σ ∧ PoM G s0 H0 μ σ σ 0 h1)) := by
  refine z_met hE (by decide +kernel) (Nat.le_of_ble_eq_true rfl) ?_
  intro pp ee ss mm args below meth cd Q ls hC hml hrt hlk hnm hH hQ hS hl
  have hx := hC.x
  have hb := hC.b
  have hl : lv_has ls 3 [(0, .ref (μ (0, 0, 0)))] := hl
  have hP : va_P G.1 zCl [] H0 := va_nil
  have hD : va_D (zA (FM G μ σ) H0) [] := va_nilD
  have hMo : ∀ z, (FM G μ σ) z → s0.heap.size ≤ z := fun z hz => FM.ge hh.sep hz
  have hH1 := hh
  obtain ⟨hp, hna, hal, hne9, hel9, hmr9⟩ := id hh.ok
  have hp7 : 0 < St_p σ ∧ St_p σ ≤ 7 := by rcases hp with h | h | h <;> rw [h] <;> decide
  have hP : va_P G.1 zCl [((μ (0, 0, 0)), zOb 2 [.int (iI th), .int (iI (St_p σ)), .int (iI ((St_kn σ : Nat) : Int)), .ref (μ (1, 0, 0)), .ref (μ (3, 0, 0))])] H0 := zP1 hh.2.2.1.1
  have hD : va_D (zA (FM G μ σ) H0) [((μ (0, 0, 0)), zOb 2 [.int (iI th), .int (iI (St_p σ)), .int (iI ((St_kn σ : Nat) : Int)), .ref (μ (1, 0, 0)), .ref (μ (3, 0, 0))])] := zD1 (Or.inl (FM.in hE hh.sep (domM0 0 (by omega)) (by simp [rAm])))
  refine lv_aload_n hx hb dX3_meanSize_0 rfl (lv_at hl 0 rfl) ?_
  refine lv_iconst (v := iI 0) hx hb dX3_meanSize_1 rfl ?_
  refine z_putO hC hP hD hS 0 (k := 0) rfl rfl in_X3 tyX3_ok nmX3 (by decide) q1495 (fun _ h => h) rfl rfl rfl rfl (Nat.le_of_ble_eq_true rfl) (ws' := [((μ (0, 0, 0)), zOb 2 [.int (iI 0), .int (iI (St_p σ)), .int (iI ((St_kn σ : Nat) : Int)), .ref (μ (1, 0, 0)), .ref (μ (3, 0, 0))])]) rfl dX3_meanSize_2 (fun H1 locs hP hD hS hZ1 hZ2 => ?_)
  have hH1 : HM G s0 μ σ 0 H1 := HM.thr hE hH1 (zF.one hZ1 hZ2) (hP 0 _ rfl)
  have hP : va_P G.1 zCl [] H1 := va_nil
  have hD : va_D (zA (FM G μ σ) H0) [] := va_nilD
  refine lv_iconst (v := iI 0) hx hb dX3_meanSize_5 rfl ?_
  refine lv_istore_n (lv' := [(1, .int (iI 0)), (0, .ref (μ (0, 0, 0)))]) hx hb dX3_meanSize_6 rfl hl (by decide) rfl (fun ls hl => ?_)
  refine lv_iconst (v := iI 0) hx hb dX3_meanSize_7 rfl ?_
  refine lv_istore_n (lv' := [(2, .int (iI 0)), (1, .int (iI 0)), (0, .ref (μ (0, 0, 0)))]) hx hb dX3_meanSize_8 rfl hl (by decide) rfl (fun ls hl => ?_)
  have hszn := fun j hj => szF_16 (hh.n (hh.ea (j := j) hj)).2
  have lp2 : ∀ (dlp2 : Nat) (k : Nat) (c : Nat), St_ne σ - k = dlp2 → (k ≤ St_ne σ) → (c = suN (szF σ) k) → ∀ (H3 : Heap) (locs : List Loc) (ls : Array Slot), (HM G s0 μ σ 0 H3) → va_P G.1 zCl ([]) H3 → va_D (zA (FM G μ σ) H0) ([]) → va_S (zA (FM G μ σ) H0) H0 H3 locs → lv_has ls 3 [(2, .int (iI ((k : Nat) : Int))), (1, .int (iI ((c : Nat) : Int))), (0, .ref (μ (0, 0, 0)))] → W pp l ee rm_m_X3_meanSize ss mm args below meth cd H3 locs 0 0 Q (F0 mm 9 ls []) := by
    intro dlp2
    induction dlp2 using Nat.strongRecOn with
    | ind dlp2 ihlp2 =>
      intro k c hdlp2 hk hc H3 locs ls hH1 hP hD hS hl
      have hxx := hH1.2.2.1.1
      refine lv_iload_n hx hb dX3_meanSize_9 rfl (lv_at hl 0 rfl) ?_
      refine lv_aload_n hx hb dX3_meanSize_10 rfl (lv_at hl 2 rfl) ?_
      refine z_get hC (k := 4) rfl in_X3 hxx (by decide) q1500 (fun _ h => h) rfl dX3_meanSize_11 ?_
      obtain ⟨mde, hLe⟩ := id hH1.2.2.1.2.2
      refine z_go5 0 0 (z_runF (n := 0) (As := []) (rest := [.int (iI ((k : Nat) : Int))]) (ci := 8) hC hml hl.1 (m_J2_size hE H3 (hO.ext (zS_F hS) hMo) (μ (3, 0, 0)) (St_ne σ) (fun j => μ (13, j, 0)) (μ (4, 0, 0)) mde hLe) q232 q1525 q1529 q230 q65 q1527 q1526 q1531 q1530 q1528 ⟨by decide +kernel, by decide +kernel, by decide +kernel⟩ rfl rfl rfl (z_rv hC (ci := 8) rfl hLe.1 rfl) rfl (Nat.le_of_ble_eq_true rfl) ⟨Nat.le_of_ble_eq_true rfl, Nat.le_of_ble_eq_true rfl⟩ ⟨zfit (k := 0) (z := 0) rfl rfl (by omega), zfit (k := 0) (z := 0) rfl rfl (by omega)⟩ dX3_meanSize_14) ⟨zad (k := 0) rfl (by omega), zad (k := 0) rfl (by omega)⟩ hS (fun _ z => z.elim) (fun r H4 locs hp hF hS1 => ?_)
      obtain ⟨_, rfl, rfl⟩ := hp
      have hP := zpk hP hF
      have hP : va_P G.1 zCl ([]) H4 := hP
      have hD : va_D (zA (FM G μ σ) H0) ([]) := hD
      have hH1 : HM G s0 μ σ 0 H4 := hH1.ext0 hE hF
      have hS := hS1
      refine z_cge (tgt := 39) hx hb dX3_meanSize_19 (by decide) (by omega) (fun c5 => ?_) (fun c5 => ?_)
      · have ek : k = St_ne σ := by omega
        rw [hc, ek] at hl
        have hxx := hH1.2.2.1.1
        refine lv_aload_n hx hb dX3_meanSize_39 rfl (lv_at hl 2 rfl) ?_
        refine z_get hC (k := 4) rfl in_X3 hxx (by decide) q1500 (fun _ h => h) rfl dX3_meanSize_40 ?_
        obtain ⟨mde, hLe⟩ := id hH1.2.2.1.2.2
        refine z_go5 0 0 (z_runF (n := 0) (As := []) (rest := []) (ci := 8) hC hml hl.1 (m_J2_size hE H4 (hO.ext (zS_F hS) hMo) (μ (3, 0, 0)) (St_ne σ) (fun j => μ (13, j, 0)) (μ (4, 0, 0)) mde hLe) q232 q1525 q1529 q230 q65 q1527 q1526 q1531 q1530 q1528 ⟨by decide +kernel, by decide +kernel, by decide +kernel⟩ rfl rfl rfl (z_rv hC (ci := 8) rfl hLe.1 rfl) rfl (Nat.le_of_ble_eq_true rfl) ⟨Nat.le_of_ble_eq_true rfl, Nat.le_of_ble_eq_true rfl⟩ ⟨zfit (k := 0) (z := 0) rfl rfl (by omega), zfit (k := 0) (z := 0) rfl rfl (by omega)⟩ dX3_meanSize_43) ⟨zad (k := 0) rfl (by omega), zad (k := 0) rfl (by omega)⟩ hS (fun _ z => z.elim) (fun r H6 locs hp hF hS1 => ?_)
        obtain ⟨_, rfl, rfl⟩ := hp
        have hP := zpk hP hF
        have hP : va_P G.1 zCl ([]) H6 := hP
        have hD : va_D (zA (FM G μ σ) H0) ([]) := hD
        have hH1 : HM G s0 μ σ 0 H6 := hH1.ext0 hE hF
        have hS := hS1
        refine z_zne (tgt := 55) hx hb dX3_meanSize_48 (by decide) (by omega) (fun c7 => ?_) (fun c7 => ?_)
        · have hcl := suN_le (f := szF σ) (B := 16) (n := St_ne σ) hszn
          have hxx := hH1.2.2.1.1
          refine lv_iload_n hx hb dX3_meanSize_55 rfl (lv_at hl 1 rfl) ?_
          refine lv_i2d hx hb dX3_meanSize_56 ?_
          refine lv_aload_n hx hb dX3_meanSize_57 rfl (lv_at hl 2 rfl) ?_
          refine z_get hC (k := 4) rfl in_X3 hxx (by decide) q1500 (fun _ h => h) rfl dX3_meanSize_58 ?_
          obtain ⟨mde, hLe⟩ := id hH1.2.2.1.2.2
          refine z_go5 0 0 (z_runF (n := 0) (As := []) (rest := [.double (FP.i2d (iI ((suN (szF σ) (St_ne σ) : Nat) : Int)))]) (ci := 8) hC hml hl.1 (m_J2_size hE H6 (hO.ext (zS_F hS) hMo) (μ (3, 0, 0)) (St_ne σ) (fun j => μ (13, j, 0)) (μ (4, 0, 0)) mde hLe) q232 q1525 q1529 q230 q65 q1527 q1526 q1531 q1530 q1528 ⟨by decide +kernel, by decide +kernel, by decide +kernel⟩ rfl rfl rfl (z_rv hC (ci := 8) rfl hLe.1 rfl) rfl (Nat.le_of_ble_eq_true rfl) ⟨Nat.le_of_ble_eq_true rfl, Nat.le_of_ble_eq_true rfl⟩ ⟨zfit (k := 0) (z := 0) rfl rfl (by omega), zfit (k := 0) (z := 0) rfl rfl (by omega)⟩ dX3_meanSize_61) ⟨zad (k := 0) rfl (by omega), zad (k := 0) rfl (by omega)⟩ hS (fun _ z => z.elim) (fun r H8 locs hp hF hS1 => ?_)
          obtain ⟨_, rfl, rfl⟩ := hp
          have hP := zpk hP hF
          have hP : va_P G.1 zCl ([]) H8 := hP
          have hD : va_D (zA (FM G μ σ) H0) ([]) := hD
          have hH1 : HM G s0 μ σ 0 H8 := hH1.ext0 hE hF
          have hS := hS1
          refine lv_i2d hx hb dX3_meanSize_66 ?_
          refine lv_ddiv hx hb dX3_meanSize_67 (dv_n (by omega) (by omega)) ?_
          exact z_dret hC hrt hlk hQ hS ⟨zle (z := 0) rfl (by omega), zle (z := 0) rfl (by omega)⟩ ⟨_, rfl, by unfold mnV; rw [if_neg (by omega)], PoM.same hH1⟩ dX3_meanSize_68
        · refine lv_dconst0 hx hb dX3_meanSize_51 ?_
          refine lv_goto (tgt := 68) hx hb dX3_meanSize_52 (by decide) ?_
          exact z_dret hC hrt hlk hQ hS ⟨zle (z := 0) rfl (by omega), zle (z := 0) rfl (by omega)⟩ ⟨_, rfl, by unfold mnV; rw [if_pos (by omega)], PoM.same hH1⟩ dX3_meanSize_68
      · refine lv_iload_n hx hb dX3_meanSize_22 rfl (lv_at hl 1 rfl) ?_
        refine lv_aload_n hx hb dX3_meanSize_23 rfl (lv_at hl 2 rfl) ?_
        refine lv_iload_n hx hb dX3_meanSize_24 rfl (lv_at hl 0 rfl) ?_
        have hnn := hh.n (hh.ea (j := k) (by omega))
        refine z_go 0 0 (z_runV (As := [.int (iI ((k : Nat) : Int))]) (rest := [.int (iI ((c : Nat) : Int))]) hC hml hl.1 (m_X3_row hE H4 (hO.ext (zS_F hS) hMo) μ σ 0 k hH1 (by omega)) (lw_V q1654 q1656 qs36 q67 q1657) rfl nd_X3_row rfl (z_rv hC (ci := 2) rfl hH1.2.2.1.1 rfl) rfl (Nat.le_of_ble_eq_true rfl) ⟨Nat.le_of_ble_eq_true rfl, Nat.le_of_ble_eq_true rfl⟩ ⟨zfit (k := 0) (z := 0) rfl rfl (by omega), zfit (k := 0) (z := 0) rfl rfl (by omega)⟩ dX3_meanSize_25) ⟨zad (k := 0) rfl (by omega), zad (k := 0) rfl (by omega)⟩ hS (fun _ z => z.elim) (fun r H9 locs hp hF hS1 => ?_)
        obtain ⟨_, rfl, rfl⟩ := hp
        have hP := zpk hP hF
        have hP : va_P G.1 zCl ([]) H9 := hP
        have hD : va_D (zA (FM G μ σ) H0) ([]) := hD
        have hH1 : HM G s0 μ σ 0 H9 := hH1.ext0 hE hF
        have hS := hS1
        have hRk := (hH1.el (j := k) (by omega)).2
        have hVk := hH1.row (j := k) (by omega)
        refine z_go 0 0 (z_runS (As := [.ref (μ (14, k, 0))]) (rest := [.int (iI ((c : Nat) : Int))]) hC hml hl.1 (m_X3_size hE H9 (hO.ext (zS_F hS) hMo) (μ (14, k, 0)) (St_n σ (St_ea σ k)) (St_ev σ k) hRk (fun j9 hj9 => by have := hVk j9 hj9; omega) hnn) (lw_S q1675 q1676 q67 q1677) nd_X3_size rfl rfl (Nat.le_of_ble_eq_true rfl) ⟨Nat.le_of_ble_eq_true rfl, Nat.le_of_ble_eq_true rfl⟩ ⟨zfit (k := 0) (z := 0) rfl rfl (by omega), zfit (k := 0) (z := 0) rfl rfl (by omega)⟩ dX3_meanSize_28) ⟨zad (k := 0) rfl (by omega), zad (k := 0) rfl (by omega)⟩ hS (fun _ z => z.elim) (fun r H10 locs hp hF hS1 => ?_)
        obtain ⟨_, rfl, rfl⟩ := hp
        have hP := zpk hP hF
        have hP : va_P G.1 zCl ([]) H10 := hP
        have hD : va_D (zA (FM G μ σ) H0) ([]) := hD
        have hH1 : HM G s0 μ σ 0 H10 := hH1.ext0 hE hF
        have hS := hS1
        refine z_add hx hb (z := ((c : Nat) : Int) + ((szF σ k : Nat) : Int)) dX3_meanSize_31 rfl ?_
        refine z_top (b := ((c + szF σ k : Nat) : Int)) (by omega) ?_
        refine lv_istore_n (lv' := [(1, .int (iI ((c + szF σ k : Nat) : Int))), (2, .int (iI ((k : Nat) : Int))), (0, .ref (μ (0, 0, 0)))]) hx hb dX3_meanSize_32 rfl hl (by decide) rfl (fun ls hl => ?_)
        refine z_iinc (z := ((k + 1 : Nat) : Int)) (lv' := [(2, .int (iI ((k + 1 : Nat) : Int))), (1, .int (iI ((c + szF σ k : Nat) : Int))), (0, .ref (μ (0, 0, 0)))]) hx hb dX3_meanSize_33 hl (k := 1) rfl (by omega) (by decide) rfl (fun ls hl => ?_)
        refine lv_goto (tgt := 9) hx hb dX3_meanSize_36 (by decide) ?_
        exact W.widen (by omega) (by omega) (ihlp2 (St_ne σ - (k + 1)) (by omega) (k + 1) (c + szF σ k) rfl (by omega) (by rw [hc]; rfl) _ _ _ hH1 hP hD hS hl)
  exact W.widen (by omega) (by omega) (lp2 _ 0 0 rfl (Nat.zero_le _) rfl _ _ _ hH1 hP hD hS hl)

abbrev rm_m_X3_lean : Room := { frames := 5, cells := 0, slots := 0, locals := 108 }
set_option maxHeartbeats 4000000 in
theorem m_X3_lean {l : Launch} {s0 : State} {G : zG} (hE : zE l s0 G) (H0 : Heap) (hO : zO s0 H0) (μ : Ro → Nat) (σ : St) (th : Int) (i : Int) (hh : HM G s0 μ σ th H0) (hi : zi i) : zM l s0 yX3_lean cX3_lean 2 (some FieldType.double) rm_m_X3_lean [.ref (μ (0, 0, 0)), .int (iI i)] H0 (FM G μ σ) (rd (fun y h1 => ∃ (k : Nat) (σ2 : St), PoM G s0 H0 μ σ σ2 (k : Int) h1 ∧ ((k = 0 ∧ ((fun y σ' => σ' = σ ∧ (∃ a : Nat, (i = a ∧ a < St_ne σ) ∧ y = FP.f2d (fq (lnV (St_p σ) (St_n σ (St_ea σ a)) (St_ev σ a)))))) y σ2) ∨ (k ≠ 0 ∧ σ2 = σ ∧ k ≤ ([IOB] : List String).length ∧ ((fun E => E = IOB ∧ ¬ inE σ i)) (([IOB] : List String).getD (k - 1) ""))))) := by
  refine z_met hE (by decide +kernel) (Nat.le_of_ble_eq_true rfl) ?_
  intro pp ee ss mm args below meth cd Q ls hC hml hrt hlk hnm hH hQ hS hl
  have hx := hC.x
  have hb := hC.b
  have hl : lv_has ls 2 [(0, .ref (μ (0, 0, 0))), (1, .int (iI i))] := hl
  have hP : va_P G.1 zCl [] H0 := va_nil
  have hD : va_D (zA (FM G μ σ) H0) [] := va_nilD
  have hMo : ∀ z, (FM G μ σ) z → s0.heap.size ≤ z := fun z hz => FM.ge hh.sep hz
  have hH1 := hh
  obtain ⟨hp, hna, hal, hne9, hel9, hmr9⟩ := id hh.ok
  have hp7 : 0 < St_p σ ∧ St_p σ ≤ 7 := by rcases hp with h | h | h <;> rw [h] <;> decide
  have hP : va_P G.1 zCl [((μ (0, 0, 0)), zOb 2 [.int (iI th), .int (iI (St_p σ)), .int (iI ((St_kn σ : Nat) : Int)), .ref (μ (1, 0, 0)), .ref (μ (3, 0, 0))])] H0 := zP1 hh.2.2.1.1
  have hD : va_D (zA (FM G μ σ) H0) [((μ (0, 0, 0)), zOb 2 [.int (iI th), .int (iI (St_p σ)), .int (iI ((St_kn σ : Nat) : Int)), .ref (μ (1, 0, 0)), .ref (μ (3, 0, 0))])] := zD1 (Or.inl (FM.in hE hh.sep (domM0 0 (by omega)) (by simp [rAm])))
  refine lv_aload_n hx hb dX3_lean_0 rfl (lv_at hl 0 rfl) ?_
  refine lv_iconst (v := iI 0) hx hb dX3_lean_1 rfl ?_
  refine z_putO hC hP hD hS 0 (k := 0) rfl rfl in_X3 tyX3_ok nmX3 (by decide) q1495 (fun _ h => h) rfl rfl rfl rfl (Nat.le_of_ble_eq_true rfl) (ws' := [((μ (0, 0, 0)), zOb 2 [.int (iI 0), .int (iI (St_p σ)), .int (iI ((St_kn σ : Nat) : Int)), .ref (μ (1, 0, 0)), .ref (μ (3, 0, 0))])]) rfl dX3_lean_2 (fun H1 locs hP hD hS hZ1 hZ2 => ?_)
  have hH1 : HM G s0 μ σ 0 H1 := HM.thr hE hH1 (zF.one hZ1 hZ2) (hP 0 _ rfl)
  have hP : va_P G.1 zCl [] H1 := va_nil
  have hD : va_D (zA (FM G μ σ) H0) [] := va_nilD
  refine lv_aload_n hx hb dX3_lean_5 rfl (lv_at hl 0 rfl) ?_
  refine lv_iload_n hx hb dX3_lean_6 rfl (lv_at hl 1 rfl) ?_
  refine z_go 0 0 (z_runV (As := [.int (iI i)]) (rest := []) hC hml hl.1 (m_X3_isElement hE H1 (hO.ext (zS_F hS) hMo) μ σ 0 i hH1 hi) (lw_V q1650 q1652 qs35 q67 q1653) rfl nd_X3_isElement rfl (z_rv hC (ci := 2) rfl hH1.2.2.1.1 rfl) rfl (Nat.le_of_ble_eq_true rfl) ⟨Nat.le_of_ble_eq_true rfl, Nat.le_of_ble_eq_true rfl⟩ ⟨zfit (k := 0) (z := 0) rfl rfl (by omega), zfit (k := 0) (z := 0) rfl rfl (by omega)⟩ dX3_lean_7) ⟨zad (k := 0) rfl (by omega), zad (k := 0) rfl (by omega)⟩ hS (fun _ z => z.elim) (fun r H2 locs hp hF hS1 => ?_)
  obtain ⟨_, rfl, rfl⟩ := hp
  have hP := zpk hP hF
  have hP : va_P G.1 zCl ([]) H2 := hP
  have hD : va_D (zA (FM G μ σ) H0) ([]) := hD
  have hH1 : HM G s0 μ σ 0 H2 := hH1.ext0 hE hF
  have hS := hS1
  obtain ⟨fl, hfl, hfl2⟩ : ∃ fl : Nat, fl ≤ 1 ∧ (if 0 ≤ i ∧ i < ((St_ne σ : Nat) : Int) then (1 : Int) else 0) = fl ∧ (fl = 1 ↔ 0 ≤ i ∧ i < ((St_ne σ : Nat) : Int)) := by by_cases h : 0 ≤ i ∧ i < ((St_ne σ : Nat) : Int); exact ⟨1, by decide, by rw [if_pos h]; rfl, ⟨fun _ => h, fun _ => rfl⟩⟩; exact ⟨0, by decide, by rw [if_neg h]; rfl, ⟨fun z => absurd z (by decide), fun z => absurd z h⟩⟩
  refine z_top (b := ((fl : Nat) : Int)) (hfl2.1) ?_
  refine z_zne (tgt := 20) hx hb dX3_lean_10 (by decide) (by omega) (fun c3 => ?_) (fun c3 => ?_)
  · have hok9 := hfl2.2.mp (by omega)
    obtain ⟨a, rfl⟩ : ∃ a : Nat, i = a := ⟨i.toNat, by omega⟩
    have hle := le_T (lnV_in (St_p σ) (St_n σ (St_ea σ a)) (St_ev σ a))
    refine lv_aload_n hx hb dX3_lean_20 rfl (lv_at hl 0 rfl) ?_
    refine lv_iload_n hx hb dX3_lean_21 rfl (lv_at hl 1 rfl) ?_
    refine z_go 0 0 (z_runV (As := [.int (iI ((a : Nat) : Int))]) (rest := []) hC hml hl.1 (m_X3_quarters hE H2 (hO.ext (zS_F hS) hMo) μ σ 0 a hH1 (by omega)) (lw_V q1878 q1880 qs54 q67 q1881) rfl nd_X3_quarters rfl (z_rv hC (ci := 2) rfl hH1.2.2.1.1 rfl) rfl (Nat.le_of_ble_eq_true rfl) ⟨Nat.le_of_ble_eq_true rfl, Nat.le_of_ble_eq_true rfl⟩ ⟨zfit (k := 0) (z := 0) rfl rfl (by omega), zfit (k := 0) (z := 0) rfl rfl (by omega)⟩ dX3_lean_22) ⟨zad (k := 0) rfl (by omega), zad (k := 0) rfl (by omega)⟩ hS (fun _ z => z.elim) (fun r H4 locs hp hF hS1 => ?_)
    obtain ⟨_, rfl, rfl⟩ := hp
    have hP := zpk hP hF
    have hP : va_P G.1 zCl ([]) H4 := hP
    have hD : va_D (zA (FM G μ σ) H0) ([]) := hD
    have hH1 : HM G s0 μ σ 0 H4 := hH1.ext0 hE hF
    have hS := hS1
    refine lv_i2d hx hb dX3_lean_25 ?_
    refine lv_ldc2d (v := 4616189618054758400) hx hb hC.o (hC.t _ q1882) dX3_lean_26 ?_
    refine lv_ddiv hx hb dX3_lean_29 hle.2 ?_
    exact z_dret hC hrt hlk hQ hS ⟨zle (z := 0) rfl (by omega), zle (z := 0) rfl (by omega)⟩ ⟨_, rfl, 0, σ, PoM.same hH1, Or.inl ⟨rfl, rfl, a, ⟨by omega, by omega⟩, hle.1.symm⟩⟩ dX3_lean_30
  · have hHb := hH1
    have hP : va_P G.1 zCl [((μ (0, 0, 0)), zOb 2 [.int (iI 0), .int (iI (St_p σ)), .int (iI ((St_kn σ : Nat) : Int)), .ref (μ (1, 0, 0)), .ref (μ (3, 0, 0))])] H2 := zP1 hH1.2.2.1.1
    have hD : va_D (zA (FM G μ σ) H0) [((μ (0, 0, 0)), zOb 2 [.int (iI 0), .int (iI (St_p σ)), .int (iI ((St_kn σ : Nat) : Int)), .ref (μ (1, 0, 0)), .ref (μ (3, 0, 0))])] := zD1 (Or.inl (FM.in hE hh.sep (domM0 0 (by omega)) (by simp [rAm])))
    refine lv_aload_n hx hb dX3_lean_13 rfl (lv_at hl 0 rfl) ?_
    refine lv_iconst (v := iI 1) hx hb dX3_lean_14 rfl ?_
    refine z_putO hC hP hD hS 0 (k := 0) rfl rfl in_X3 tyX3_ok nmX3 (by decide) q1495 (fun _ h => h) rfl rfl rfl rfl (Nat.le_of_ble_eq_true rfl) (ws' := [((μ (0, 0, 0)), zOb 2 [.int (iI 1), .int (iI (St_p σ)), .int (iI ((St_kn σ : Nat) : Int)), .ref (μ (1, 0, 0)), .ref (μ (3, 0, 0))])]) rfl dX3_lean_15 (fun H5 locs hP hD hS hZ1 hZ2 => ?_)
    have hH9 : HM G s0 μ σ 1 H5 := HM.thr hE hHb (zF.one hZ1 hZ2) (hP 0 _ rfl)
    refine lv_dconst0 hx hb dX3_lean_18 ?_
    exact z_dret hC hrt hlk hQ hS ⟨zle (z := 0) rfl (by omega), zle (z := 0) rfl (by omega)⟩ ⟨_, rfl, 1, σ, PoM.same hH9, Or.inr ⟨by decide, rfl, by decide, rfl, fun z9 => by have h9 := hfl2.2.mpr z9; omega⟩⟩ dX3_lean_19

abbrev rm_m_X3_manyNow : Room := { frames := 6, cells := 60, slots := 700, locals := 130 }
set_option maxHeartbeats 4000000 in
theorem m_X3_manyNow {l : Launch} {s0 : State} {G : zG} (hE : zE l s0 G) (H0 : Heap) (hO : zO s0 H0) (μ : Ro → Nat) (σ : St) (th : Int) (t : Nat) (hh : HM G s0 μ σ th H0) (ht : t ≤ 7) : zM l s0 yX3_manyNow cX3_manyNow 6 (some FieldType.int) rm_m_X3_manyNow [.ref (μ (0, 0, 0)), .int (iI ((t : Nat) : Int))] H0 M0 (ri (fun y _ => y = myV σ t)) := by
  refine z_met hE (by decide +kernel) (Nat.le_of_ble_eq_true rfl) ?_
  intro pp ee ss mm args below meth cd Q ls hC hml hrt hlk hnm hH hQ hS hl
  have hx := hC.x
  have hb := hC.b
  have hl : lv_has ls 6 [(0, .ref (μ (0, 0, 0))), (1, .int (iI ((t : Nat) : Int)))] := hl
  have hP : va_P G.1 zCl [] H0 := va_nil
  have hD : va_D (zA M0 H0) [] := va_nilD
  have hH1 := hh
  obtain ⟨hp, hna, hal, hne9, hel9, hmr9⟩ := id hh.ok
  have hp7 : 0 < St_p σ ∧ St_p σ ≤ 7 := by rcases hp with h | h | h <;> rw [h] <;> decide
  have hls := leS_in hne9
  refine lv_iconst (v := iI 0) hx hb dX3_manyNow_0 rfl ?_
  refine lv_istore_n (lv' := [(2, .int (iI 0)), (0, .ref (μ (0, 0, 0))), (1, .int (iI ((t : Nat) : Int)))]) hx hb dX3_manyNow_1 rfl hl (by decide) rfl (fun ls hl => ?_)
  refine lv_iconst (v := iI 0) hx hb dX3_manyNow_2 rfl ?_
  refine lv_istore_n (lv' := [(3, .int (iI 0)), (2, .int (iI 0)), (0, .ref (μ (0, 0, 0))), (1, .int (iI ((t : Nat) : Int)))]) hx hb dX3_manyNow_3 rfl hl (by decide) rfl (fun ls hl => ?_)
  refine lv_iconst (v := iI 0) hx hb dX3_manyNow_4 rfl ?_
  refine lv_istore (lv' := [(4, .int (iI 0)), (3, .int (iI 0)), (2, .int (iI 0)), (0, .ref (μ (0, 0, 0))), (1, .int (iI ((t : Nat) : Int)))]) hx hb dX3_manyNow_5 hl (by decide) rfl (fun ls hl => ?_)
  refine lv_iconst (v := iI 0) hx hb dX3_manyNow_7 rfl ?_
  refine lv_istore (lv' := [(5, .int (iI 0)), (4, .int (iI 0)), (3, .int (iI 0)), (2, .int (iI 0)), (0, .ref (μ (0, 0, 0))), (1, .int (iI ((t : Nat) : Int)))]) hx hb dX3_manyNow_8 hl (by decide) rfl (fun ls hl => ?_)
  have lp1 : ∀ (dlp1 : Nat) (u : Nat) (c : Nat), St_na σ - u = dlp1 → (u ≤ St_na σ) → (c = suN (St_n σ) u) → ∀ (H2 : Heap) (locs : List Loc) (ls : Array Slot), va_P G.1 zCl ([]) H2 → va_D (zA M0 H0) ([]) → va_S (zA M0 H0) H0 H2 locs → lv_has ls 6 [(5, .int (iI ((u : Nat) : Int))), (4, .int (iI 0)), (3, .int (iI 0)), (2, .int (iI ((c : Nat) : Int))), (0, .ref (μ (0, 0, 0))), (1, .int (iI ((t : Nat) : Int)))] → W pp l ee rm_m_X3_manyNow ss mm args below meth cd H2 locs 0 0 Q (F0 mm 10 ls []) := by
    intro dlp1
    induction dlp1 using Nat.strongRecOn with
    | ind dlp1 ihlp1 =>
      intro u c hdlp1 hu hc H2 locs ls  hP hD hS hl
      have hH1 : HM G s0 μ σ th H2 := hh.ext0 hE (zS_F hS)
      have hxx := hH1.2.2.1.1
      refine lv_iload hx hb dX3_manyNow_10 (lv_at hl 0 rfl) ?_
      refine lv_aload_n hx hb dX3_manyNow_12 rfl (lv_at hl 4 rfl) ?_
      have hH1 : HM G s0 μ σ th H2 := hh.ext0 hE (zS_F hS)
      have hxx := hH1.2.2.1.1
      refine z_get hC (k := 3) rfl in_X3 hxx (by decide) q1499 (fun _ h => h) rfl dX3_manyNow_13 ?_
      have hH1 : HM G s0 μ σ th H2 := hh.ext0 hE (zS_F hS)
      obtain ⟨mda, hLa⟩ := id hH1.2.2.1.2.1
      refine z_go5 0 0 (z_runF (n := 0) (As := []) (rest := [.int (iI ((u : Nat) : Int))]) (ci := 8) hC hml hl.1 (m_J2_size hE H2 (hO.ext0 (zS_F hS)) (μ (1, 0, 0)) (St_na σ) (fun k => μ (6, k, 0)) (μ (2, 0, 0)) mda hLa) q232 q1525 q1529 q230 q65 q1527 q1526 q1531 q1530 q1528 ⟨by decide +kernel, by decide +kernel, by decide +kernel⟩ rfl rfl rfl (z_rv hC (ci := 8) rfl hLa.1 rfl) rfl (Nat.le_of_ble_eq_true rfl) ⟨Nat.le_of_ble_eq_true rfl, Nat.le_of_ble_eq_true rfl⟩ ⟨zfit (k := 0) (z := 60) rfl rfl (by omega), zfit (k := 0) (z := 700) rfl rfl (by omega)⟩ dX3_manyNow_16) ⟨zad (k := 0) rfl (by omega), zad (k := 0) rfl (by omega)⟩ hS (fun _ z => z.elim) (fun r H3 locs hp hF hS1 => ?_)
      obtain ⟨_, rfl, rfl⟩ := hp
      have hP := zpk hP hF
      have hP : va_P G.1 zCl ([]) H3 := hP
      have hD : va_D (zA M0 H0) ([]) := hD
      have hS := hS1
      refine z_cge (tgt := 50) hx hb dX3_manyNow_21 (by decide) (by omega) (fun c4 => ?_) (fun c4 => ?_)
      · have eu : u = St_na σ := by omega
        have hcu : c = suN (St_n σ) (St_na σ) := by rw [hc, eu]
        refine lv_iconst (v := iI 0) hx hb dX3_manyNow_50 rfl ?_
        refine lv_istore (lv' := [(5, .int (iI 0)), (4, .int (iI 0)), (3, .int (iI 0)), (2, .int (iI ((c : Nat) : Int))), (0, .ref (μ (0, 0, 0))), (1, .int (iI ((t : Nat) : Int)))]) hx hb dX3_manyNow_51 hl (by decide) rfl (fun ls hl => ?_)
        have lp5 : ∀ (dlp5 : Nat) (j : Nat) (d : Nat) (e : Nat), St_ne σ - j = dlp5 → (j ≤ St_ne σ) → (d = suN (plF σ) j) → (e = suN (zeF σ) j) → ∀ (H6 : Heap) (locs : List Loc) (ls : Array Slot), va_P G.1 zCl ([]) H6 → va_D (zA M0 H0) ([]) → va_S (zA M0 H0) H0 H6 locs → lv_has ls 6 [(5, .int (iI ((j : Nat) : Int))), (4, .int (iI ((e : Nat) : Int))), (3, .int (iI ((d : Nat) : Int))), (2, .int (iI ((c : Nat) : Int))), (0, .ref (μ (0, 0, 0))), (1, .int (iI ((t : Nat) : Int)))] → W pp l ee rm_m_X3_manyNow ss mm args below meth cd H6 locs (0 + 4 * j) (0 + 48 * j) Q (F0 mm 53 ls []) := by
          intro dlp5
          induction dlp5 using Nat.strongRecOn with
          | ind dlp5 ihlp5 =>
            intro j d e hdlp5 hj9 hd he H6 locs ls  hP hD hS hl
            have hH1 : HM G s0 μ σ th H6 := hh.ext0 hE (zS_F hS)
            have hxx := hH1.2.2.1.1
            refine lv_iload hx hb dX3_manyNow_53 (lv_at hl 0 rfl) ?_
            refine lv_aload_n hx hb dX3_manyNow_55 rfl (lv_at hl 4 rfl) ?_
            have hH1 : HM G s0 μ σ th H6 := hh.ext0 hE (zS_F hS)
            have hxx := hH1.2.2.1.1
            refine z_get hC (k := 4) rfl in_X3 hxx (by decide) q1500 (fun _ h => h) rfl dX3_manyNow_56 ?_
            have hH1 : HM G s0 μ σ th H6 := hh.ext0 hE (zS_F hS)
            obtain ⟨mde, hLe⟩ := id hH1.2.2.1.2.2
            refine z_go5 (0 + 4 * j) (0 + 48 * j) (z_runF (n := 0) (As := []) (rest := [.int (iI ((j : Nat) : Int))]) (ci := 8) hC hml hl.1 (m_J2_size hE H6 (hO.ext0 (zS_F hS)) (μ (3, 0, 0)) (St_ne σ) (fun j => μ (13, j, 0)) (μ (4, 0, 0)) mde hLe) q232 q1525 q1529 q230 q65 q1527 q1526 q1531 q1530 q1528 ⟨by decide +kernel, by decide +kernel, by decide +kernel⟩ rfl rfl rfl (z_rv hC (ci := 8) rfl hLe.1 rfl) rfl (Nat.le_of_ble_eq_true rfl) ⟨Nat.le_of_ble_eq_true rfl, Nat.le_of_ble_eq_true rfl⟩ ⟨zfit (k := 0) (z := 60) rfl rfl (by omega), zfit (k := 0) (z := 700) rfl rfl (by omega)⟩ dX3_manyNow_59) ⟨zad (k := 0) rfl (by omega), zad (k := 0) rfl (by omega)⟩ hS (fun _ z => z.elim) (fun r H7 locs hp hF hS1 => ?_)
            obtain ⟨_, rfl, rfl⟩ := hp
            have hP := zpk hP hF
            have hP : va_P G.1 zCl ([]) H7 := hP
            have hD : va_D (zA M0 H0) ([]) := hD
            have hS := hS1
            refine z_cge (tgt := 112) hx hb dX3_manyNow_64 (by decide) (by omega) (fun c8 => ?_) (fun c8 => ?_)
            · have ej : j = St_ne σ := by omega
              have hdu : d = suN (plF σ) (St_ne σ) := by rw [hd, ej]
              have heu : e = suN (zeF σ) (St_ne σ) := by rw [he, ej]
              have hl : lv_has ls 6 [(4, .int (iI ((e : Nat) : Int))), (3, .int (iI ((d : Nat) : Int))), (2, .int (iI ((c : Nat) : Int))), (0, .ref (μ (0, 0, 0))), (1, .int (iI ((t : Nat) : Int)))] := lv_sub hl [1, 2, 3, 4, 5] rfl
              have hH1 : HM G s0 μ σ th H7 := hh.ext0 hE (zS_F hS)
              have hxx := hH1.2.2.1.1
              refine lv_bipush (v := iI 8) hx hb dX3_manyNow_112 (by decide) ?_
              refine z_newi hC hP hD hS (N := 8) (c1 := (0 + 4 * j) + 1) (s1 := (0 + 48 * j) + 8) rfl (by omega) ⟨zle (z := 60) rfl (by omega), zle (z := 700) rfl (by omega)⟩ ⟨by omega, by omega⟩ (ws' := fun q9 => [(q9, zI G 8 (fun _ => 0))]) (fun _ => rfl) dX3_manyNow_114 (fun q9 H10 hq0q9 hq1q9 hP hD hS hF => ?_)
              refine lv_dup hx hb dX3_manyNow_116 rfl ?_
              refine lv_iconst (v := iI 0) hx hb dX3_manyNow_117 rfl ?_
              refine lv_aload_n hx hb dX3_manyNow_118 rfl (lv_at hl 3 rfl) ?_
              have hH1 : HM G s0 μ σ th H10 := hh.ext0 hE (zS_F hS)
              have hxx := hH1.2.2.1.1
              refine z_get hC (k := 1) rfl in_X3 hxx (by decide) q1496 (fun _ h => h) rfl dX3_manyNow_119 ?_
              refine z_iast hC hP hD hS 0 (k := 0) rfl rfl (by omega) (ws' := [(q9, zI G 8 (va_up (fun _ => 0) 0 (St_p σ)))]) rfl dX3_manyNow_122 (fun H11 locs hP hD hS => ?_)
              refine lv_dup hx hb dX3_manyNow_123 rfl ?_
              refine lv_iconst (v := iI 1) hx hb dX3_manyNow_124 rfl ?_
              refine lv_aload_n hx hb dX3_manyNow_125 rfl (lv_at hl 3 rfl) ?_
              have hH1 : HM G s0 μ σ th H11 := hh.ext0 hE (zS_F hS)
              have hxx := hH1.2.2.1.1
              refine z_get hC (k := 3) rfl in_X3 hxx (by decide) q1499 (fun _ h => h) rfl dX3_manyNow_126 ?_
              have hH1 : HM G s0 μ σ th H11 := hh.ext0 hE (zS_F hS)
              obtain ⟨mda, hLa⟩ := id hH1.2.2.1.2.1
              refine z_go5 ((0 + 4 * j) + 1) ((0 + 48 * j) + 8) (z_runF (n := 0) (As := []) (rest := [.int (iI 1), .ref q9, .ref q9]) (ci := 8) hC hml hl.1 (m_J2_size hE H11 (hO.ext0 (zS_F hS)) (μ (1, 0, 0)) (St_na σ) (fun k => μ (6, k, 0)) (μ (2, 0, 0)) mda hLa) q232 q1525 q1529 q230 q65 q1527 q1526 q1531 q1530 q1528 ⟨by decide +kernel, by decide +kernel, by decide +kernel⟩ rfl rfl rfl (z_rv hC (ci := 8) rfl hLa.1 rfl) rfl (Nat.le_of_ble_eq_true rfl) ⟨Nat.le_of_ble_eq_true rfl, Nat.le_of_ble_eq_true rfl⟩ ⟨zfit (k := 0) (z := 60) rfl rfl (by omega), zfit (k := 0) (z := 700) rfl rfl (by omega)⟩ dX3_manyNow_129) ⟨zad (k := 0) rfl (by omega), zad (k := 0) rfl (by omega)⟩ hS (fun _ z => z.elim) (fun r H12 locs hp hF hS1 => ?_)
              obtain ⟨_, rfl, rfl⟩ := hp
              have hP := zpk hP hF
              have hP : va_P G.1 zCl ([(q9, zI G 8 (va_up (fun _ => 0) 0 (St_p σ)))]) H12 := hP
              have hD : va_D (zA M0 H0) ([(q9, zI G 8 (va_up (fun _ => 0) 0 (St_p σ)))]) := hD
              have hS := hS1
              have hH1 : HM G s0 μ σ th H12 := hh.ext0 hE (zS_F hS)
              have hxx := hH1.2.2.1.1
              refine z_iast hC hP hD hS 0 (k := 1) rfl rfl (by omega) (ws' := [(q9, zI G 8 (va_up (va_up (fun _ => 0) 0 (St_p σ)) 1 ((St_na σ : Nat) : Int)))]) rfl dX3_manyNow_134 (fun H13 locs hP hD hS => ?_)
              refine lv_dup hx hb dX3_manyNow_135 rfl ?_
              refine lv_iconst (v := iI 2) hx hb dX3_manyNow_136 rfl ?_
              refine lv_aload_n hx hb dX3_manyNow_137 rfl (lv_at hl 3 rfl) ?_
              have hH1 : HM G s0 μ σ th H13 := hh.ext0 hE (zS_F hS)
              have hxx := hH1.2.2.1.1
              refine z_get hC (k := 4) rfl in_X3 hxx (by decide) q1500 (fun _ h => h) rfl dX3_manyNow_138 ?_
              have hH1 : HM G s0 μ σ th H13 := hh.ext0 hE (zS_F hS)
              obtain ⟨mde, hLe⟩ := id hH1.2.2.1.2.2
              refine z_go5 ((0 + 4 * j) + 1) ((0 + 48 * j) + 8) (z_runF (n := 0) (As := []) (rest := [.int (iI 2), .ref q9, .ref q9]) (ci := 8) hC hml hl.1 (m_J2_size hE H13 (hO.ext0 (zS_F hS)) (μ (3, 0, 0)) (St_ne σ) (fun j => μ (13, j, 0)) (μ (4, 0, 0)) mde hLe) q232 q1525 q1529 q230 q65 q1527 q1526 q1531 q1530 q1528 ⟨by decide +kernel, by decide +kernel, by decide +kernel⟩ rfl rfl rfl (z_rv hC (ci := 8) rfl hLe.1 rfl) rfl (Nat.le_of_ble_eq_true rfl) ⟨Nat.le_of_ble_eq_true rfl, Nat.le_of_ble_eq_true rfl⟩ ⟨zfit (k := 0) (z := 60) rfl rfl (by omega), zfit (k := 0) (z := 700) rfl rfl (by omega)⟩ dX3_manyNow_141) ⟨zad (k := 0) rfl (by omega), zad (k := 0) rfl (by omega)⟩ hS (fun _ z => z.elim) (fun r H14 locs hp hF hS1 => ?_)
              obtain ⟨_, rfl, rfl⟩ := hp
              have hP := zpk hP hF
              have hP : va_P G.1 zCl ([(q9, zI G 8 (va_up (va_up (fun _ => 0) 0 (St_p σ)) 1 ((St_na σ : Nat) : Int)))]) H14 := hP
              have hD : va_D (zA M0 H0) ([(q9, zI G 8 (va_up (va_up (fun _ => 0) 0 (St_p σ)) 1 ((St_na σ : Nat) : Int)))]) := hD
              have hS := hS1
              have hH1 : HM G s0 μ σ th H14 := hh.ext0 hE (zS_F hS)
              have hxx := hH1.2.2.1.1
              refine z_iast hC hP hD hS 0 (k := 2) rfl rfl (by omega) (ws' := [(q9, zI G 8 (va_up (va_up (va_up (fun _ => 0) 0 (St_p σ)) 1 ((St_na σ : Nat) : Int)) 2 ((St_ne σ : Nat) : Int)))]) rfl dX3_manyNow_146 (fun H15 locs hP hD hS => ?_)
              refine lv_dup hx hb dX3_manyNow_147 rfl ?_
              refine lv_iconst (v := iI 3) hx hb dX3_manyNow_148 rfl ?_
              refine lv_iload_n hx hb dX3_manyNow_149 rfl (lv_at hl 2 rfl) ?_
              refine z_iast hC hP hD hS 0 (k := 3) rfl rfl (by omega) (ws' := [(q9, zI G 8 (va_up (va_up (va_up (va_up (fun _ => 0) 0 (St_p σ)) 1 ((St_na σ : Nat) : Int)) 2 ((St_ne σ : Nat) : Int)) 3 ((c : Nat) : Int)))]) rfl dX3_manyNow_150 (fun H16 locs hP hD hS => ?_)
              refine lv_dup hx hb dX3_manyNow_151 rfl ?_
              refine lv_iconst (v := iI 4) hx hb dX3_manyNow_152 rfl ?_
              refine lv_iload_n hx hb dX3_manyNow_153 rfl (lv_at hl 1 rfl) ?_
              refine z_iast hC hP hD hS 0 (k := 4) rfl rfl (by omega) (ws' := [(q9, zI G 8 (va_up (va_up (va_up (va_up (va_up (fun _ => 0) 0 (St_p σ)) 1 ((St_na σ : Nat) : Int)) 2 ((St_ne σ : Nat) : Int)) 3 ((c : Nat) : Int)) 4 ((d : Nat) : Int)))]) rfl dX3_manyNow_154 (fun H17 locs hP hD hS => ?_)
              refine lv_dup hx hb dX3_manyNow_155 rfl ?_
              refine lv_iconst (v := iI 5) hx hb dX3_manyNow_156 rfl ?_
              refine lv_iload hx hb dX3_manyNow_157 (lv_at hl 0 rfl) ?_
              refine z_iast hC hP hD hS 0 (k := 5) rfl rfl (by omega) (ws' := [(q9, zI G 8 (va_up (va_up (va_up (va_up (va_up (va_up (fun _ => 0) 0 (St_p σ)) 1 ((St_na σ : Nat) : Int)) 2 ((St_ne σ : Nat) : Int)) 3 ((c : Nat) : Int)) 4 ((d : Nat) : Int)) 5 ((e : Nat) : Int)))]) rfl dX3_manyNow_159 (fun H18 locs hP hD hS => ?_)
              refine lv_dup hx hb dX3_manyNow_160 rfl ?_
              refine lv_bipush (v := iI 6) hx hb dX3_manyNow_161 (by decide) ?_
              have hH1 : HM G s0 μ σ th H18 := hh.ext0 hE (zS_F hS)
              have hxx := hH1.2.2.1.1
              refine lv_aload_n hx hb dX3_manyNow_163 rfl (lv_at hl 3 rfl) ?_
              have hH1 : HM G s0 μ σ th H18 := hh.ext0 hE (zS_F hS)
              have hxx := hH1.2.2.1.1
              refine z_get hC (k := 2) rfl in_X3 hxx (by decide) q1498 (fun _ h => h) rfl dX3_manyNow_164 ?_
              refine z_iast hC hP hD hS 0 (k := 6) rfl rfl (by omega) (ws' := [(q9, zI G 8 (va_up (va_up (va_up (va_up (va_up (va_up (va_up (fun _ => 0) 0 (St_p σ)) 1 ((St_na σ : Nat) : Int)) 2 ((St_ne σ : Nat) : Int)) 3 ((c : Nat) : Int)) 4 ((d : Nat) : Int)) 5 ((e : Nat) : Int)) 6 ((St_kn σ : Nat) : Int)))]) rfl dX3_manyNow_167 (fun H19 locs hP hD hS => ?_)
              refine lv_dup hx hb dX3_manyNow_168 rfl ?_
              refine lv_bipush (v := iI 7) hx hb dX3_manyNow_169 (by decide) ?_
              refine lv_aload_n hx hb dX3_manyNow_171 rfl (lv_at hl 3 rfl) ?_
              have hH1 : HM G s0 μ σ th H19 := hh.ext0 hE (zS_F hS)
              refine z_go ((0 + 4 * j) + 1) ((0 + 48 * j) + 8) (z_runV (As := []) (rest := [.int (iI 7), .ref q9, .ref q9]) hC hml hl.1 (m_X3_allQuarters hE H19 (hO.ext0 (zS_F hS)) μ σ th  hH1 ) (lw_V q1887 q1889 qs55 q67 q1890) rfl nd_X3_allQuarters rfl (z_rv hC (ci := 2) rfl hH1.2.2.1.1 rfl) rfl (Nat.le_of_ble_eq_true rfl) ⟨Nat.le_of_ble_eq_true rfl, Nat.le_of_ble_eq_true rfl⟩ ⟨zfit (k := 0) (z := 60) rfl rfl (by omega), zfit (k := 0) (z := 700) rfl rfl (by omega)⟩ dX3_manyNow_172) ⟨zad (k := 0) rfl (by omega), zad (k := 0) rfl (by omega)⟩ hS (fun _ z => z.elim) (fun r H20 locs hp hF hS1 => ?_)
              obtain ⟨_, rfl, rfl⟩ := hp
              have hP := zpk hP hF
              have hP : va_P G.1 zCl ([(q9, zI G 8 (va_up (va_up (va_up (va_up (va_up (va_up (va_up (fun _ => 0) 0 (St_p σ)) 1 ((St_na σ : Nat) : Int)) 2 ((St_ne σ : Nat) : Int)) 3 ((c : Nat) : Int)) 4 ((d : Nat) : Int)) 5 ((e : Nat) : Int)) 6 ((St_kn σ : Nat) : Int)))]) H20 := hP
              have hD : va_D (zA M0 H0) ([(q9, zI G 8 (va_up (va_up (va_up (va_up (va_up (va_up (va_up (fun _ => 0) 0 (St_p σ)) 1 ((St_na σ : Nat) : Int)) 2 ((St_ne σ : Nat) : Int)) 3 ((c : Nat) : Int)) 4 ((d : Nat) : Int)) 5 ((e : Nat) : Int)) 6 ((St_kn σ : Nat) : Int)))]) := hD
              have hS := hS1
              refine lv_iconst (v := iI 4) hx hb dX3_manyNow_175 rfl ?_
              refine z_div hx hb (z := Int.tdiv (leS σ) 4) dX3_manyNow_176 (by omega) rfl ?_
              refine z_iast hC hP hD hS 0 (k := 7) rfl rfl (by omega) (ws' := [(q9, zI G 8 (va_up (va_up (va_up (va_up (va_up (va_up (va_up (va_up (fun _ => 0) 0 (St_p σ)) 1 ((St_na σ : Nat) : Int)) 2 ((St_ne σ : Nat) : Int)) 3 ((c : Nat) : Int)) 4 ((d : Nat) : Int)) 5 ((e : Nat) : Int)) 6 ((St_kn σ : Nat) : Int)) 7 (Int.tdiv (leS σ) 4)))]) rfl dX3_manyNow_177 (fun H21 locs hP hD hS => ?_)
              refine lv_astore (lv' := [(5, .ref q9), (4, .int (iI ((e : Nat) : Int))), (3, .int (iI ((d : Nat) : Int))), (2, .int (iI ((c : Nat) : Int))), (0, .ref (μ (0, 0, 0))), (1, .int (iI ((t : Nat) : Int)))]) hx hb dX3_manyNow_178 hl (by decide) rfl (fun ls hl => ?_)
              refine lv_aload hx hb dX3_manyNow_180 (lv_at hl 0 rfl) ?_
              refine lv_iload_n hx hb dX3_manyNow_182 rfl (lv_at hl 5 rfl) ?_
              refine z_iald hC (hP 0 _ rfl) (k := t) rfl (by omega) (y := (va_up (va_up (va_up (va_up (va_up (va_up (va_up (va_up (fun _ => 0) 0 (St_p σ)) 1 ((St_na σ : Nat) : Int)) 2 ((St_ne σ : Nat) : Int)) 3 ((c : Nat) : Int)) 4 ((d : Nat) : Int)) 5 ((e : Nat) : Int)) 6 ((St_kn σ : Nat) : Int)) 7 (Int.tdiv (leS σ) 4)) t) rfl dX3_manyNow_183 ?_
              exact z_iret hC hrt hlk hQ hS ⟨zle (z := 60) rfl (by omega), zle (z := 700) rfl (by omega)⟩ ⟨_, rfl, by rcases (show t = 0 ∨ t = 1 ∨ t = 2 ∨ t = 3 ∨ t = 4 ∨ t = 5 ∨ t = 6 ∨ t = 7 by omega) with rfl | rfl | rfl | rfl | rfl | rfl | rfl | rfl <;> simp [va_up, myV, maV] <;> omega⟩ dX3_manyNow_184
            · have hj : j < St_ne σ := by omega
              have heaj := hh.ea hj
              have hnn := hh.n heaj
              refine lv_iload_n hx hb dX3_manyNow_67 rfl (lv_at hl 2 rfl) ?_
              refine lv_aload_n hx hb dX3_manyNow_68 rfl (lv_at hl 4 rfl) ?_
              refine lv_iload hx hb dX3_manyNow_69 (lv_at hl 0 rfl) ?_
              have hH1 : HM G s0 μ σ th H7 := hh.ext0 hE (zS_F hS)
              refine z_go (0 + 4 * j) (0 + 48 * j) (z_runV (As := [.int (iI ((j : Nat) : Int))]) (rest := [.int (iI ((d : Nat) : Int))]) hC hml hl.1 (m_X3_row hE H7 (hO.ext0 (zS_F hS)) μ σ th j hH1 hj) (lw_V q1654 q1656 qs36 q67 q1657) rfl nd_X3_row rfl (z_rv hC (ci := 2) rfl hH1.2.2.1.1 rfl) rfl (Nat.le_of_ble_eq_true rfl) ⟨Nat.le_of_ble_eq_true rfl, Nat.le_of_ble_eq_true rfl⟩ ⟨zfit (k := 0) (z := 60) rfl rfl (by omega), zfit (k := 0) (z := 700) rfl rfl (by omega)⟩ dX3_manyNow_71) ⟨zad (k := 0) rfl (by omega), zad (k := 0) rfl (by omega)⟩ hS (fun _ z => z.elim) (fun r H22 locs hp hF hS1 => ?_)
              obtain ⟨_, rfl, rfl⟩ := hp
              have hP := zpk hP hF
              have hP : va_P G.1 zCl ([]) H22 := hP
              have hD : va_D (zA M0 H0) ([]) := hD
              have hS := hS1
              have hH1 : HM G s0 μ σ th H22 := hh.ext0 hE (zS_F hS)
              have hRj := (hH1.el (j := j) (by omega)).2
              have hVj := hH1.row (j := j) (by omega)
              refine z_go (0 + 4 * j) (0 + 48 * j) (z_runS (As := [.ref (μ (14, j, 0))]) (rest := [.int (iI ((d : Nat) : Int))]) hC hml hl.1 (m_X3_isPlain hE H22 (hO.ext0 (zS_F hS)) (μ (14, j, 0)) (St_n σ (St_ea σ j)) (St_ev σ j) hRj (fun j9 hj9 => by have := hVj j9 hj9; omega) hnn) (lw_S q1723 q1724 q67 q1725) nd_X3_isPlain rfl rfl (Nat.le_of_ble_eq_true rfl) ⟨Nat.le_of_ble_eq_true rfl, Nat.le_of_ble_eq_true rfl⟩ ⟨zfit (k := 0) (z := 60) rfl rfl (by omega), zfit (k := 0) (z := 700) rfl rfl (by omega)⟩ dX3_manyNow_74) ⟨zad (k := 0) rfl (by omega), zad (k := 0) rfl (by omega)⟩ hS (fun _ z => z.elim) (fun r H23 locs hp hF hS1 => ?_)
              obtain ⟨_, rfl, rfl⟩ := hp
              have hP := zpk hP hF
              have hP : va_P G.1 zCl ([]) H23 := hP
              have hD : va_D (zA M0 H0) ([]) := hD
              have hS := hS1
              refine z_zeq (tgt := 84) hx hb dX3_manyNow_77 (by decide) (by unfold b2i; split <;> omega) (fun cp => ?_) (fun cp => ?_)
              · have ho2 := tmV_ok hp (St_n σ (St_ea σ j)) (St_sg σ (St_ea σ j)) (St_ev σ j) (cjV (St_p σ) (St_kd σ (St_ea σ j)) (St_ev σ j)) 0 (by omega)
                refine lv_iconst (v := iI 0) hx hb dX3_manyNow_84 rfl ?_
                refine z_add hx hb (z := ((d : Nat) : Int) + 0) dX3_manyNow_85 rfl ?_
                have hpl9 : plF σ j = 0 := if_neg (by rw [b2i_z cp]; decide)
                refine z_top (b := ((d + plF σ j : Nat) : Int)) (by omega) ?_
                refine lv_istore_n (lv' := [(3, .int (iI ((d + plF σ j : Nat) : Int))), (5, .int (iI ((j : Nat) : Int))), (4, .int (iI ((e : Nat) : Int))), (2, .int (iI ((c : Nat) : Int))), (0, .ref (μ (0, 0, 0))), (1, .int (iI ((t : Nat) : Int)))]) hx hb dX3_manyNow_86 rfl hl (by decide) rfl (fun ls hl => ?_)
                refine lv_iload hx hb dX3_manyNow_87 (lv_at hl 2 rfl) ?_
                refine lv_aload_n hx hb dX3_manyNow_89 rfl (lv_at hl 4 rfl) ?_
                refine lv_iload hx hb dX3_manyNow_90 (lv_at hl 1 rfl) ?_
                have hH1 : HM G s0 μ σ th H23 := hh.ext0 hE (zS_F hS)
                refine z_go ((0 + 4 * j) + 2) ((0 + 48 * j) + 32) (z_runV (As := [.int (iI ((j : Nat) : Int))]) (rest := [.int (iI ((e : Nat) : Int))]) hC hml hl.1 (m_X3_normOf hE H23 (hO.ext0 (zS_F hS)) μ σ th j hH1 hj) (lw_V q1815 q1817 qs49 q67 q1818) rfl nd_X3_normOf rfl (z_rv hC (ci := 2) rfl hH1.2.2.1.1 rfl) rfl (Nat.le_of_ble_eq_true rfl) ⟨Nat.le_of_ble_eq_true rfl, Nat.le_of_ble_eq_true rfl⟩ ⟨zfit (k := 2) (z := 60) rfl rfl (by omega), zfit (k := 32) (z := 700) rfl rfl (by omega)⟩ dX3_manyNow_92) ⟨zad (k := 2) rfl (by omega), zad (k := 32) rfl (by omega)⟩ hS (fun _ z => z.elim) (fun r H24 locs hp hF hS1 => ?_)
                obtain ⟨_, rfl, rfl⟩ := hp
                have hP := zpk hP hF
                have hP : va_P G.1 zCl ([]) H24 := hP
                have hD : va_D (zA M0 H0) ([]) := hD
                have hS := hS1
                refine z_zne (tgt := 102) hx hb dX3_manyNow_95 (by decide) (by omega) (fun c25 => ?_) (fun c25 => ?_)
                · refine lv_iconst (v := iI 0) hx hb dX3_manyNow_102 rfl ?_
                  refine z_add hx hb (z := ((e : Nat) : Int) + 0) dX3_manyNow_103 rfl ?_
                  have hze9 : zeF σ j = 0 := if_neg (by assumption)
                  refine z_top (b := ((e + zeF σ j : Nat) : Int)) (by omega) ?_
                  refine lv_istore (lv' := [(4, .int (iI ((e + zeF σ j : Nat) : Int))), (3, .int (iI ((d + plF σ j : Nat) : Int))), (5, .int (iI ((j : Nat) : Int))), (2, .int (iI ((c : Nat) : Int))), (0, .ref (μ (0, 0, 0))), (1, .int (iI ((t : Nat) : Int)))]) hx hb dX3_manyNow_104 hl (by decide) rfl (fun ls hl => ?_)
                  refine z_iinc (z := ((j + 1 : Nat) : Int)) (lv' := [(5, .int (iI ((j + 1 : Nat) : Int))), (4, .int (iI ((e + zeF σ j : Nat) : Int))), (3, .int (iI ((d + plF σ j : Nat) : Int))), (2, .int (iI ((c : Nat) : Int))), (0, .ref (μ (0, 0, 0))), (1, .int (iI ((t : Nat) : Int)))]) hx hb dX3_manyNow_106 hl (k := 2) rfl (by omega) (by decide) rfl (fun ls hl => ?_)
                  refine lv_goto (tgt := 53) hx hb dX3_manyNow_109 (by decide) ?_
                  exact W.widen (by omega) (by omega) (ihlp5 (St_ne σ - (j + 1)) (by omega) (j + 1) (d + plF σ j) (e + zeF σ j) rfl (by omega) (by rw [hd]; rfl) (by rw [he]; rfl) _ _ _  hP hD hS hl)
                · refine lv_iconst (v := iI 1) hx hb dX3_manyNow_98 rfl ?_
                  refine lv_goto (tgt := 103) hx hb dX3_manyNow_99 (by decide) ?_
                  refine z_add hx hb (z := ((e : Nat) : Int) + 1) dX3_manyNow_103 rfl ?_
                  have hze9 : zeF σ j = 1 := if_pos (by assumption)
                  refine z_top (b := ((e + zeF σ j : Nat) : Int)) (by omega) ?_
                  refine lv_istore (lv' := [(4, .int (iI ((e + zeF σ j : Nat) : Int))), (3, .int (iI ((d + plF σ j : Nat) : Int))), (5, .int (iI ((j : Nat) : Int))), (2, .int (iI ((c : Nat) : Int))), (0, .ref (μ (0, 0, 0))), (1, .int (iI ((t : Nat) : Int)))]) hx hb dX3_manyNow_104 hl (by decide) rfl (fun ls hl => ?_)
                  refine z_iinc (z := ((j + 1 : Nat) : Int)) (lv' := [(5, .int (iI ((j + 1 : Nat) : Int))), (4, .int (iI ((e + zeF σ j : Nat) : Int))), (3, .int (iI ((d + plF σ j : Nat) : Int))), (2, .int (iI ((c : Nat) : Int))), (0, .ref (μ (0, 0, 0))), (1, .int (iI ((t : Nat) : Int)))]) hx hb dX3_manyNow_106 hl (k := 2) rfl (by omega) (by decide) rfl (fun ls hl => ?_)
                  refine lv_goto (tgt := 53) hx hb dX3_manyNow_109 (by decide) ?_
                  exact W.widen (by omega) (by omega) (ihlp5 (St_ne σ - (j + 1)) (by omega) (j + 1) (d + plF σ j) (e + zeF σ j) rfl (by omega) (by rw [hd]; rfl) (by rw [he]; rfl) _ _ _  hP hD hS hl)
              · have ho2 := tmV_ok hp (St_n σ (St_ea σ j)) (St_sg σ (St_ea σ j)) (St_ev σ j) (cjV (St_p σ) (St_kd σ (St_ea σ j)) (St_ev σ j)) 0 (by omega)
                refine lv_iconst (v := iI 1) hx hb dX3_manyNow_80 rfl ?_
                refine lv_goto (tgt := 85) hx hb dX3_manyNow_81 (by decide) ?_
                refine z_add hx hb (z := ((d : Nat) : Int) + 1) dX3_manyNow_85 rfl ?_
                have hpl9 : plF σ j = 1 := if_pos (b2i_nz cp)
                refine z_top (b := ((d + plF σ j : Nat) : Int)) (by omega) ?_
                refine lv_istore_n (lv' := [(3, .int (iI ((d + plF σ j : Nat) : Int))), (5, .int (iI ((j : Nat) : Int))), (4, .int (iI ((e : Nat) : Int))), (2, .int (iI ((c : Nat) : Int))), (0, .ref (μ (0, 0, 0))), (1, .int (iI ((t : Nat) : Int)))]) hx hb dX3_manyNow_86 rfl hl (by decide) rfl (fun ls hl => ?_)
                refine lv_iload hx hb dX3_manyNow_87 (lv_at hl 2 rfl) ?_
                refine lv_aload_n hx hb dX3_manyNow_89 rfl (lv_at hl 4 rfl) ?_
                refine lv_iload hx hb dX3_manyNow_90 (lv_at hl 1 rfl) ?_
                have hH1 : HM G s0 μ σ th H23 := hh.ext0 hE (zS_F hS)
                refine z_go ((0 + 4 * j) + 2) ((0 + 48 * j) + 32) (z_runV (As := [.int (iI ((j : Nat) : Int))]) (rest := [.int (iI ((e : Nat) : Int))]) hC hml hl.1 (m_X3_normOf hE H23 (hO.ext0 (zS_F hS)) μ σ th j hH1 hj) (lw_V q1815 q1817 qs49 q67 q1818) rfl nd_X3_normOf rfl (z_rv hC (ci := 2) rfl hH1.2.2.1.1 rfl) rfl (Nat.le_of_ble_eq_true rfl) ⟨Nat.le_of_ble_eq_true rfl, Nat.le_of_ble_eq_true rfl⟩ ⟨zfit (k := 2) (z := 60) rfl rfl (by omega), zfit (k := 32) (z := 700) rfl rfl (by omega)⟩ dX3_manyNow_92) ⟨zad (k := 2) rfl (by omega), zad (k := 32) rfl (by omega)⟩ hS (fun _ z => z.elim) (fun r H26 locs hp hF hS1 => ?_)
                obtain ⟨_, rfl, rfl⟩ := hp
                have hP := zpk hP hF
                have hP : va_P G.1 zCl ([]) H26 := hP
                have hD : va_D (zA M0 H0) ([]) := hD
                have hS := hS1
                refine z_zne (tgt := 102) hx hb dX3_manyNow_95 (by decide) (by omega) (fun c27 => ?_) (fun c27 => ?_)
                · refine lv_iconst (v := iI 0) hx hb dX3_manyNow_102 rfl ?_
                  refine z_add hx hb (z := ((e : Nat) : Int) + 0) dX3_manyNow_103 rfl ?_
                  have hze9 : zeF σ j = 0 := if_neg (by assumption)
                  refine z_top (b := ((e + zeF σ j : Nat) : Int)) (by omega) ?_
                  refine lv_istore (lv' := [(4, .int (iI ((e + zeF σ j : Nat) : Int))), (3, .int (iI ((d + plF σ j : Nat) : Int))), (5, .int (iI ((j : Nat) : Int))), (2, .int (iI ((c : Nat) : Int))), (0, .ref (μ (0, 0, 0))), (1, .int (iI ((t : Nat) : Int)))]) hx hb dX3_manyNow_104 hl (by decide) rfl (fun ls hl => ?_)
                  refine z_iinc (z := ((j + 1 : Nat) : Int)) (lv' := [(5, .int (iI ((j + 1 : Nat) : Int))), (4, .int (iI ((e + zeF σ j : Nat) : Int))), (3, .int (iI ((d + plF σ j : Nat) : Int))), (2, .int (iI ((c : Nat) : Int))), (0, .ref (μ (0, 0, 0))), (1, .int (iI ((t : Nat) : Int)))]) hx hb dX3_manyNow_106 hl (k := 2) rfl (by omega) (by decide) rfl (fun ls hl => ?_)
                  refine lv_goto (tgt := 53) hx hb dX3_manyNow_109 (by decide) ?_
                  exact W.widen (by omega) (by omega) (ihlp5 (St_ne σ - (j + 1)) (by omega) (j + 1) (d + plF σ j) (e + zeF σ j) rfl (by omega) (by rw [hd]; rfl) (by rw [he]; rfl) _ _ _  hP hD hS hl)
                · refine lv_iconst (v := iI 1) hx hb dX3_manyNow_98 rfl ?_
                  refine lv_goto (tgt := 103) hx hb dX3_manyNow_99 (by decide) ?_
                  refine z_add hx hb (z := ((e : Nat) : Int) + 1) dX3_manyNow_103 rfl ?_
                  have hze9 : zeF σ j = 1 := if_pos (by assumption)
                  refine z_top (b := ((e + zeF σ j : Nat) : Int)) (by omega) ?_
                  refine lv_istore (lv' := [(4, .int (iI ((e + zeF σ j : Nat) : Int))), (3, .int (iI ((d + plF σ j : Nat) : Int))), (5, .int (iI ((j : Nat) : Int))), (2, .int (iI ((c : Nat) : Int))), (0, .ref (μ (0, 0, 0))), (1, .int (iI ((t : Nat) : Int)))]) hx hb dX3_manyNow_104 hl (by decide) rfl (fun ls hl => ?_)
                  refine z_iinc (z := ((j + 1 : Nat) : Int)) (lv' := [(5, .int (iI ((j + 1 : Nat) : Int))), (4, .int (iI ((e + zeF σ j : Nat) : Int))), (3, .int (iI ((d + plF σ j : Nat) : Int))), (2, .int (iI ((c : Nat) : Int))), (0, .ref (μ (0, 0, 0))), (1, .int (iI ((t : Nat) : Int)))]) hx hb dX3_manyNow_106 hl (k := 2) rfl (by omega) (by decide) rfl (fun ls hl => ?_)
                  refine lv_goto (tgt := 53) hx hb dX3_manyNow_109 (by decide) ?_
                  exact W.widen (by omega) (by omega) (ihlp5 (St_ne σ - (j + 1)) (by omega) (j + 1) (d + plF σ j) (e + zeF σ j) rfl (by omega) (by rw [hd]; rfl) (by rw [he]; rfl) _ _ _  hP hD hS hl)
        exact W.widen (by omega) (by omega) (lp5 _ 0 0 0 rfl (Nat.zero_le _) rfl rfl _ _ _  hP hD hS hl)
      · have hH1 : HM G s0 μ σ th H3 := hh.ext0 hE (zS_F hS)
        have hxx := hH1.2.2.1.1
        refine lv_iload_n hx hb dX3_manyNow_24 rfl (lv_at hl 3 rfl) ?_
        refine lv_aload_n hx hb dX3_manyNow_25 rfl (lv_at hl 4 rfl) ?_
        have hH1 : HM G s0 μ σ th H3 := hh.ext0 hE (zS_F hS)
        have hxx := hH1.2.2.1.1
        refine z_get hC (k := 3) rfl in_X3 hxx (by decide) q1499 (fun _ h => h) rfl dX3_manyNow_26 ?_
        refine lv_iload hx hb dX3_manyNow_29 (lv_at hl 0 rfl) ?_
        have hH1 : HM G s0 μ σ th H3 := hh.ext0 hE (zS_F hS)
        obtain ⟨mda, hLa⟩ := id hH1.2.2.1.2.1
        refine z_go5 0 0 (z_runF (n := 1) (As := [.int (iI ((u : Nat) : Int))]) (rest := [.int (iI ((c : Nat) : Int))]) (ci := 8) hC hml hl.1 (m_J2_get hE H3 (hO.ext0 (zS_F hS)) (μ (1, 0, 0)) (St_na σ) (fun k => μ (6, k, 0)) (μ (2, 0, 0)) mda u hLa (by omega)) q375 q1588 q1591 q373 q65 q1590 q1589 q1593 q1592 q1528 ⟨by decide +kernel, by decide +kernel, by decide +kernel⟩ rfl rfl rfl (z_rv hC (ci := 8) rfl hLa.1 rfl) rfl (Nat.le_of_ble_eq_true rfl) ⟨Nat.le_of_ble_eq_true rfl, Nat.le_of_ble_eq_true rfl⟩ ⟨zfit (k := 0) (z := 60) rfl rfl (by omega), zfit (k := 0) (z := 700) rfl rfl (by omega)⟩ dX3_manyNow_31) ⟨zad (k := 0) rfl (by omega), zad (k := 0) rfl (by omega)⟩ hS (fun _ z => z.elim) (fun r H28 locs hp hF hS1 => ?_)
        obtain ⟨_, rfl, rfl⟩ := hp
        have hP := zpk hP hF
        have hP : va_P G.1 zCl ([]) H28 := hP
        have hD : va_D (zA M0 H0) ([]) := hD
        have hS := hS1
        have hH1 : HM G s0 μ σ th H28 := hh.ext0 hE (zS_F hS)
        have hAu := hH1.al (k := u) (by omega)
        have hn16u := hH1.n (k := u) (by omega)
        refine z_cast hC (ci := 5) rfl hAu.1 rfl q1539 dX3_manyNow_36 ?_
        have hH1 : HM G s0 μ σ th H28 := hh.ext0 hE (zS_F hS)
        have hUu := hH1.al (k := u) (by omega)
        have hP2u : (2 : Nat) ^ St_d σ u = St_n σ u := rfl
        refine z_go 0 0 (z_runV (As := []) (rest := [.int (iI ((c : Nat) : Int))]) hC hml hl.1 (m_X6_units hE H28 (hO.ext0 (zS_F hS)) (μ (6, u, 0)) (μ (7, u, 0)) (μ (11, u, 0)) (μ (9, u, 0)) (μ (0, 0, 0)) (St_kd σ u) (St_d σ u) hUu.1 (hal u (by omega)).2.1) (lw_V q1627 q1604 q1605 q82 q1606) rfl nd_X6_units rfl (z_rv hC (ci := 5) rfl hUu.1 rfl) rfl (Nat.le_of_ble_eq_true rfl) ⟨Nat.le_of_ble_eq_true rfl, Nat.le_of_ble_eq_true rfl⟩ ⟨zfit (k := 0) (z := 60) rfl rfl (by omega), zfit (k := 0) (z := 700) rfl rfl (by omega)⟩ dX3_manyNow_39) ⟨zad (k := 0) rfl (by omega), zad (k := 0) rfl (by omega)⟩ hS (fun _ z => z.elim) (fun r H29 locs hp hF hS1 => ?_)
        obtain ⟨_, rfl, rfl⟩ := hp
        have hP := zpk hP hF
        have hP : va_P G.1 zCl ([]) H29 := hP
        have hD : va_D (zA M0 H0) ([]) := hD
        have hS := hS1
        refine z_add hx hb (z := ((c : Nat) : Int) + ((St_n σ u : Nat) : Int)) dX3_manyNow_42 rfl ?_
        refine z_top (b := ((c + St_n σ u : Nat) : Int)) (by omega) ?_
        refine lv_istore_n (lv' := [(2, .int (iI ((c + St_n σ u : Nat) : Int))), (5, .int (iI ((u : Nat) : Int))), (4, .int (iI 0)), (3, .int (iI 0)), (0, .ref (μ (0, 0, 0))), (1, .int (iI ((t : Nat) : Int)))]) hx hb dX3_manyNow_43 rfl hl (by decide) rfl (fun ls hl => ?_)
        refine z_iinc (z := ((u + 1 : Nat) : Int)) (lv' := [(5, .int (iI ((u + 1 : Nat) : Int))), (2, .int (iI ((c + St_n σ u : Nat) : Int))), (4, .int (iI 0)), (3, .int (iI 0)), (0, .ref (μ (0, 0, 0))), (1, .int (iI ((t : Nat) : Int)))]) hx hb dX3_manyNow_44 hl (k := 1) rfl (by omega) (by decide) rfl (fun ls hl => ?_)
        refine lv_goto (tgt := 10) hx hb dX3_manyNow_47 (by decide) ?_
        exact W.widen (by omega) (by omega) (ihlp1 (St_na σ - (u + 1)) (by omega) (u + 1) (c + St_n σ u) rfl (by omega) (by rw [hc]; rfl) _ _ _  hP hD hS (lv_sub hl [0, 2, 3, 1, 4, 5] rfl))
  exact W.widen (by omega) (by omega) (lp1 _ 0 0 rfl (Nat.zero_le _) rfl _ _ _  hP hD hS hl)

abbrev rm_m_X3_many : Room := { frames := 7, cells := 60, slots := 700, locals := 155 }
set_option maxHeartbeats 4000000 in
theorem m_X3_many {l : Launch} {s0 : State} {G : zG} (hE : zE l s0 G) (H0 : Heap) (hO : zO s0 H0) (μ : Ro → Nat) (σ : St) (th : Int) (w : Int) (hh : HM G s0 μ σ th H0) (hi : zi w) : zM l s0 yX3_many cX3_many 2 (some FieldType.int) rm_m_X3_many [.ref (μ (0, 0, 0)), .int (iI w)] H0 (FM G μ σ) (HPM G s0 H0 μ σ [IAE] ((fun y σ' => σ' = σ ∧ (∃ t : Nat, (w = t ∧ t ≤ 7) ∧ y = myV σ t))) ((fun E => E = "java/lang/IllegalArgumentException" ∧ ¬ (0 ≤ w ∧ w ≤ 7)))) := by
  refine z_met hE (by decide +kernel) (Nat.le_of_ble_eq_true rfl) ?_
  intro pp ee ss mm args below meth cd Q ls hC hml hrt hlk hnm hH hQ hS hl
  have hx := hC.x
  have hb := hC.b
  have hl : lv_has ls 2 [(0, .ref (μ (0, 0, 0))), (1, .int (iI w))] := hl
  have hP : va_P G.1 zCl [] H0 := va_nil
  have hD : va_D (zA (FM G μ σ) H0) [] := va_nilD
  have hMo : ∀ z, (FM G μ σ) z → s0.heap.size ≤ z := fun z hz => FM.ge hh.sep hz
  have hH1 := hh
  obtain ⟨hp, hna, hal, hne9, hel9, hmr9⟩ := id hh.ok
  have hp7 : 0 < St_p σ ∧ St_p σ ≤ 7 := by rcases hp with h | h | h <;> rw [h] <;> decide
  have hP : va_P G.1 zCl [((μ (0, 0, 0)), zOb 2 [.int (iI th), .int (iI (St_p σ)), .int (iI ((St_kn σ : Nat) : Int)), .ref (μ (1, 0, 0)), .ref (μ (3, 0, 0))])] H0 := zP1 hh.2.2.1.1
  have hD : va_D (zA (FM G μ σ) H0) [((μ (0, 0, 0)), zOb 2 [.int (iI th), .int (iI (St_p σ)), .int (iI ((St_kn σ : Nat) : Int)), .ref (μ (1, 0, 0)), .ref (μ (3, 0, 0))])] := zD1 (Or.inl (FM.in hE hh.sep (domM0 0 (by omega)) (by simp [rAm])))
  refine lv_aload_n hx hb dX3_many_0 rfl (lv_at hl 0 rfl) ?_
  refine lv_iconst (v := iI 0) hx hb dX3_many_1 rfl ?_
  refine z_putO hC hP hD hS 0 (k := 0) rfl rfl in_X3 tyX3_ok nmX3 (by decide) q1495 (fun _ h => h) rfl rfl rfl rfl (Nat.le_of_ble_eq_true rfl) (ws' := [((μ (0, 0, 0)), zOb 2 [.int (iI 0), .int (iI (St_p σ)), .int (iI ((St_kn σ : Nat) : Int)), .ref (μ (1, 0, 0)), .ref (μ (3, 0, 0))])]) rfl dX3_many_2 (fun H1 locs hP hD hS hZ1 hZ2 => ?_)
  have hH1 : HM G s0 μ σ 0 H1 := HM.thr hE hH1 (zF.one hZ1 hZ2) (hP 0 _ rfl)
  have hP : va_P G.1 zCl [] H1 := va_nil
  have hD : va_D (zA (FM G μ σ) H0) [] := va_nilD
  refine lv_iload_n hx hb dX3_many_5 rfl (lv_at hl 1 rfl) ?_
  refine lv_iconst (v := iI 0) hx hb dX3_many_6 rfl ?_
  refine lv_bipush (v := iI 7) hx hb dX3_many_7 (by decide) ?_
  refine z_go 0 0 (z_runS (As := [.int (iI w), .int (iI 0), .int (iI 7)]) (rest := []) hC hml hl.1 (m_X3_in hE H1 (hO.ext (zS_F hS) hMo) (0) (7) (w) ⟨by omega, by omega, by omega⟩) (lw_S q1536 q1537 q67 q1538) nd_X3_in rfl rfl (Nat.le_of_ble_eq_true rfl) ⟨Nat.le_of_ble_eq_true rfl, Nat.le_of_ble_eq_true rfl⟩ ⟨zfit (k := 0) (z := 60) rfl rfl (by omega), zfit (k := 0) (z := 700) rfl rfl (by omega)⟩ dX3_many_9) ⟨zad (k := 0) rfl (by omega), zad (k := 0) rfl (by omega)⟩ hS (fun _ z => z.elim) (fun r H2 locs hp hF hS1 => ?_)
  obtain ⟨_, rfl, rfl⟩ := hp
  have hP := zpk hP hF
  have hP : va_P G.1 zCl ([]) H2 := hP
  have hD : va_D (zA (FM G μ σ) H0) ([]) := hD
  have hH1 : HM G s0 μ σ 0 H2 := hH1.ext0 hE hF
  have hS := hS1
  obtain ⟨fl, hfl, hfl2⟩ : ∃ fl : Nat, fl ≤ 1 ∧ (if 0 ≤ w ∧ w ≤ 7 then (1 : Int) else 0) = fl ∧ (fl = 1 ↔ 0 ≤ w ∧ w ≤ 7) := by by_cases h : 0 ≤ w ∧ w ≤ 7; exact ⟨1, by decide, by rw [if_pos h]; rfl, ⟨fun _ => h, fun _ => rfl⟩⟩; exact ⟨0, by decide, by rw [if_neg h]; rfl, ⟨fun z => absurd z (by decide), fun z => absurd z h⟩⟩
  refine z_top (b := ((fl : Nat) : Int)) (hfl2.1) ?_
  refine z_zne (tgt := 21) hx hb dX3_many_12 (by decide) (by omega) (fun c3 => ?_) (fun c3 => ?_)
  · have hrg : 0 ≤ w ∧ w ≤ 7 := hfl2.2.mp (by omega)
    obtain ⟨t, rfl⟩ : ∃ t : Nat, w = t := ⟨w.toNat, by omega⟩
    refine lv_aload_n hx hb dX3_many_21 rfl (lv_at hl 0 rfl) ?_
    refine lv_iload_n hx hb dX3_many_22 rfl (lv_at hl 1 rfl) ?_
    refine z_go 60 700 (z_runV (As := [.int (iI ((t : Nat) : Int))]) (rest := []) hC hml hl.1 (m_X3_manyNow hE H2 (hO.ext (zS_F hS) hMo) μ σ 0 t hH1 (by omega)) (lw_V q1898 q1900 qs56 q67 q1901) rfl nd_X3_manyNow rfl (z_rv hC (ci := 2) rfl hH1.2.2.1.1 rfl) rfl (Nat.le_of_ble_eq_true rfl) ⟨Nat.le_of_ble_eq_true rfl, Nat.le_of_ble_eq_true rfl⟩ ⟨zfit (k := 60) (z := 60) rfl rfl (by omega), zfit (k := 700) (z := 700) rfl rfl (by omega)⟩ dX3_many_23) ⟨zad (k := 60) rfl (by omega), zad (k := 700) rfl (by omega)⟩ hS (fun _ z => z.elim) (fun r H4 locs hp hF hS1 => ?_)
    obtain ⟨_, rfl, rfl⟩ := hp
    have hP := zpk hP hF
    have hP : va_P G.1 zCl ([]) H4 := hP
    have hD : va_D (zA (FM G μ σ) H0) ([]) := hD
    have hH1 : HM G s0 μ σ 0 H4 := hH1.ext0 hE hF
    have hS := hS1
    exact z_iret hC hrt hlk hQ hS ⟨zle (z := 60) rfl (by omega), zle (z := 700) rfl (by omega)⟩ ⟨_, rfl, 0, σ, PoM.same hH1, Or.inl ⟨rfl, rfl, t, ⟨by omega, by omega⟩, rfl⟩⟩ dX3_many_26
  · refine lv_aload_n hx hb dX3_many_15 rfl (lv_at hl 0 rfl) ?_
    refine lv_iconst (v := iI 1) hx hb dX3_many_16 rfl ?_
    have hHb := hH1
    refine z_go 0 0 (z_runV (As := [.int (iI 1)]) (rest := []) hC hml hl.1 (m_X3_no hE H2 (hO.ext (zS_F hS) hMo) μ σ 0 1 hHb) (lw_V q1520 q1522 qs29 q67 q1523) rfl nd_X3_no rfl (z_rv hC (ci := 2) rfl hHb.2.2.1.1 rfl) rfl (Nat.le_of_ble_eq_true rfl) ⟨Nat.le_of_ble_eq_true rfl, Nat.le_of_ble_eq_true rfl⟩ ⟨zfit (k := 0) (z := 60) rfl rfl (by omega), zfit (k := 0) (z := 700) rfl rfl (by omega)⟩ dX3_many_17) ⟨zad (k := 0) rfl (by omega), zad (k := 0) rfl (by omega)⟩ hS (fun z hz => Or.inl (hz ▸ FM.in hE hh.sep (domM0 0 (by omega)) (by simp [rAm]))) (fun r H5 locs hp hF hS1 => ?_)
    obtain ⟨_, rfl, rfl, hx9⟩ := hp
    have hP : va_P G.1 zCl [] H5 := va_nil
    have hD : va_D (zA (FM G μ σ) H0) [] := va_nilD
    have hP : va_P G.1 zCl ([]) H5 := hP
    have hD : va_D (zA (FM G μ σ) H0) ([]) := hD
    have hS := hS1
    have hH9 : HM G s0 μ σ ((1 : Nat) : Int) H5 := HM.thr hE hHb hF hx9
    exact z_iret hC hrt hlk hQ hS ⟨zle (z := 60) rfl (by omega), zle (z := 700) rfl (by omega)⟩ ⟨_, rfl, 1, σ, PoM.same hH9, Or.inr ⟨by decide, rfl, by decide, rfl, fun z9 => by have h9 := hfl2.2.mpr z9; omega⟩⟩ dX3_many_20

abbrev rm_m_X3_apart : Room := { frames := 4, cells := 3, slots := 48, locals := 86 }
set_option maxHeartbeats 4000000 in
theorem m_X3_apart {l : Launch} {s0 : State} {G : zG} (hE : zE l s0 G) (H0 : Heap) (hO : zO s0 H0) (μ : Ro → Nat) (σ : St) (th : Int) (i j : Int) (hh : HM G s0 μ σ th H0) (hi : zi i ∧ zi j) : zM l s0 yX3_apart cX3_apart 3 (some FieldType.int) rm_m_X3_apart [.ref (μ (0, 0, 0)), .int (iI i), .int (iI j)] H0 (FM G μ σ) (HPM G s0 H0 μ σ [IOB, IAE] ((fun y σ' => σ' = σ ∧ (∃ a b : Nat, (i = a ∧ a < St_ne σ) ∧ (j = b ∧ b < St_ne σ) ∧ St_ea σ a = St_ea σ b ∧ y = (szV (apV σ a b) (St_n σ (St_ea σ a)) : Nat)))) ((fun E => X2e σ i j True E))) := by
  refine z_met hE (by decide +kernel) (Nat.le_of_ble_eq_true rfl) ?_
  intro pp ee ss mm args below meth cd Q ls hC hml hrt hlk hnm hH hQ hS hl
  have hx := hC.x
  have hb := hC.b
  have hl : lv_has ls 3 [(0, .ref (μ (0, 0, 0))), (1, .int (iI i)), (2, .int (iI j))] := hl
  have hP : va_P G.1 zCl [] H0 := va_nil
  have hD : va_D (zA (FM G μ σ) H0) [] := va_nilD
  have hMo : ∀ z, (FM G μ σ) z → s0.heap.size ≤ z := fun z hz => FM.ge hh.sep hz
  have hH1 := hh
  obtain ⟨hp, hna, hal, hne9, hel9, hmr9⟩ := id hh.ok
  have hp7 : 0 < St_p σ ∧ St_p σ ≤ 7 := by rcases hp with h | h | h <;> rw [h] <;> decide
  have hP : va_P G.1 zCl [((μ (0, 0, 0)), zOb 2 [.int (iI th), .int (iI (St_p σ)), .int (iI ((St_kn σ : Nat) : Int)), .ref (μ (1, 0, 0)), .ref (μ (3, 0, 0))])] H0 := zP1 hh.2.2.1.1
  have hD : va_D (zA (FM G μ σ) H0) [((μ (0, 0, 0)), zOb 2 [.int (iI th), .int (iI (St_p σ)), .int (iI ((St_kn σ : Nat) : Int)), .ref (μ (1, 0, 0)), .ref (μ (3, 0, 0))])] := zD1 (Or.inl (FM.in hE hh.sep (domM0 0 (by omega)) (by simp [rAm])))
  refine lv_aload_n hx hb dX3_apart_0 rfl (lv_at hl 0 rfl) ?_
  refine lv_iconst (v := iI 0) hx hb dX3_apart_1 rfl ?_
  refine z_putO hC hP hD hS 0 (k := 0) rfl rfl in_X3 tyX3_ok nmX3 (by decide) q1495 (fun _ h => h) rfl rfl rfl rfl (Nat.le_of_ble_eq_true rfl) (ws' := [((μ (0, 0, 0)), zOb 2 [.int (iI 0), .int (iI (St_p σ)), .int (iI ((St_kn σ : Nat) : Int)), .ref (μ (1, 0, 0)), .ref (μ (3, 0, 0))])]) rfl dX3_apart_2 (fun H1 locs hP hD hS hZ1 hZ2 => ?_)
  have hH1 : HM G s0 μ σ 0 H1 := HM.thr hE hH1 (zF.one hZ1 hZ2) (hP 0 _ rfl)
  have hP : va_P G.1 zCl [] H1 := va_nil
  have hD : va_D (zA (FM G μ σ) H0) [] := va_nilD
  refine lv_aload_n hx hb dX3_apart_5 rfl (lv_at hl 0 rfl) ?_
  refine lv_iload_n hx hb dX3_apart_6 rfl (lv_at hl 1 rfl) ?_
  refine z_go 0 0 (z_runV (As := [.int (iI i)]) (rest := []) hC hml hl.1 (m_X3_isElement hE H1 (hO.ext (zS_F hS) hMo) μ σ 0 i hH1 hi.1) (lw_V q1650 q1652 qs35 q67 q1653) rfl nd_X3_isElement rfl (z_rv hC (ci := 2) rfl hH1.2.2.1.1 rfl) rfl (Nat.le_of_ble_eq_true rfl) ⟨Nat.le_of_ble_eq_true rfl, Nat.le_of_ble_eq_true rfl⟩ ⟨zfit (k := 0) (z := 3) rfl rfl (by omega), zfit (k := 0) (z := 48) rfl rfl (by omega)⟩ dX3_apart_7) ⟨zad (k := 0) rfl (by omega), zad (k := 0) rfl (by omega)⟩ hS (fun _ z => z.elim) (fun r H2 locs hp hF hS1 => ?_)
  obtain ⟨_, rfl, rfl⟩ := hp
  have hP := zpk hP hF
  have hP : va_P G.1 zCl ([]) H2 := hP
  have hD : va_D (zA (FM G μ σ) H0) ([]) := hD
  have hH1 : HM G s0 μ σ 0 H2 := hH1.ext0 hE hF
  have hS := hS1
  obtain ⟨fl, hfl, hfl2⟩ : ∃ fl : Nat, fl ≤ 1 ∧ (if 0 ≤ i ∧ i < (((St_ne σ) : Nat) : Int) then (1 : Int) else 0) = fl ∧ (fl = 1 ↔ 0 ≤ i ∧ i < (((St_ne σ) : Nat) : Int)) := by by_cases h : 0 ≤ i ∧ i < (((St_ne σ) : Nat) : Int); exact ⟨1, by decide, by rw [if_pos h]; rfl, ⟨fun _ => h, fun _ => rfl⟩⟩; exact ⟨0, by decide, by rw [if_neg h]; rfl, ⟨fun z => absurd z (by decide), fun z => absurd z h⟩⟩
  refine z_top (b := ((fl : Nat) : Int)) (hfl2.1) ?_
  refine z_zeq (tgt := 21) hx hb dX3_apart_10 (by decide) (by omega) (fun c3 => ?_) (fun c3 => ?_)
  · refine lv_aload_n hx hb dX3_apart_21 rfl (lv_at hl 0 rfl) ?_
    refine lv_iconst (v := iI 1) hx hb dX3_apart_22 rfl ?_
    have hHb := hH1
    refine z_go 0 0 (z_runV (As := [.int (iI 1)]) (rest := []) hC hml hl.1 (m_X3_no hE H2 (hO.ext (zS_F hS) hMo) μ σ 0 1 hHb) (lw_V q1520 q1522 qs29 q67 q1523) rfl nd_X3_no rfl (z_rv hC (ci := 2) rfl hHb.2.2.1.1 rfl) rfl (Nat.le_of_ble_eq_true rfl) ⟨Nat.le_of_ble_eq_true rfl, Nat.le_of_ble_eq_true rfl⟩ ⟨zfit (k := 0) (z := 3) rfl rfl (by omega), zfit (k := 0) (z := 48) rfl rfl (by omega)⟩ dX3_apart_23) ⟨zad (k := 0) rfl (by omega), zad (k := 0) rfl (by omega)⟩ hS (fun z hz => Or.inl (hz ▸ FM.in hE hh.sep (domM0 0 (by omega)) (by simp [rAm]))) (fun r H4 locs hp hF hS1 => ?_)
    obtain ⟨_, rfl, rfl, hx9⟩ := hp
    have hP : va_P G.1 zCl [] H4 := va_nil
    have hD : va_D (zA (FM G μ σ) H0) [] := va_nilD
    have hP : va_P G.1 zCl ([]) H4 := hP
    have hD : va_D (zA (FM G μ σ) H0) ([]) := hD
    have hS := hS1
    have hH9 : HM G s0 μ σ ((1 : Nat) : Int) H4 := HM.thr hE hHb hF hx9
    exact z_iret hC hrt hlk hQ hS ⟨zle (z := 3) rfl (by omega), zle (z := 48) rfl (by omega)⟩ ⟨_, rfl, 1, σ, PoM.same hH9, Or.inr ⟨by decide, rfl, by decide, Or.inl ⟨rfl, fun z9 => by have h9 := hfl2.2.mpr (z9.1); omega⟩⟩⟩ dX3_apart_26
  · have hok9 := hfl2.2.mp (by omega)
    obtain ⟨a, rfl⟩ : ∃ a : Nat, i = a := ⟨i.toNat, by omega⟩
    have ha9 : a < St_ne σ := by omega
    refine lv_aload_n hx hb dX3_apart_13 rfl (lv_at hl 0 rfl) ?_
    refine lv_iload_n hx hb dX3_apart_14 rfl (lv_at hl 2 rfl) ?_
    refine z_go 0 0 (z_runV (As := [.int (iI j)]) (rest := []) hC hml hl.1 (m_X3_isElement hE H2 (hO.ext (zS_F hS) hMo) μ σ 0 j hH1 hi.2) (lw_V q1650 q1652 qs35 q67 q1653) rfl nd_X3_isElement rfl (z_rv hC (ci := 2) rfl hH1.2.2.1.1 rfl) rfl (Nat.le_of_ble_eq_true rfl) ⟨Nat.le_of_ble_eq_true rfl, Nat.le_of_ble_eq_true rfl⟩ ⟨zfit (k := 0) (z := 3) rfl rfl (by omega), zfit (k := 0) (z := 48) rfl rfl (by omega)⟩ dX3_apart_15) ⟨zad (k := 0) rfl (by omega), zad (k := 0) rfl (by omega)⟩ hS (fun _ z => z.elim) (fun r H5 locs hp hF hS1 => ?_)
    obtain ⟨_, rfl, rfl⟩ := hp
    have hP := zpk hP hF
    have hP : va_P G.1 zCl ([]) H5 := hP
    have hD : va_D (zA (FM G μ σ) H0) ([]) := hD
    have hH1 : HM G s0 μ σ 0 H5 := hH1.ext0 hE hF
    have hS := hS1
    obtain ⟨fl, hfl, hfl2⟩ : ∃ fl : Nat, fl ≤ 1 ∧ (if 0 ≤ j ∧ j < (((St_ne σ) : Nat) : Int) then (1 : Int) else 0) = fl ∧ (fl = 1 ↔ 0 ≤ j ∧ j < (((St_ne σ) : Nat) : Int)) := by by_cases h : 0 ≤ j ∧ j < (((St_ne σ) : Nat) : Int); exact ⟨1, by decide, by rw [if_pos h]; rfl, ⟨fun _ => h, fun _ => rfl⟩⟩; exact ⟨0, by decide, by rw [if_neg h]; rfl, ⟨fun z => absurd z (by decide), fun z => absurd z h⟩⟩
    refine z_top (b := ((fl : Nat) : Int)) (hfl2.1) ?_
    refine z_zne (tgt := 27) hx hb dX3_apart_18 (by decide) (by omega) (fun c6 => ?_) (fun c6 => ?_)
    · have hok9 := hfl2.2.mp (by omega)
      obtain ⟨b, rfl⟩ : ∃ b : Nat, j = b := ⟨j.toNat, by omega⟩
      have hb9 : b < St_ne σ := by omega
      refine lv_aload_n hx hb dX3_apart_27 rfl (lv_at hl 0 rfl) ?_
      refine lv_iload_n hx hb dX3_apart_28 rfl (lv_at hl 1 rfl) ?_
      refine lv_iload_n hx hb dX3_apart_29 rfl (lv_at hl 2 rfl) ?_
      refine z_go 0 0 (z_runV (As := [.int (iI ((a : Nat) : Int)), .int (iI ((b : Nat) : Int))]) (rest := []) hC hml hl.1 (m_X3_areOne hE H5 (hO.ext (zS_F hS) hMo) μ σ 0 a b hH1 ⟨by omega, by omega⟩) (lw_V q1662 q1664 qs37 q67 q1665) rfl nd_X3_areOne rfl (z_rv hC (ci := 2) rfl hH1.2.2.1.1 rfl) rfl (Nat.le_of_ble_eq_true rfl) ⟨Nat.le_of_ble_eq_true rfl, Nat.le_of_ble_eq_true rfl⟩ ⟨zfit (k := 0) (z := 3) rfl rfl (by omega), zfit (k := 0) (z := 48) rfl rfl (by omega)⟩ dX3_apart_30) ⟨zad (k := 0) rfl (by omega), zad (k := 0) rfl (by omega)⟩ hS (fun _ z => z.elim) (fun r H7 locs hp hF hS1 => ?_)
      obtain ⟨_, rfl, rfl⟩ := hp
      have hP := zpk hP hF
      have hP : va_P G.1 zCl ([]) H7 := hP
      have hD : va_D (zA (FM G μ σ) H0) ([]) := hD
      have hH1 : HM G s0 μ σ 0 H7 := hH1.ext0 hE hF
      have hS := hS1
      obtain ⟨fl, hfl, hfl2⟩ : ∃ fl : Nat, fl ≤ 1 ∧ (if St_ea σ a = St_ea σ b then (1 : Int) else 0) = fl ∧ (fl = 1 ↔ St_ea σ a = St_ea σ b) := by by_cases h : St_ea σ a = St_ea σ b; exact ⟨1, by decide, by rw [if_pos h]; rfl, ⟨fun _ => h, fun _ => rfl⟩⟩; exact ⟨0, by decide, by rw [if_neg h]; rfl, ⟨fun z => absurd z (by decide), fun z => absurd z h⟩⟩
      refine z_top (b := ((fl : Nat) : Int)) (hfl2.1) ?_
      refine z_zne (tgt := 42) hx hb dX3_apart_33 (by decide) (by omega) (fun c8 => ?_) (fun c8 => ?_)
      · have hone : St_ea σ a = St_ea σ b := hfl2.2.mp (by omega)
        have hea := hh.ea (j := a) (by omega)
        refine lv_aload_n hx hb dX3_apart_42 rfl (lv_at hl 0 rfl) ?_
        refine lv_aload_n hx hb dX3_apart_43 rfl (lv_at hl 0 rfl) ?_
        refine lv_iload_n hx hb dX3_apart_44 rfl (lv_at hl 1 rfl) ?_
        refine z_go 0 0 (z_runV (As := [.int (iI ((a : Nat) : Int))]) (rest := [.ref (μ (0, 0, 0))]) hC hml hl.1 (m_X3_home hE H7 (hO.ext (zS_F hS) hMo) μ σ 0 a hH1 (by omega)) (lw_V q1682 q1684 qs40 q67 q1685) rfl nd_X3_home rfl (z_rv hC (ci := 2) rfl hH1.2.2.1.1 rfl) rfl (Nat.le_of_ble_eq_true rfl) ⟨Nat.le_of_ble_eq_true rfl, Nat.le_of_ble_eq_true rfl⟩ ⟨zfit (k := 0) (z := 3) rfl rfl (by omega), zfit (k := 0) (z := 48) rfl rfl (by omega)⟩ dX3_apart_45) ⟨zad (k := 0) rfl (by omega), zad (k := 0) rfl (by omega)⟩ hS (fun _ z => z.elim) (fun r H9 locs hp hF hS1 => ?_)
        obtain ⟨_, rfl, rfl⟩ := hp
        have hP := zpk hP hF
        have hP : va_P G.1 zCl ([]) H9 := hP
        have hD : va_D (zA (FM G μ σ) H0) ([]) := hD
        have hH1 : HM G s0 μ σ 0 H9 := hH1.ext0 hE hF
        have hS := hS1
        have hRa := (hH1.el (j := a) (by omega)).2
        have hVa := hH1.row (j := a) (by omega)
        refine lv_aload_n hx hb dX3_apart_48 rfl (lv_at hl 0 rfl) ?_
        refine lv_iload_n hx hb dX3_apart_49 rfl (lv_at hl 1 rfl) ?_
        refine z_go 0 0 (z_runV (As := [.int (iI ((a : Nat) : Int))]) (rest := [.ref (μ (6, St_ea σ a, 0)), .ref (μ (0, 0, 0))]) hC hml hl.1 (m_X3_row hE H9 (hO.ext (zS_F hS) hMo) μ σ 0 a hH1 (by omega)) (lw_V q1654 q1656 qs36 q67 q1657) rfl nd_X3_row rfl (z_rv hC (ci := 2) rfl hH1.2.2.1.1 rfl) rfl (Nat.le_of_ble_eq_true rfl) ⟨Nat.le_of_ble_eq_true rfl, Nat.le_of_ble_eq_true rfl⟩ ⟨zfit (k := 0) (z := 3) rfl rfl (by omega), zfit (k := 0) (z := 48) rfl rfl (by omega)⟩ dX3_apart_50) ⟨zad (k := 0) rfl (by omega), zad (k := 0) rfl (by omega)⟩ hS (fun _ z => z.elim) (fun r H10 locs hp hF hS1 => ?_)
        obtain ⟨_, rfl, rfl⟩ := hp
        have hP := zpk hP hF
        have hP : va_P G.1 zCl ([]) H10 := hP
        have hD : va_D (zA (FM G μ σ) H0) ([]) := hD
        have hH1 : HM G s0 μ σ 0 H10 := hH1.ext0 hE hF
        have hS := hS1
        have hRa := (hH1.el (j := a) (by omega)).2
        have hVa := hH1.row (j := a) (by omega)
        have hRb := (hH1.el (j := b) (by omega)).2
        have hVb := hH1.row (j := b) (by omega)
        rw [← hone] at hRb hVb
        refine lv_aload_n hx hb dX3_apart_53 rfl (lv_at hl 0 rfl) ?_
        refine lv_iload_n hx hb dX3_apart_54 rfl (lv_at hl 2 rfl) ?_
        refine z_go 0 0 (z_runV (As := [.int (iI ((b : Nat) : Int))]) (rest := [.ref (μ (14, a, 0)), .ref (μ (6, St_ea σ a, 0)), .ref (μ (0, 0, 0))]) hC hml hl.1 (m_X3_row hE H10 (hO.ext (zS_F hS) hMo) μ σ 0 b hH1 (by omega)) (lw_V q1654 q1656 qs36 q67 q1657) rfl nd_X3_row rfl (z_rv hC (ci := 2) rfl hH1.2.2.1.1 rfl) rfl (Nat.le_of_ble_eq_true rfl) ⟨Nat.le_of_ble_eq_true rfl, Nat.le_of_ble_eq_true rfl⟩ ⟨zfit (k := 0) (z := 3) rfl rfl (by omega), zfit (k := 0) (z := 48) rfl rfl (by omega)⟩ dX3_apart_55) ⟨zad (k := 0) rfl (by omega), zad (k := 0) rfl (by omega)⟩ hS (fun _ z => z.elim) (fun r H11 locs hp hF hS1 => ?_)
        obtain ⟨_, rfl, rfl⟩ := hp
        have hP := zpk hP hF
        have hP : va_P G.1 zCl ([]) H11 := hP
        have hD : va_D (zA (FM G μ σ) H0) ([]) := hD
        have hH1 : HM G s0 μ σ 0 H11 := hH1.ext0 hE hF
        have hS := hS1
        have hRb := (hH1.el (j := b) (by omega)).2
        have hVb := hH1.row (j := b) (by omega)
        rw [← hone] at hRb hVb
        have hRa := (hH1.el (j := a) (by omega)).2
        have hVa := hH1.row (j := a) (by omega)
        have hsz9 : H0.size ≤ H11.size := hS.1
        have hUSt_eaσa := hH1.al (k := St_ea σ a) hea
        refine z_go 1 16 (z_runV (As := [.ref (μ (14, a, 0)), .ref (μ (14, b, 0))]) (rest := [.ref (μ (0, 0, 0))]) hC hml hl.1 (m_X6_times hE H11 (hO.ext (zS_F hS) hMo) μ σ 0 (St_ea σ a) (μ (14, a, 0)) (St_ev σ a) (μ (14, b, 0)) (St_ev σ b)  hH1 hea hRa hVa hRb hVb ) (lw_V q1686 q1687 q1688 q82 q1689) rfl nd_X6_times rfl (z_rv hC (ci := 5) rfl hUSt_eaσa.1 rfl) rfl (Nat.le_of_ble_eq_true rfl) ⟨Nat.le_of_ble_eq_true rfl, Nat.le_of_ble_eq_true rfl⟩ ⟨zfit (k := 1) (z := 3) rfl rfl (by omega), zfit (k := 16) (z := 48) rfl rfl (by omega)⟩ dX3_apart_58) ⟨zad (k := 1) rfl (by omega), zad (k := 16) rfl (by omega)⟩ hS (fun _ z => z.elim) (fun r H13 locs hp hF hS1 => ?_)
        obtain ⟨qr12, rfl, hN⟩ := hp
        obtain ⟨hP, hD⟩ := zjn hP hD hS.1 hF hN
        have hP : va_P G.1 zCl ([(qr12, zI G (St_n σ (St_ea σ a)) (tmV (St_p σ) (St_n σ (St_ea σ a)) (St_sg σ (St_ea σ a)) (St_ev σ a) (St_ev σ b)))]) H13 := hP
        have hD : va_D (zA (FM G μ σ) H0) ([(qr12, zI G (St_n σ (St_ea σ a)) (tmV (St_p σ) (St_n σ (St_ea σ a)) (St_sg σ (St_ea σ a)) (St_ev σ a) (St_ev σ b)))]) := hD
        have hH1 : HM G s0 μ σ 0 H13 := hH1.ext0 hE hF
        have hS := hS1
        have hNwqr12 : H0.size ≤ qr12 := Nat.le_trans hsz9 (hN.2.2 0 _ rfl)
        refine lv_aload_n hx hb dX3_apart_61 rfl (lv_at hl 0 rfl) ?_
        refine lv_iload_n hx hb dX3_apart_62 rfl (lv_at hl 1 rfl) ?_
        refine z_go 1 16 (z_runV (As := [.int (iI ((a : Nat) : Int))]) (rest := [.ref qr12, .ref (μ (0, 0, 0))]) hC hml hl.1 (m_X3_home hE H13 (hO.ext (zS_F hS) hMo) μ σ 0 a hH1 (by omega)) (lw_V q1682 q1684 qs40 q67 q1685) rfl nd_X3_home rfl (z_rv hC (ci := 2) rfl hH1.2.2.1.1 rfl) rfl (Nat.le_of_ble_eq_true rfl) ⟨Nat.le_of_ble_eq_true rfl, Nat.le_of_ble_eq_true rfl⟩ ⟨zfit (k := 0) (z := 3) rfl rfl (by omega), zfit (k := 0) (z := 48) rfl rfl (by omega)⟩ dX3_apart_63) ⟨zad (k := 0) rfl (by omega), zad (k := 0) rfl (by omega)⟩ hS (fun _ z => z.elim) (fun r H14 locs hp hF hS1 => ?_)
        obtain ⟨_, rfl, rfl⟩ := hp
        have hP := zpk hP hF
        have hP : va_P G.1 zCl ([(qr12, zI G (St_n σ (St_ea σ a)) (tmV (St_p σ) (St_n σ (St_ea σ a)) (St_sg σ (St_ea σ a)) (St_ev σ a) (St_ev σ b)))]) H14 := hP
        have hD : va_D (zA (FM G μ σ) H0) ([(qr12, zI G (St_n σ (St_ea σ a)) (tmV (St_p σ) (St_n σ (St_ea σ a)) (St_sg σ (St_ea σ a)) (St_ev σ a) (St_ev σ b)))]) := hD
        have hH1 : HM G s0 μ σ 0 H14 := hH1.ext0 hE hF
        have hS := hS1
        have hRb := (hH1.el (j := b) (by omega)).2
        have hVb := hH1.row (j := b) (by omega)
        rw [← hone] at hRb hVb
        refine lv_aload_n hx hb dX3_apart_66 rfl (lv_at hl 0 rfl) ?_
        refine lv_iload_n hx hb dX3_apart_67 rfl (lv_at hl 2 rfl) ?_
        refine z_go 1 16 (z_runV (As := [.int (iI ((b : Nat) : Int))]) (rest := [.ref (μ (6, St_ea σ a, 0)), .ref qr12, .ref (μ (0, 0, 0))]) hC hml hl.1 (m_X3_row hE H14 (hO.ext (zS_F hS) hMo) μ σ 0 b hH1 (by omega)) (lw_V q1654 q1656 qs36 q67 q1657) rfl nd_X3_row rfl (z_rv hC (ci := 2) rfl hH1.2.2.1.1 rfl) rfl (Nat.le_of_ble_eq_true rfl) ⟨Nat.le_of_ble_eq_true rfl, Nat.le_of_ble_eq_true rfl⟩ ⟨zfit (k := 0) (z := 3) rfl rfl (by omega), zfit (k := 0) (z := 48) rfl rfl (by omega)⟩ dX3_apart_68) ⟨zad (k := 0) rfl (by omega), zad (k := 0) rfl (by omega)⟩ hS (fun _ z => z.elim) (fun r H15 locs hp hF hS1 => ?_)
        obtain ⟨_, rfl, rfl⟩ := hp
        have hP := zpk hP hF
        have hP : va_P G.1 zCl ([(qr12, zI G (St_n σ (St_ea σ a)) (tmV (St_p σ) (St_n σ (St_ea σ a)) (St_sg σ (St_ea σ a)) (St_ev σ a) (St_ev σ b)))]) H15 := hP
        have hD : va_D (zA (FM G μ σ) H0) ([(qr12, zI G (St_n σ (St_ea σ a)) (tmV (St_p σ) (St_n σ (St_ea σ a)) (St_sg σ (St_ea σ a)) (St_ev σ a) (St_ev σ b)))]) := hD
        have hH1 : HM G s0 μ σ 0 H15 := hH1.ext0 hE hF
        have hS := hS1
        have hRb := (hH1.el (j := b) (by omega)).2
        have hVb := hH1.row (j := b) (by omega)
        rw [← hone] at hRb hVb
        have hRa := (hH1.el (j := a) (by omega)).2
        have hVa := hH1.row (j := a) (by omega)
        refine lv_aload_n hx hb dX3_apart_71 rfl (lv_at hl 0 rfl) ?_
        refine lv_iload_n hx hb dX3_apart_72 rfl (lv_at hl 1 rfl) ?_
        refine z_go 1 16 (z_runV (As := [.int (iI ((a : Nat) : Int))]) (rest := [.ref (μ (14, b, 0)), .ref (μ (6, St_ea σ a, 0)), .ref qr12, .ref (μ (0, 0, 0))]) hC hml hl.1 (m_X3_row hE H15 (hO.ext (zS_F hS) hMo) μ σ 0 a hH1 (by omega)) (lw_V q1654 q1656 qs36 q67 q1657) rfl nd_X3_row rfl (z_rv hC (ci := 2) rfl hH1.2.2.1.1 rfl) rfl (Nat.le_of_ble_eq_true rfl) ⟨Nat.le_of_ble_eq_true rfl, Nat.le_of_ble_eq_true rfl⟩ ⟨zfit (k := 0) (z := 3) rfl rfl (by omega), zfit (k := 0) (z := 48) rfl rfl (by omega)⟩ dX3_apart_73) ⟨zad (k := 0) rfl (by omega), zad (k := 0) rfl (by omega)⟩ hS (fun _ z => z.elim) (fun r H16 locs hp hF hS1 => ?_)
        obtain ⟨_, rfl, rfl⟩ := hp
        have hP := zpk hP hF
        have hP : va_P G.1 zCl ([(qr12, zI G (St_n σ (St_ea σ a)) (tmV (St_p σ) (St_n σ (St_ea σ a)) (St_sg σ (St_ea σ a)) (St_ev σ a) (St_ev σ b)))]) H16 := hP
        have hD : va_D (zA (FM G μ σ) H0) ([(qr12, zI G (St_n σ (St_ea σ a)) (tmV (St_p σ) (St_n σ (St_ea σ a)) (St_sg σ (St_ea σ a)) (St_ev σ a) (St_ev σ b)))]) := hD
        have hH1 : HM G s0 μ σ 0 H16 := hH1.ext0 hE hF
        have hS := hS1
        have hRa := (hH1.el (j := a) (by omega)).2
        have hVa := hH1.row (j := a) (by omega)
        have hRb := (hH1.el (j := b) (by omega)).2
        have hVb := hH1.row (j := b) (by omega)
        rw [← hone] at hRb hVb
        have hsz9 : H0.size ≤ H16.size := hS.1
        have hUSt_eaσa := hH1.al (k := St_ea σ a) hea
        refine z_go 2 32 (z_runV (As := [.ref (μ (14, b, 0)), .ref (μ (14, a, 0))]) (rest := [.ref qr12, .ref (μ (0, 0, 0))]) hC hml hl.1 (m_X6_times hE H16 (hO.ext (zS_F hS) hMo) μ σ 0 (St_ea σ a) (μ (14, b, 0)) (St_ev σ b) (μ (14, a, 0)) (St_ev σ a)  hH1 hea hRb hVb hRa hVa ) (lw_V q1686 q1687 q1688 q82 q1689) rfl nd_X6_times rfl (z_rv hC (ci := 5) rfl hUSt_eaσa.1 rfl) rfl (Nat.le_of_ble_eq_true rfl) ⟨Nat.le_of_ble_eq_true rfl, Nat.le_of_ble_eq_true rfl⟩ ⟨zfit (k := 1) (z := 3) rfl rfl (by omega), zfit (k := 16) (z := 48) rfl rfl (by omega)⟩ dX3_apart_76) ⟨zad (k := 1) rfl (by omega), zad (k := 16) rfl (by omega)⟩ hS (fun _ z => z.elim) (fun r H18 locs hp hF hS1 => ?_)
        obtain ⟨qr17, rfl, hN⟩ := hp
        obtain ⟨hP, hD⟩ := zjn hP hD hS.1 hF hN
        have hP : va_P G.1 zCl ([(qr12, zI G (St_n σ (St_ea σ a)) (tmV (St_p σ) (St_n σ (St_ea σ a)) (St_sg σ (St_ea σ a)) (St_ev σ a) (St_ev σ b))), (qr17, zI G (St_n σ (St_ea σ a)) (tmV (St_p σ) (St_n σ (St_ea σ a)) (St_sg σ (St_ea σ a)) (St_ev σ b) (St_ev σ a)))]) H18 := hP
        have hD : va_D (zA (FM G μ σ) H0) ([(qr12, zI G (St_n σ (St_ea σ a)) (tmV (St_p σ) (St_n σ (St_ea σ a)) (St_sg σ (St_ea σ a)) (St_ev σ a) (St_ev σ b))), (qr17, zI G (St_n σ (St_ea σ a)) (tmV (St_p σ) (St_n σ (St_ea σ a)) (St_sg σ (St_ea σ a)) (St_ev σ b) (St_ev σ a)))]) := hD
        have hH1 : HM G s0 μ σ 0 H18 := hH1.ext0 hE hF
        have hS := hS1
        have hNwqr17 : H0.size ≤ qr17 := Nat.le_trans hsz9 (hN.2.2 0 _ rfl)
        refine lv_iconst (v := iI (-1)) hx hb dX3_apart_79 rfl ?_
        have hsz9 : H0.size ≤ H18.size := hS.1
        refine z_go 3 48 (z_runV (As := [.ref qr12, .ref qr17, .int (iI (-1))]) (rest := []) hC hml hl.1 (m_X3_plus hE H18 (hO.ext (zS_F hS) hMo) μ σ 0 (St_ea σ a) qr12 (tmV (St_p σ) (St_n σ (St_ea σ a)) (St_sg σ (St_ea σ a)) (St_ev σ a) (St_ev σ b)) qr17 (tmV (St_p σ) (St_n σ (St_ea σ a)) (St_sg σ (St_ea σ a)) (St_ev σ b) (St_ev σ a)) (-1) hH1 hea (hP 0 _ rfl) (tmV_ok hp _ _ _ _) (hP 1 _ rfl) (tmV_ok hp _ _ _ _) (by decide)) (lw_V q1666 q1668 qs38 q67 q1669) rfl nd_X3_plus rfl (z_rv hC (ci := 2) rfl hH1.2.2.1.1 rfl) rfl (Nat.le_of_ble_eq_true rfl) ⟨Nat.le_of_ble_eq_true rfl, Nat.le_of_ble_eq_true rfl⟩ ⟨zfit (k := 1) (z := 3) rfl rfl (by omega), zfit (k := 16) (z := 48) rfl rfl (by omega)⟩ dX3_apart_80) ⟨zad (k := 1) rfl (by omega), zad (k := 16) rfl (by omega)⟩ hS (fun _ z => z.elim) (fun r H20 locs hp hF hS1 => ?_)
        obtain ⟨qr19, rfl, hN⟩ := hp
        obtain ⟨hP, hD⟩ := zjn hP hD hS.1 hF hN
        have hP : va_P G.1 zCl ([(qr12, zI G (St_n σ (St_ea σ a)) (tmV (St_p σ) (St_n σ (St_ea σ a)) (St_sg σ (St_ea σ a)) (St_ev σ a) (St_ev σ b))), (qr17, zI G (St_n σ (St_ea σ a)) (tmV (St_p σ) (St_n σ (St_ea σ a)) (St_sg σ (St_ea σ a)) (St_ev σ b) (St_ev σ a))), (qr19, zI G (St_n σ (St_ea σ a)) (plV (St_p σ) (-1) (tmV (St_p σ) (St_n σ (St_ea σ a)) (St_sg σ (St_ea σ a)) (St_ev σ a) (St_ev σ b)) (tmV (St_p σ) (St_n σ (St_ea σ a)) (St_sg σ (St_ea σ a)) (St_ev σ b) (St_ev σ a))))]) H20 := hP
        have hD : va_D (zA (FM G μ σ) H0) ([(qr12, zI G (St_n σ (St_ea σ a)) (tmV (St_p σ) (St_n σ (St_ea σ a)) (St_sg σ (St_ea σ a)) (St_ev σ a) (St_ev σ b))), (qr17, zI G (St_n σ (St_ea σ a)) (tmV (St_p σ) (St_n σ (St_ea σ a)) (St_sg σ (St_ea σ a)) (St_ev σ b) (St_ev σ a))), (qr19, zI G (St_n σ (St_ea σ a)) (plV (St_p σ) (-1) (tmV (St_p σ) (St_n σ (St_ea σ a)) (St_sg σ (St_ea σ a)) (St_ev σ a) (St_ev σ b)) (tmV (St_p σ) (St_n σ (St_ea σ a)) (St_sg σ (St_ea σ a)) (St_ev σ b) (St_ev σ a))))]) := hD
        have hH1 : HM G s0 μ σ 0 H20 := hH1.ext0 hE hF
        have hS := hS1
        have hNwqr19 : H0.size ≤ qr19 := Nat.le_trans hsz9 (hN.2.2 0 _ rfl)
        have hap := plV_ok hp (St_n σ (St_ea σ a)) (-1) (tmV (St_p σ) (St_n σ (St_ea σ a)) (St_sg σ (St_ea σ a)) (St_ev σ a) (St_ev σ b)) (tmV (St_p σ) (St_n σ (St_ea σ a)) (St_sg σ (St_ea σ a)) (St_ev σ b) (St_ev σ a))
        have hnn := hh.n hea
        refine z_go 3 48 (z_runS (As := [.ref qr19]) (rest := []) hC hml hl.1 (m_X3_size hE H20 (hO.ext (zS_F hS) hMo) qr19 (St_n σ (St_ea σ a)) (apV σ a b) (hP 2 _ rfl) (fun j9 hj9 => by have := hap j9 hj9; exact ⟨this.1, Int.lt_of_lt_of_le this.2 hp7.2⟩) hnn) (lw_S q1675 q1676 q67 q1677) nd_X3_size rfl rfl (Nat.le_of_ble_eq_true rfl) ⟨Nat.le_of_ble_eq_true rfl, Nat.le_of_ble_eq_true rfl⟩ ⟨zfit (k := 0) (z := 3) rfl rfl (by omega), zfit (k := 0) (z := 48) rfl rfl (by omega)⟩ dX3_apart_83) ⟨zad (k := 0) rfl (by omega), zad (k := 0) rfl (by omega)⟩ hS (fun _ z => z.elim) (fun r H21 locs hp hF hS1 => ?_)
        obtain ⟨_, rfl, rfl⟩ := hp
        have hP := zpk hP hF
        have hP : va_P G.1 zCl ([(qr12, zI G (St_n σ (St_ea σ a)) (tmV (St_p σ) (St_n σ (St_ea σ a)) (St_sg σ (St_ea σ a)) (St_ev σ a) (St_ev σ b))), (qr17, zI G (St_n σ (St_ea σ a)) (tmV (St_p σ) (St_n σ (St_ea σ a)) (St_sg σ (St_ea σ a)) (St_ev σ b) (St_ev σ a))), (qr19, zI G (St_n σ (St_ea σ a)) (plV (St_p σ) (-1) (tmV (St_p σ) (St_n σ (St_ea σ a)) (St_sg σ (St_ea σ a)) (St_ev σ a) (St_ev σ b)) (tmV (St_p σ) (St_n σ (St_ea σ a)) (St_sg σ (St_ea σ a)) (St_ev σ b) (St_ev σ a))))]) H21 := hP
        have hD : va_D (zA (FM G μ σ) H0) ([(qr12, zI G (St_n σ (St_ea σ a)) (tmV (St_p σ) (St_n σ (St_ea σ a)) (St_sg σ (St_ea σ a)) (St_ev σ a) (St_ev σ b))), (qr17, zI G (St_n σ (St_ea σ a)) (tmV (St_p σ) (St_n σ (St_ea σ a)) (St_sg σ (St_ea σ a)) (St_ev σ b) (St_ev σ a))), (qr19, zI G (St_n σ (St_ea σ a)) (plV (St_p σ) (-1) (tmV (St_p σ) (St_n σ (St_ea σ a)) (St_sg σ (St_ea σ a)) (St_ev σ a) (St_ev σ b)) (tmV (St_p σ) (St_n σ (St_ea σ a)) (St_sg σ (St_ea σ a)) (St_ev σ b) (St_ev σ a))))]) := hD
        have hH1 : HM G s0 μ σ 0 H21 := hH1.ext0 hE hF
        have hS := hS1
        exact z_iret hC hrt hlk hQ hS ⟨zle (z := 3) rfl (by omega), zle (z := 48) rfl (by omega)⟩ ⟨_, rfl, 0, σ, PoM.same hH1, Or.inl ⟨rfl, rfl, a, b, ⟨by omega, by omega⟩, ⟨by omega, by omega⟩, hone, rfl⟩⟩ dX3_apart_86
      · refine lv_aload_n hx hb dX3_apart_36 rfl (lv_at hl 0 rfl) ?_
        refine lv_iconst (v := iI 2) hx hb dX3_apart_37 rfl ?_
        have hHb := hH1
        refine z_go 0 0 (z_runV (As := [.int (iI 2)]) (rest := []) hC hml hl.1 (m_X3_no hE H7 (hO.ext (zS_F hS) hMo) μ σ 0 2 hHb) (lw_V q1520 q1522 qs29 q67 q1523) rfl nd_X3_no rfl (z_rv hC (ci := 2) rfl hHb.2.2.1.1 rfl) rfl (Nat.le_of_ble_eq_true rfl) ⟨Nat.le_of_ble_eq_true rfl, Nat.le_of_ble_eq_true rfl⟩ ⟨zfit (k := 0) (z := 3) rfl rfl (by omega), zfit (k := 0) (z := 48) rfl rfl (by omega)⟩ dX3_apart_38) ⟨zad (k := 0) rfl (by omega), zad (k := 0) rfl (by omega)⟩ hS (fun z hz => Or.inl (hz ▸ FM.in hE hh.sep (domM0 0 (by omega)) (by simp [rAm]))) (fun r H22 locs hp hF hS1 => ?_)
        obtain ⟨_, rfl, rfl, hx9⟩ := hp
        have hP : va_P G.1 zCl [] H22 := va_nil
        have hD : va_D (zA (FM G μ σ) H0) [] := va_nilD
        have hP : va_P G.1 zCl ([]) H22 := hP
        have hD : va_D (zA (FM G μ σ) H0) ([]) := hD
        have hS := hS1
        have hH9 : HM G s0 μ σ ((2 : Nat) : Int) H22 := HM.thr hE hHb hF hx9
        exact z_iret hC hrt hlk hQ hS ⟨zle (z := 3) rfl (by omega), zle (z := 48) rfl (by omega)⟩ ⟨_, rfl, 2, σ, PoM.same hH9, Or.inr ⟨by decide, rfl, by decide, Or.inr ⟨rfl, inE_n (by omega), inE_n (by omega), fun z9 => by have h9 := hfl2.2.mpr z9.1; omega⟩⟩⟩ dX3_apart_41
    · refine lv_aload_n hx hb dX3_apart_21 rfl (lv_at hl 0 rfl) ?_
      refine lv_iconst (v := iI 1) hx hb dX3_apart_22 rfl ?_
      have hHb := hH1
      refine z_go 0 0 (z_runV (As := [.int (iI 1)]) (rest := []) hC hml hl.1 (m_X3_no hE H5 (hO.ext (zS_F hS) hMo) μ σ 0 1 hHb) (lw_V q1520 q1522 qs29 q67 q1523) rfl nd_X3_no rfl (z_rv hC (ci := 2) rfl hHb.2.2.1.1 rfl) rfl (Nat.le_of_ble_eq_true rfl) ⟨Nat.le_of_ble_eq_true rfl, Nat.le_of_ble_eq_true rfl⟩ ⟨zfit (k := 0) (z := 3) rfl rfl (by omega), zfit (k := 0) (z := 48) rfl rfl (by omega)⟩ dX3_apart_23) ⟨zad (k := 0) rfl (by omega), zad (k := 0) rfl (by omega)⟩ hS (fun z hz => Or.inl (hz ▸ FM.in hE hh.sep (domM0 0 (by omega)) (by simp [rAm]))) (fun r H23 locs hp hF hS1 => ?_)
      obtain ⟨_, rfl, rfl, hx9⟩ := hp
      have hP : va_P G.1 zCl [] H23 := va_nil
      have hD : va_D (zA (FM G μ σ) H0) [] := va_nilD
      have hP : va_P G.1 zCl ([]) H23 := hP
      have hD : va_D (zA (FM G μ σ) H0) ([]) := hD
      have hS := hS1
      have hH9 : HM G s0 μ σ ((1 : Nat) : Int) H23 := HM.thr hE hHb hF hx9
      exact z_iret hC hrt hlk hQ hS ⟨zle (z := 3) rfl (by omega), zle (z := 48) rfl (by omega)⟩ ⟨_, rfl, 1, σ, PoM.same hH9, Or.inr ⟨by decide, rfl, by decide, Or.inl ⟨rfl, fun z9 => by have h9 := hfl2.2.mpr (z9.2); omega⟩⟩⟩ dX3_apart_26

theorem kp0 {p : Int} {sg : Nat → Nat → Int} {i j : Nat} : kpV p sg 0 i j 0 = (sg i j == sg j i) := if_pos rfl
theorem kp0_i {p : Int} {sg : Nat → Nat → Int} {i j : Nat} : b2i (kpV p sg 0 i j 0) = ((b2n (sg i j == sg j i) : Nat) : Int) := by rw [kp0]; exact b2n_i _
abbrev rm_m_X3_algebraNow : Room := { frames := 4, cells := 1, slots := 6, locals := 87 }
set_option maxHeartbeats 4000000 in
theorem m_X3_algebraNow {l : Launch} {s0 : State} {G : zG} (hE : zE l s0 G) (H0 : Heap) (hO : zO s0 H0) (μ : Ro → Nat) (σ : St) (th : Int) (k t : Nat) (hh : HM G s0 μ σ th H0) (hk : k < St_na σ) (ht : t ≤ 5) : zM l s0 yX3_algebraNow cX3_algebraNow 8 (some FieldType.int) rm_m_X3_algebraNow [.ref (μ (0, 0, 0)), .int (iI ((k : Nat) : Int)), .int (iI ((t : Nat) : Int))] H0 M0 (ri (fun y _ => y = oaV σ k t)) := by
  refine z_met hE (by decide +kernel) (Nat.le_of_ble_eq_true rfl) ?_
  intro pp ee ss mm args below meth cd Q ls hC hml hrt hlk hnm hH hQ hS hl
  have hx := hC.x
  have hb := hC.b
  have hl : lv_has ls 8 [(0, .ref (μ (0, 0, 0))), (1, .int (iI ((k : Nat) : Int))), (2, .int (iI ((t : Nat) : Int)))] := hl
  have hP : va_P G.1 zCl [] H0 := va_nil
  have hD : va_D (zA M0 H0) [] := va_nilD
  have hH1 := hh
  obtain ⟨hp, hna, hal, hne9, hel9, hmr9⟩ := id hh.ok
  have hp7 : 0 < St_p σ ∧ St_p σ ≤ 7 := by rcases hp with h | h | h <;> rw [h] <;> decide
  have hb2 := fun b : Bool => show b2n b ≤ 1 from by cases b <;> decide
  have hnn := hh.n hk
  have hdk := hal k hk
  have hH1 : HM G s0 μ σ th H0 := hh.ext0 hE (zS_F hS)
  have hxx := hH1.2.2.1.1
  refine lv_aload_n hx hb dX3_algebraNow_0 rfl (lv_at hl 0 rfl) ?_
  have hH1 : HM G s0 μ σ th H0 := hh.ext0 hE (zS_F hS)
  have hxx := hH1.2.2.1.1
  have hH1 : HM G s0 μ σ th H0 := hh.ext0 hE (zS_F hS)
  have hAk := hH1.al (k := k) hk
  have hn16k := hH1.n (k := k) hk
  refine z_get hC (k := 3) rfl in_X3 hxx (by decide) q1499 (fun _ h => h) rfl dX3_algebraNow_1 ?_
  refine lv_iload_n hx hb dX3_algebraNow_4 rfl (lv_at hl 1 rfl) ?_
  have hH1 : HM G s0 μ σ th H0 := hh.ext0 hE (zS_F hS)
  obtain ⟨mda, hLa⟩ := id hH1.2.2.1.2.1
  refine z_go5 0 0 (z_runF (n := 1) (As := [.int (iI ((k : Nat) : Int))]) (rest := []) (ci := 8) hC hml hl.1 (m_J2_get hE H0 (hO.ext0 (zS_F hS)) (μ (1, 0, 0)) (St_na σ) (fun k => μ (6, k, 0)) (μ (2, 0, 0)) mda k hLa hk) q375 q1588 q1591 q373 q65 q1590 q1589 q1593 q1592 q1528 ⟨by decide +kernel, by decide +kernel, by decide +kernel⟩ rfl rfl rfl (z_rv hC (ci := 8) rfl hLa.1 rfl) rfl (Nat.le_of_ble_eq_true rfl) ⟨Nat.le_of_ble_eq_true rfl, Nat.le_of_ble_eq_true rfl⟩ ⟨zfit (k := 0) (z := 1) rfl rfl (by omega), zfit (k := 0) (z := 6) rfl rfl (by omega)⟩ dX3_algebraNow_5) ⟨zad (k := 0) rfl (by omega), zad (k := 0) rfl (by omega)⟩ hS (fun _ z => z.elim) (fun r H1 locs hp hF hS1 => ?_)
  obtain ⟨_, rfl, rfl⟩ := hp
  have hP := zpk hP hF
  have hP : va_P G.1 zCl ([]) H1 := hP
  have hD : va_D (zA M0 H0) ([]) := hD
  have hS := hS1
  have hH1 : HM G s0 μ σ th H1 := hh.ext0 hE (zS_F hS)
  have hAk := hH1.al (k := k) hk
  have hn16k := hH1.n (k := k) hk
  refine z_cast hC (ci := 5) rfl hAk.1 rfl q1539 dX3_algebraNow_10 ?_
  refine lv_astore_n (lv' := [(3, .ref (μ (6, k, 0))), (0, .ref (μ (0, 0, 0))), (1, .int (iI ((k : Nat) : Int))), (2, .int (iI ((t : Nat) : Int)))]) hx hb dX3_algebraNow_13 rfl hl (by decide) rfl (fun ls hl => ?_)
  refine lv_iconst (v := iI 0) hx hb dX3_algebraNow_14 rfl ?_
  refine lv_istore (lv' := [(4, .int (iI 0)), (3, .ref (μ (6, k, 0))), (0, .ref (μ (0, 0, 0))), (1, .int (iI ((k : Nat) : Int))), (2, .int (iI ((t : Nat) : Int)))]) hx hb dX3_algebraNow_15 hl (by decide) rfl (fun ls hl => ?_)
  refine lv_iconst (v := iI 0) hx hb dX3_algebraNow_17 rfl ?_
  refine lv_istore (lv' := [(5, .int (iI 0)), (4, .int (iI 0)), (3, .ref (μ (6, k, 0))), (0, .ref (μ (0, 0, 0))), (1, .int (iI ((k : Nat) : Int))), (2, .int (iI ((t : Nat) : Int)))]) hx hb dX3_algebraNow_18 hl (by decide) rfl (fun ls hl => ?_)
  have lp2 : ∀ (dlp2 : Nat) (i : Nat) (c : Nat), (St_n σ k) - i = dlp2 → (i ≤ (St_n σ k)) → (c = ceV (St_sg σ k) (St_n σ k) i) → ∀ (H3 : Heap) (locs : List Loc) (ls : Array Slot), va_P G.1 zCl ([]) H3 → va_D (zA M0 H0) ([]) → va_S (zA M0 H0) H0 H3 locs → lv_has ls 8 [(5, .int (iI ((i : Nat) : Int))), (4, .int (iI ((c : Nat) : Int))), (3, .ref (μ (6, k, 0))), (0, .ref (μ (0, 0, 0))), (1, .int (iI ((k : Nat) : Int))), (2, .int (iI ((t : Nat) : Int)))] → W pp l ee rm_m_X3_algebraNow ss mm args below meth cd H3 locs 0 0 Q (F0 mm 20 ls []) := by
    intro dlp2
    induction dlp2 using Nat.strongRecOn with
    | ind dlp2 ihlp2 =>
      intro i c hdlp2 hi hc H3 locs ls  hP hD hS hl
      have hH1 : HM G s0 μ σ th H3 := hh.ext0 hE (zS_F hS)
      have hAk := hH1.al (k := k) hk
      have hn16k := hH1.n (k := k) hk
      refine lv_iload hx hb dX3_algebraNow_20 (lv_at hl 0 rfl) ?_
      refine lv_aload_n hx hb dX3_algebraNow_22 rfl (lv_at hl 2 rfl) ?_
      have hH1 : HM G s0 μ σ th H3 := hh.ext0 hE (zS_F hS)
      have hUk := hH1.al (k := k) hk
      have hP2k : (2 : Nat) ^ St_d σ k = St_n σ k := rfl
      refine z_go 0 0 (z_runV (As := []) (rest := [.int (iI ((i : Nat) : Int))]) hC hml hl.1 (m_X6_units hE H3 (hO.ext0 (zS_F hS)) (μ (6, k, 0)) (μ (7, k, 0)) (μ (11, k, 0)) (μ (9, k, 0)) (μ (0, 0, 0)) (St_kd σ k) (St_d σ k) hUk.1 (hal k hk).2.1) (lw_V q1627 q1604 q1605 q82 q1606) rfl nd_X6_units rfl (z_rv hC (ci := 5) rfl hUk.1 rfl) rfl (Nat.le_of_ble_eq_true rfl) ⟨Nat.le_of_ble_eq_true rfl, Nat.le_of_ble_eq_true rfl⟩ ⟨zfit (k := 0) (z := 1) rfl rfl (by omega), zfit (k := 0) (z := 6) rfl rfl (by omega)⟩ dX3_algebraNow_23) ⟨zad (k := 0) rfl (by omega), zad (k := 0) rfl (by omega)⟩ hS (fun _ z => z.elim) (fun r H4 locs hp hF hS1 => ?_)
      obtain ⟨_, rfl, rfl⟩ := hp
      have hP := zpk hP hF
      have hP : va_P G.1 zCl ([]) H4 := hP
      have hD : va_D (zA M0 H0) ([]) := hD
      have hS := hS1
      refine z_cge (tgt := 89) hx hb dX3_algebraNow_26 (by decide) (by omega) (fun c5 => ?_) (fun c5 => ?_)
      · have ei : i = (St_n σ k) := by omega
        have hl : lv_has ls 8 [(4, .int (iI ((c : Nat) : Int))), (3, .ref (μ (6, k, 0))), (0, .ref (μ (0, 0, 0))), (1, .int (iI ((k : Nat) : Int))), (2, .int (iI ((t : Nat) : Int)))] := lv_sub hl [1, 2, 3, 4, 5] rfl
        have hH1 : HM G s0 μ σ th H4 := hh.ext0 hE (zS_F hS)
        have hAk := hH1.al (k := k) hk
        have hn16k := hH1.n (k := k) hk
        refine lv_bipush (v := iI 6) hx hb dX3_algebraNow_89 (by decide) ?_
        refine z_newi hC hP hD hS (N := 6) (c1 := 1) (s1 := 6) rfl (by omega) ⟨zle (z := 1) rfl (by omega), zle (z := 6) rfl (by omega)⟩ ⟨by omega, by omega⟩ (ws' := fun q6 => [(q6, zI G 6 (fun _ => 0))]) (fun _ => rfl) dX3_algebraNow_91 (fun q6 H7 hq0q6 hq1q6 hP hD hS hF => ?_)
        refine lv_dup hx hb dX3_algebraNow_93 rfl ?_
        refine lv_iconst (v := iI 0) hx hb dX3_algebraNow_94 rfl ?_
        refine lv_aload_n hx hb dX3_algebraNow_95 rfl (lv_at hl 1 rfl) ?_
        have hH1 : HM G s0 μ σ th H7 := hh.ext0 hE (zS_F hS)
        have hxx := hH1.2.2.1.1
        have hH1 : HM G s0 μ σ th H7 := hh.ext0 hE (zS_F hS)
        have hAk := hH1.al (k := k) hk
        have hn16k := hH1.n (k := k) hk
        refine z_get hC (k := 0) rfl in_X6 hAk.1 (by decide) q1549 (fun _ h => h) rfl dX3_algebraNow_96 ?_
        refine z_iast hC hP hD hS 0 (k := 0) rfl rfl (by omega) (ws' := [(q6, zI G 6 (va_up (fun _ => 0) 0 ((St_kd σ k : Nat) : Int)))]) rfl dX3_algebraNow_99 (fun H8 locs hP hD hS => ?_)
        refine lv_dup hx hb dX3_algebraNow_100 rfl ?_
        refine lv_iconst (v := iI 1) hx hb dX3_algebraNow_101 rfl ?_
        refine lv_aload_n hx hb dX3_algebraNow_102 rfl (lv_at hl 1 rfl) ?_
        have hH1 : HM G s0 μ σ th H8 := hh.ext0 hE (zS_F hS)
        have hxx := hH1.2.2.1.1
        have hH1 : HM G s0 μ σ th H8 := hh.ext0 hE (zS_F hS)
        have hAk := hH1.al (k := k) hk
        have hn16k := hH1.n (k := k) hk
        refine z_get hC (k := 3) rfl in_X6 hAk.1 (by decide) q1555 (fun _ h => h) rfl dX3_algebraNow_103 ?_
        refine z_iast hC hP hD hS 0 (k := 1) rfl rfl (by omega) (ws' := [(q6, zI G 6 (va_up (va_up (fun _ => 0) 0 ((St_kd σ k : Nat) : Int)) 1 ((St_d σ k : Nat) : Int)))]) rfl dX3_algebraNow_106 (fun H9 locs hP hD hS => ?_)
        refine lv_dup hx hb dX3_algebraNow_107 rfl ?_
        refine lv_iconst (v := iI 2) hx hb dX3_algebraNow_108 rfl ?_
        refine lv_aload_n hx hb dX3_algebraNow_109 rfl (lv_at hl 1 rfl) ?_
        have hH1 : HM G s0 μ σ th H9 := hh.ext0 hE (zS_F hS)
        have hUk := hH1.al (k := k) hk
        have hP2k : (2 : Nat) ^ St_d σ k = St_n σ k := rfl
        refine z_go 1 6 (z_runV (As := []) (rest := [.int (iI 2), .ref q6, .ref q6]) hC hml hl.1 (m_X6_units hE H9 (hO.ext0 (zS_F hS)) (μ (6, k, 0)) (μ (7, k, 0)) (μ (11, k, 0)) (μ (9, k, 0)) (μ (0, 0, 0)) (St_kd σ k) (St_d σ k) hUk.1 (hal k hk).2.1) (lw_V q1627 q1604 q1605 q82 q1606) rfl nd_X6_units rfl (z_rv hC (ci := 5) rfl hUk.1 rfl) rfl (Nat.le_of_ble_eq_true rfl) ⟨Nat.le_of_ble_eq_true rfl, Nat.le_of_ble_eq_true rfl⟩ ⟨zfit (k := 0) (z := 1) rfl rfl (by omega), zfit (k := 0) (z := 6) rfl rfl (by omega)⟩ dX3_algebraNow_110) ⟨zad (k := 0) rfl (by omega), zad (k := 0) rfl (by omega)⟩ hS (fun _ z => z.elim) (fun r H10 locs hp hF hS1 => ?_)
        obtain ⟨_, rfl, rfl⟩ := hp
        have hP := zpk hP hF
        have hP : va_P G.1 zCl ([(q6, zI G 6 (va_up (va_up (fun _ => 0) 0 ((St_kd σ k : Nat) : Int)) 1 ((St_d σ k : Nat) : Int)))]) H10 := hP
        have hD : va_D (zA M0 H0) ([(q6, zI G 6 (va_up (va_up (fun _ => 0) 0 ((St_kd σ k : Nat) : Int)) 1 ((St_d σ k : Nat) : Int)))]) := hD
        have hS := hS1
        refine z_iast hC hP hD hS 0 (k := 2) rfl rfl (by omega) (ws' := [(q6, zI G 6 (va_up (va_up (va_up (fun _ => 0) 0 ((St_kd σ k : Nat) : Int)) 1 ((St_d σ k : Nat) : Int)) 2 ((St_n σ k : Nat) : Int)))]) rfl dX3_algebraNow_113 (fun H11 locs hP hD hS => ?_)
        refine lv_dup hx hb dX3_algebraNow_114 rfl ?_
        refine lv_iconst (v := iI 3) hx hb dX3_algebraNow_115 rfl ?_
        refine lv_aload_n hx hb dX3_algebraNow_116 rfl (lv_at hl 2 rfl) ?_
        refine lv_iload_n hx hb dX3_algebraNow_117 rfl (lv_at hl 3 rfl) ?_
        have hH1 : HM G s0 μ σ th H11 := hh.ext0 hE (zS_F hS)
        refine z_go 1 6 (z_runV (As := [.int (iI ((k : Nat) : Int))]) (rest := [.int (iI 3), .ref q6, .ref q6]) hC hml hl.1 (m_X3_elementsOf hE H11 (hO.ext0 (zS_F hS)) μ σ th k hH1 hk) (lw_V q1594 q1596 qs31 q67 q1597) rfl nd_X3_elementsOf rfl (z_rv hC (ci := 2) rfl hH1.2.2.1.1 rfl) rfl (Nat.le_of_ble_eq_true rfl) ⟨Nat.le_of_ble_eq_true rfl, Nat.le_of_ble_eq_true rfl⟩ ⟨zfit (k := 0) (z := 1) rfl rfl (by omega), zfit (k := 0) (z := 6) rfl rfl (by omega)⟩ dX3_algebraNow_118) ⟨zad (k := 0) rfl (by omega), zad (k := 0) rfl (by omega)⟩ hS (fun _ z => z.elim) (fun r H12 locs hp hF hS1 => ?_)
        obtain ⟨_, rfl, rfl⟩ := hp
        have hP := zpk hP hF
        have hP : va_P G.1 zCl ([(q6, zI G 6 (va_up (va_up (va_up (fun _ => 0) 0 ((St_kd σ k : Nat) : Int)) 1 ((St_d σ k : Nat) : Int)) 2 ((St_n σ k : Nat) : Int)))]) H12 := hP
        have hD : va_D (zA M0 H0) ([(q6, zI G 6 (va_up (va_up (va_up (fun _ => 0) 0 ((St_kd σ k : Nat) : Int)) 1 ((St_d σ k : Nat) : Int)) 2 ((St_n σ k : Nat) : Int)))]) := hD
        have hS := hS1
        have hH1 : HM G s0 μ σ th H12 := hh.ext0 hE (zS_F hS)
        have hAk := hH1.al (k := k) hk
        have hn16k := hH1.n (k := k) hk
        refine z_iast hC hP hD hS 0 (k := 3) rfl rfl (by omega) (ws' := [(q6, zI G 6 (va_up (va_up (va_up (va_up (fun _ => 0) 0 ((St_kd σ k : Nat) : Int)) 1 ((St_d σ k : Nat) : Int)) 2 ((St_n σ k : Nat) : Int)) 3 ((ecV σ k (St_ne σ) : Nat) : Int)))]) rfl dX3_algebraNow_121 (fun H13 locs hP hD hS => ?_)
        refine lv_dup hx hb dX3_algebraNow_122 rfl ?_
        refine lv_iconst (v := iI 4) hx hb dX3_algebraNow_123 rfl ?_
        refine lv_iload hx hb dX3_algebraNow_124 (lv_at hl 0 rfl) ?_
        refine z_iast hC hP hD hS 0 (k := 4) rfl rfl (by omega) (ws' := [(q6, zI G 6 (va_up (va_up (va_up (va_up (va_up (fun _ => 0) 0 ((St_kd σ k : Nat) : Int)) 1 ((St_d σ k : Nat) : Int)) 2 ((St_n σ k : Nat) : Int)) 3 ((ecV σ k (St_ne σ) : Nat) : Int)) 4 ((c : Nat) : Int)))]) rfl dX3_algebraNow_126 (fun H14 locs hP hD hS => ?_)
        refine lv_dup hx hb dX3_algebraNow_127 rfl ?_
        refine lv_iconst (v := iI 5) hx hb dX3_algebraNow_128 rfl ?_
        refine lv_aload_n hx hb dX3_algebraNow_129 rfl (lv_at hl 1 rfl) ?_
        have hH1 : HM G s0 μ σ th H14 := hh.ext0 hE (zS_F hS)
        have hxx := hH1.2.2.1.1
        have hH1 : HM G s0 μ σ th H14 := hh.ext0 hE (zS_F hS)
        have hAk := hH1.al (k := k) hk
        have hn16k := hH1.n (k := k) hk
        refine z_get hC (k := 4) rfl in_X6 hAk.1 (by decide) q1557 (fun _ h => h) rfl dX3_algebraNow_130 ?_
        have hH1 : HM G s0 μ σ th H14 := hh.ext0 hE (zS_F hS)
        obtain ⟨mdm, hLm⟩ := (hH1.al (k := k) hk).2.2.1
        refine z_go5 1 6 (z_runF (n := 0) (As := []) (rest := [.int (iI 5), .ref q6, .ref q6]) (ci := 8) hC hml hl.1 (m_J2_size hE H14 (hO.ext0 (zS_F hS)) (μ (9, k, 0)) (St_nm σ k) _ (μ (10, k, 0)) mdm hLm) q232 q1525 q1529 q230 q65 q1527 q1526 q1531 q1530 q1528 ⟨by decide +kernel, by decide +kernel, by decide +kernel⟩ rfl rfl rfl (z_rv hC (ci := 8) rfl hLm.1 rfl) rfl (Nat.le_of_ble_eq_true rfl) ⟨Nat.le_of_ble_eq_true rfl, Nat.le_of_ble_eq_true rfl⟩ ⟨zfit (k := 0) (z := 1) rfl rfl (by omega), zfit (k := 0) (z := 6) rfl rfl (by omega)⟩ dX3_algebraNow_133) ⟨zad (k := 0) rfl (by omega), zad (k := 0) rfl (by omega)⟩ hS (fun _ z => z.elim) (fun r H15 locs hp hF hS1 => ?_)
        obtain ⟨_, rfl, rfl⟩ := hp
        have hP := zpk hP hF
        have hP : va_P G.1 zCl ([(q6, zI G 6 (va_up (va_up (va_up (va_up (va_up (fun _ => 0) 0 ((St_kd σ k : Nat) : Int)) 1 ((St_d σ k : Nat) : Int)) 2 ((St_n σ k : Nat) : Int)) 3 ((ecV σ k (St_ne σ) : Nat) : Int)) 4 ((c : Nat) : Int)))]) H15 := hP
        have hD : va_D (zA M0 H0) ([(q6, zI G 6 (va_up (va_up (va_up (va_up (va_up (fun _ => 0) 0 ((St_kd σ k : Nat) : Int)) 1 ((St_d σ k : Nat) : Int)) 2 ((St_n σ k : Nat) : Int)) 3 ((ecV σ k (St_ne σ) : Nat) : Int)) 4 ((c : Nat) : Int)))]) := hD
        have hS := hS1
        refine z_iast hC hP hD hS 0 (k := 5) rfl rfl (by omega) (ws' := [(q6, zI G 6 (va_up (va_up (va_up (va_up (va_up (va_up (fun _ => 0) 0 ((St_kd σ k : Nat) : Int)) 1 ((St_d σ k : Nat) : Int)) 2 ((St_n σ k : Nat) : Int)) 3 ((ecV σ k (St_ne σ) : Nat) : Int)) 4 ((c : Nat) : Int)) 5 ((St_nm σ k : Nat) : Int)))]) rfl dX3_algebraNow_138 (fun H16 locs hP hD hS => ?_)
        refine lv_astore (lv' := [(5, .ref q6), (4, .int (iI ((c : Nat) : Int))), (3, .ref (μ (6, k, 0))), (0, .ref (μ (0, 0, 0))), (1, .int (iI ((k : Nat) : Int))), (2, .int (iI ((t : Nat) : Int)))]) hx hb dX3_algebraNow_139 hl (by decide) rfl (fun ls hl => ?_)
        refine lv_aload hx hb dX3_algebraNow_141 (lv_at hl 0 rfl) ?_
        refine lv_iload_n hx hb dX3_algebraNow_143 rfl (lv_at hl 5 rfl) ?_
        refine z_iald hC (hP 0 _ rfl) (k := t) rfl (by omega) (y := (va_up (va_up (va_up (va_up (va_up (va_up (fun _ => 0) 0 ((St_kd σ k : Nat) : Int)) 1 ((St_d σ k : Nat) : Int)) 2 ((St_n σ k : Nat) : Int)) 3 ((ecV σ k (St_ne σ) : Nat) : Int)) 4 ((c : Nat) : Int)) 5 ((St_nm σ k : Nat) : Int)) t) rfl dX3_algebraNow_144 ?_
        exact z_iret hC hrt hlk hQ hS ⟨zle (z := 1) rfl (by omega), zle (z := 6) rfl (by omega)⟩ ⟨_, rfl, by rcases (show t = 0 ∨ t = 1 ∨ t = 2 ∨ t = 3 ∨ t = 4 ∨ t = 5 by omega) with rfl | rfl | rfl | rfl | rfl | rfl <;> simp [va_up, oaV, hc, ei]⟩ dX3_algebraNow_145
      · have hcl := ceV_lt (St_sg σ k) (St_n σ k) i
        have h2i : 2 ^ i ≤ 32768 := Nat.le_trans (Nat.pow_le_pow_right (by decide) (show i ≤ 15 by omega)) (by decide)
        refine lv_iconst (v := iI 1) hx hb dX3_algebraNow_29 rfl ?_
        refine lv_istore (lv' := [(6, .int (iI 1)), (5, .int (iI ((i : Nat) : Int))), (4, .int (iI ((c : Nat) : Int))), (3, .ref (μ (6, k, 0))), (0, .ref (μ (0, 0, 0))), (1, .int (iI ((k : Nat) : Int))), (2, .int (iI ((t : Nat) : Int)))]) hx hb dX3_algebraNow_30 hl (by decide) rfl (fun ls hl => ?_)
        refine lv_iconst (v := iI 0) hx hb dX3_algebraNow_32 rfl ?_
        refine lv_istore (lv' := [(7, .int (iI 0)), (6, .int (iI 1)), (5, .int (iI ((i : Nat) : Int))), (4, .int (iI ((c : Nat) : Int))), (3, .ref (μ (6, k, 0))), (0, .ref (μ (0, 0, 0))), (1, .int (iI ((k : Nat) : Int))), (2, .int (iI ((t : Nat) : Int)))]) hx hb dX3_algebraNow_33 hl (by decide) rfl (fun ls hl => ?_)
        have lp17 : ∀ (dlp17 : Nat) (j : Nat) (f : Nat), (St_n σ k) - j = dlp17 → (j ≤ (St_n σ k)) → (f = b2n (cmV (St_sg σ k) i j)) → ∀ (H18 : Heap) (locs : List Loc) (ls : Array Slot), va_P G.1 zCl ([]) H18 → va_D (zA M0 H0) ([]) → va_S (zA M0 H0) H0 H18 locs → lv_has ls 8 [(5, .int (iI ((i : Nat) : Int))), (4, .int (iI ((c : Nat) : Int))), (3, .ref (μ (6, k, 0))), (0, .ref (μ (0, 0, 0))), (1, .int (iI ((k : Nat) : Int))), (2, .int (iI ((t : Nat) : Int))), (6, .int (iI ((f : Nat) : Int))), (7, .int (iI ((j : Nat) : Int)))] → W pp l ee rm_m_X3_algebraNow ss mm args below meth cd H18 locs 0 0 Q (F0 mm 35 ls []) := by
          intro dlp17
          induction dlp17 using Nat.strongRecOn with
          | ind dlp17 ihlp17 =>
            intro j f hdlp17 hj hf H18 locs ls  hP hD hS hl
            have hH1 : HM G s0 μ σ th H18 := hh.ext0 hE (zS_F hS)
            have hAk := hH1.al (k := k) hk
            have hn16k := hH1.n (k := k) hk
            refine lv_iload hx hb dX3_algebraNow_35 (lv_at hl 7 rfl) ?_
            refine lv_aload_n hx hb dX3_algebraNow_37 rfl (lv_at hl 2 rfl) ?_
            have hH1 : HM G s0 μ σ th H18 := hh.ext0 hE (zS_F hS)
            have hUk := hH1.al (k := k) hk
            have hP2k : (2 : Nat) ^ St_d σ k = St_n σ k := rfl
            refine z_go 0 0 (z_runV (As := []) (rest := [.int (iI ((j : Nat) : Int))]) hC hml hl.1 (m_X6_units hE H18 (hO.ext0 (zS_F hS)) (μ (6, k, 0)) (μ (7, k, 0)) (μ (11, k, 0)) (μ (9, k, 0)) (μ (0, 0, 0)) (St_kd σ k) (St_d σ k) hUk.1 (hal k hk).2.1) (lw_V q1627 q1604 q1605 q82 q1606) rfl nd_X6_units rfl (z_rv hC (ci := 5) rfl hUk.1 rfl) rfl (Nat.le_of_ble_eq_true rfl) ⟨Nat.le_of_ble_eq_true rfl, Nat.le_of_ble_eq_true rfl⟩ ⟨zfit (k := 0) (z := 1) rfl rfl (by omega), zfit (k := 0) (z := 6) rfl rfl (by omega)⟩ dX3_algebraNow_38) ⟨zad (k := 0) rfl (by omega), zad (k := 0) rfl (by omega)⟩ hS (fun _ z => z.elim) (fun r H19 locs hp hF hS1 => ?_)
            obtain ⟨_, rfl, rfl⟩ := hp
            have hP := zpk hP hF
            have hP : va_P G.1 zCl ([]) H19 := hP
            have hD : va_D (zA M0 H0) ([]) := hD
            have hS := hS1
            refine z_cge (tgt := 65) hx hb dX3_algebraNow_41 (by decide) (by omega) (fun c20 => ?_) (fun c20 => ?_)
            · have ej : j = (St_n σ k) := by omega
              have hff : f = b2n (cmV (St_sg σ k) i (St_n σ k)) := by rw [hf, ej]
              have hff1 : f ≤ 1 := by rw [hf]; exact hb2 _
              have hff2 := hb2 (cmV (St_sg σ k) i (St_n σ k))
              refine lv_iload hx hb dX3_algebraNow_65 (lv_at hl 1 rfl) ?_
              refine lv_iload hx hb dX3_algebraNow_67 (lv_at hl 6 rfl) ?_
              refine z_zeq (tgt := 79) hx hb dX3_algebraNow_69 (by decide) (by omega) (fun c21 => ?_) (fun c21 => ?_)
              · have hcm : cmV (St_sg σ k) i (St_n σ k) = false := by cases e : cmV (St_sg σ k) i (St_n σ k); rfl; rw [e] at hff; have : f = 1 := hff; omega
                refine lv_iconst (v := iI 0) hx hb dX3_algebraNow_79 rfl ?_
                refine z_or hx hb (n := c ||| 0) dX3_algebraNow_80 rfl rfl rfl ?_
                refine z_top (b := ((ceV (St_sg σ k) (St_n σ k) (i + 1) : Nat) : Int)) (by simp only [ceV]; rw [hcm, hc]; simp) ?_
                refine lv_istore (lv' := [(4, .int (iI ((ceV (St_sg σ k) (St_n σ k) (i + 1) : Nat) : Int))), (5, .int (iI ((i : Nat) : Int))), (3, .ref (μ (6, k, 0))), (0, .ref (μ (0, 0, 0))), (1, .int (iI ((k : Nat) : Int))), (2, .int (iI ((t : Nat) : Int))), (6, .int (iI ((f : Nat) : Int))), (7, .int (iI ((j : Nat) : Int)))]) hx hb dX3_algebraNow_81 hl (by decide) rfl (fun ls hl => ?_)
                refine z_iinc (z := ((i + 1 : Nat) : Int)) (lv' := [(5, .int (iI ((i + 1 : Nat) : Int))), (4, .int (iI ((ceV (St_sg σ k) (St_n σ k) (i + 1) : Nat) : Int))), (3, .ref (μ (6, k, 0))), (0, .ref (μ (0, 0, 0))), (1, .int (iI ((k : Nat) : Int))), (2, .int (iI ((t : Nat) : Int))), (6, .int (iI ((f : Nat) : Int))), (7, .int (iI ((j : Nat) : Int)))]) hx hb dX3_algebraNow_83 hl (k := 1) rfl (by omega) (by decide) rfl (fun ls hl => ?_)
                refine lv_goto (tgt := 20) hx hb dX3_algebraNow_86 (by decide) ?_
                exact W.widen (by omega) (by omega) (ihlp2 ((St_n σ k) - (i + 1)) (by omega) (i + 1) (ceV (St_sg σ k) (St_n σ k) (i + 1)) rfl (by omega) rfl _ _ _  hP hD hS (lv_sub hl [0, 1, 2, 3, 4, 5] rfl))
              · have hcm : cmV (St_sg σ k) i (St_n σ k) = true := by cases e : cmV (St_sg σ k) i (St_n σ k); (rw [e] at hff; have : f = 0 := hff; omega); rfl
                refine lv_iconst (v := iI 1) hx hb dX3_algebraNow_72 rfl ?_
                refine lv_iload hx hb dX3_algebraNow_73 (lv_at hl 0 rfl) ?_
                refine z_shl hx hb (i := 1) (j := i) (n := 1 * 2 ^ i) dX3_algebraNow_75 rfl rfl (by omega) rfl ?_
                refine z_top (b := ((2 ^ i : Nat) : Int)) (by omega) ?_
                refine lv_goto (tgt := 80) hx hb dX3_algebraNow_76 (by decide) ?_
                refine z_or hx hb (n := c ||| (2 ^ i)) dX3_algebraNow_80 rfl rfl rfl ?_
                refine z_top (b := ((ceV (St_sg σ k) (St_n σ k) (i + 1) : Nat) : Int)) (by simp only [ceV]; rw [hcm, hc]; simp) ?_
                refine lv_istore (lv' := [(4, .int (iI ((ceV (St_sg σ k) (St_n σ k) (i + 1) : Nat) : Int))), (5, .int (iI ((i : Nat) : Int))), (3, .ref (μ (6, k, 0))), (0, .ref (μ (0, 0, 0))), (1, .int (iI ((k : Nat) : Int))), (2, .int (iI ((t : Nat) : Int))), (6, .int (iI ((f : Nat) : Int))), (7, .int (iI ((j : Nat) : Int)))]) hx hb dX3_algebraNow_81 hl (by decide) rfl (fun ls hl => ?_)
                refine z_iinc (z := ((i + 1 : Nat) : Int)) (lv' := [(5, .int (iI ((i + 1 : Nat) : Int))), (4, .int (iI ((ceV (St_sg σ k) (St_n σ k) (i + 1) : Nat) : Int))), (3, .ref (μ (6, k, 0))), (0, .ref (μ (0, 0, 0))), (1, .int (iI ((k : Nat) : Int))), (2, .int (iI ((t : Nat) : Int))), (6, .int (iI ((f : Nat) : Int))), (7, .int (iI ((j : Nat) : Int)))]) hx hb dX3_algebraNow_83 hl (k := 1) rfl (by omega) (by decide) rfl (fun ls hl => ?_)
                refine lv_goto (tgt := 20) hx hb dX3_algebraNow_86 (by decide) ?_
                exact W.widen (by omega) (by omega) (ihlp2 ((St_n σ k) - (i + 1)) (by omega) (i + 1) (ceV (St_sg σ k) (St_n σ k) (i + 1)) rfl (by omega) rfl _ _ _  hP hD hS (lv_sub hl [0, 1, 2, 3, 4, 5] rfl))
            · refine lv_iload hx hb dX3_algebraNow_44 (lv_at hl 6 rfl) ?_
              refine lv_aload_n hx hb dX3_algebraNow_46 rfl (lv_at hl 2 rfl) ?_
              refine lv_iconst (v := iI 0) hx hb dX3_algebraNow_47 rfl ?_
              refine lv_iload hx hb dX3_algebraNow_48 (lv_at hl 0 rfl) ?_
              refine lv_iload hx hb dX3_algebraNow_50 (lv_at hl 7 rfl) ?_
              refine lv_iconst (v := iI 0) hx hb dX3_algebraNow_52 rfl ?_
              have hH1 : HM G s0 μ σ th H19 := hh.ext0 hE (zS_F hS)
              have hAk := hH1.al (k := k) hk
              have hn16k := hH1.n (k := k) hk
              have hH1 : HM G s0 μ σ th H19 := hh.ext0 hE (zS_F hS)
              refine z_go 0 0 (z_runV (As := [.int (iI 0), .int (iI ((i : Nat) : Int)), .int (iI ((j : Nat) : Int)), .int (iI 0)]) (rest := [.int (iI ((f : Nat) : Int))]) hC hml hl.1 (m_X6_keeps hE H19 (hO.ext0 (zS_F hS)) μ σ th k 0 i j 0 hH1 hk (by decide) ⟨by omega, by omega, by omega⟩) (lw_V q1850 q1851 q1852 q82 q1853) rfl nd_X6_keeps rfl (z_rv hC (ci := 5) rfl hAk.1 rfl) rfl (Nat.le_of_ble_eq_true rfl) ⟨Nat.le_of_ble_eq_true rfl, Nat.le_of_ble_eq_true rfl⟩ ⟨zfit (k := 0) (z := 1) rfl rfl (by omega), zfit (k := 0) (z := 6) rfl rfl (by omega)⟩ dX3_algebraNow_53) ⟨zad (k := 0) rfl (by omega), zad (k := 0) rfl (by omega)⟩ hS (fun _ z => z.elim) (fun r H22 locs hp hF hS1 => ?_)
              obtain ⟨_, rfl, rfl⟩ := hp
              have hP := zpk hP hF
              have hP : va_P G.1 zCl ([]) H22 := hP
              have hD : va_D (zA M0 H0) ([]) := hD
              have hS := hS1
              refine z_top (b := ((b2n (St_sg σ k i j == St_sg σ k j i) : Nat) : Int)) (kp0_i) ?_
              refine z_and hx hb (n := f &&& (b2n (St_sg σ k i j == St_sg σ k j i))) dX3_algebraNow_56 rfl rfl rfl ?_
              refine z_top (b := ((b2n (cmV (St_sg σ k) i j && (St_sg σ k i j == St_sg σ k j i)) : Nat) : Int)) (by rw [hf, b2n_and]) ?_
              refine lv_istore (lv' := [(6, .int (iI ((b2n (cmV (St_sg σ k) i j && (St_sg σ k i j == St_sg σ k j i)) : Nat) : Int))), (5, .int (iI ((i : Nat) : Int))), (4, .int (iI ((c : Nat) : Int))), (3, .ref (μ (6, k, 0))), (0, .ref (μ (0, 0, 0))), (1, .int (iI ((k : Nat) : Int))), (2, .int (iI ((t : Nat) : Int))), (7, .int (iI ((j : Nat) : Int)))]) hx hb dX3_algebraNow_57 hl (by decide) rfl (fun ls hl => ?_)
              refine z_iinc (z := ((j + 1 : Nat) : Int)) (lv' := [(7, .int (iI ((j + 1 : Nat) : Int))), (6, .int (iI ((b2n (cmV (St_sg σ k) i j && (St_sg σ k i j == St_sg σ k j i)) : Nat) : Int))), (5, .int (iI ((i : Nat) : Int))), (4, .int (iI ((c : Nat) : Int))), (3, .ref (μ (6, k, 0))), (0, .ref (μ (0, 0, 0))), (1, .int (iI ((k : Nat) : Int))), (2, .int (iI ((t : Nat) : Int)))]) hx hb dX3_algebraNow_59 hl (k := 7) rfl (by omega) (by decide) rfl (fun ls hl => ?_)
              refine lv_goto (tgt := 35) hx hb dX3_algebraNow_62 (by decide) ?_
              exact W.widen (by omega) (by omega) (ihlp17 ((St_n σ k) - (j + 1)) (by omega) (j + 1) (b2n (cmV (St_sg σ k) i (j + 1))) rfl (by omega) rfl _ _ _  hP hD hS (lv_sub hl [2, 3, 4, 5, 6, 7, 1, 0] rfl))
        exact W.widen (by omega) (by omega) (lp17 _ 0 1 rfl (Nat.zero_le _) rfl _ _ _  hP hD hS (lv_sub hl [2, 3, 4, 5, 6, 7, 1, 0] rfl))
  exact W.widen (by omega) (by omega) (lp2 _ 0 0 rfl (Nat.zero_le _) rfl _ _ _  hP hD hS hl)

abbrev rm_m_X3_ofAlgebra : Room := { frames := 5, cells := 1, slots := 6, locals := 114 }
set_option maxHeartbeats 4000000 in
theorem m_X3_ofAlgebra {l : Launch} {s0 : State} {G : zG} (hE : zE l s0 G) (H0 : Heap) (hO : zO s0 H0) (μ : Ro → Nat) (σ : St) (th : Int) (i w : Int) (hh : HM G s0 μ σ th H0) (hi : zi i ∧ zi w) : zM l s0 yX3_ofAlgebra cX3_ofAlgebra 3 (some FieldType.int) rm_m_X3_ofAlgebra [.ref (μ (0, 0, 0)), .int (iI i), .int (iI w)] H0 (FM G μ σ) (HPM G s0 H0 μ σ [IOB, IAE] ((fun y σ' => σ' = σ ∧ (∃ k t : Nat, (i = k ∧ k < St_na σ) ∧ (w = t ∧ t ≤ 5) ∧ y = oaV σ k t))) ((fun E => X1aa σ i (0 ≤ w ∧ w ≤ 5) E))) := by
  refine z_met hE (by decide +kernel) (Nat.le_of_ble_eq_true rfl) ?_
  intro pp ee ss mm args below meth cd Q ls hC hml hrt hlk hnm hH hQ hS hl
  have hx := hC.x
  have hb := hC.b
  have hl : lv_has ls 3 [(0, .ref (μ (0, 0, 0))), (1, .int (iI i)), (2, .int (iI w))] := hl
  have hP : va_P G.1 zCl [] H0 := va_nil
  have hD : va_D (zA (FM G μ σ) H0) [] := va_nilD
  have hMo : ∀ z, (FM G μ σ) z → s0.heap.size ≤ z := fun z hz => FM.ge hh.sep hz
  have hH1 := hh
  obtain ⟨hp, hna, hal, hne9, hel9, hmr9⟩ := id hh.ok
  have hp7 : 0 < St_p σ ∧ St_p σ ≤ 7 := by rcases hp with h | h | h <;> rw [h] <;> decide
  have hP : va_P G.1 zCl [((μ (0, 0, 0)), zOb 2 [.int (iI th), .int (iI (St_p σ)), .int (iI ((St_kn σ : Nat) : Int)), .ref (μ (1, 0, 0)), .ref (μ (3, 0, 0))])] H0 := zP1 hh.2.2.1.1
  have hD : va_D (zA (FM G μ σ) H0) [((μ (0, 0, 0)), zOb 2 [.int (iI th), .int (iI (St_p σ)), .int (iI ((St_kn σ : Nat) : Int)), .ref (μ (1, 0, 0)), .ref (μ (3, 0, 0))])] := zD1 (Or.inl (FM.in hE hh.sep (domM0 0 (by omega)) (by simp [rAm])))
  refine lv_aload_n hx hb dX3_ofAlgebra_0 rfl (lv_at hl 0 rfl) ?_
  refine lv_iconst (v := iI 0) hx hb dX3_ofAlgebra_1 rfl ?_
  refine z_putO hC hP hD hS 0 (k := 0) rfl rfl in_X3 tyX3_ok nmX3 (by decide) q1495 (fun _ h => h) rfl rfl rfl rfl (Nat.le_of_ble_eq_true rfl) (ws' := [((μ (0, 0, 0)), zOb 2 [.int (iI 0), .int (iI (St_p σ)), .int (iI ((St_kn σ : Nat) : Int)), .ref (μ (1, 0, 0)), .ref (μ (3, 0, 0))])]) rfl dX3_ofAlgebra_2 (fun H1 locs hP hD hS hZ1 hZ2 => ?_)
  have hH1 : HM G s0 μ σ 0 H1 := HM.thr hE hH1 (zF.one hZ1 hZ2) (hP 0 _ rfl)
  have hP : va_P G.1 zCl [] H1 := va_nil
  have hD : va_D (zA (FM G μ σ) H0) [] := va_nilD
  refine lv_aload_n hx hb dX3_ofAlgebra_5 rfl (lv_at hl 0 rfl) ?_
  refine lv_iload_n hx hb dX3_ofAlgebra_6 rfl (lv_at hl 1 rfl) ?_
  refine z_go 0 0 (z_runV (As := [.int (iI i)]) (rest := []) hC hml hl.1 (m_X3_isAlgebra hE H1 (hO.ext (zS_F hS) hMo) μ σ 0 i hH1 hi.1) (lw_V q1583 q1585 qs30 q67 q1586) rfl nd_X3_isAlgebra rfl (z_rv hC (ci := 2) rfl hH1.2.2.1.1 rfl) rfl (Nat.le_of_ble_eq_true rfl) ⟨Nat.le_of_ble_eq_true rfl, Nat.le_of_ble_eq_true rfl⟩ ⟨zfit (k := 0) (z := 1) rfl rfl (by omega), zfit (k := 0) (z := 6) rfl rfl (by omega)⟩ dX3_ofAlgebra_7) ⟨zad (k := 0) rfl (by omega), zad (k := 0) rfl (by omega)⟩ hS (fun _ z => z.elim) (fun r H2 locs hp hF hS1 => ?_)
  obtain ⟨_, rfl, rfl⟩ := hp
  have hP := zpk hP hF
  have hP : va_P G.1 zCl ([]) H2 := hP
  have hD : va_D (zA (FM G μ σ) H0) ([]) := hD
  have hH1 : HM G s0 μ σ 0 H2 := hH1.ext0 hE hF
  have hS := hS1
  obtain ⟨fl, hfl, hfl2⟩ : ∃ fl : Nat, fl ≤ 1 ∧ (if 0 ≤ i ∧ i < (((St_na σ) : Nat) : Int) then (1 : Int) else 0) = fl ∧ (fl = 1 ↔ 0 ≤ i ∧ i < (((St_na σ) : Nat) : Int)) := by by_cases h : 0 ≤ i ∧ i < (((St_na σ) : Nat) : Int); exact ⟨1, by decide, by rw [if_pos h]; rfl, ⟨fun _ => h, fun _ => rfl⟩⟩; exact ⟨0, by decide, by rw [if_neg h]; rfl, ⟨fun z => absurd z (by decide), fun z => absurd z h⟩⟩
  refine z_top (b := ((fl : Nat) : Int)) (hfl2.1) ?_
  refine z_zne (tgt := 19) hx hb dX3_ofAlgebra_10 (by decide) (by omega) (fun c3 => ?_) (fun c3 => ?_)
  · have hok9 := hfl2.2.mp (by omega)
    obtain ⟨k, rfl⟩ : ∃ k : Nat, i = k := ⟨i.toNat, by omega⟩
    have hk9 : k < St_na σ := by omega
    refine lv_iload_n hx hb dX3_ofAlgebra_19 rfl (lv_at hl 2 rfl) ?_
    refine lv_iconst (v := iI 0) hx hb dX3_ofAlgebra_20 rfl ?_
    refine lv_iconst (v := iI 5) hx hb dX3_ofAlgebra_21 rfl ?_
    refine z_go 0 0 (z_runS (As := [.int (iI w), .int (iI 0), .int (iI 5)]) (rest := []) hC hml hl.1 (m_X3_in hE H2 (hO.ext (zS_F hS) hMo) (0) (5) (w) ⟨by omega, by omega, by omega⟩) (lw_S q1536 q1537 q67 q1538) nd_X3_in rfl rfl (Nat.le_of_ble_eq_true rfl) ⟨Nat.le_of_ble_eq_true rfl, Nat.le_of_ble_eq_true rfl⟩ ⟨zfit (k := 0) (z := 1) rfl rfl (by omega), zfit (k := 0) (z := 6) rfl rfl (by omega)⟩ dX3_ofAlgebra_22) ⟨zad (k := 0) rfl (by omega), zad (k := 0) rfl (by omega)⟩ hS (fun _ z => z.elim) (fun r H4 locs hp hF hS1 => ?_)
    obtain ⟨_, rfl, rfl⟩ := hp
    have hP := zpk hP hF
    have hP : va_P G.1 zCl ([]) H4 := hP
    have hD : va_D (zA (FM G μ σ) H0) ([]) := hD
    have hH1 : HM G s0 μ σ 0 H4 := hH1.ext0 hE hF
    have hS := hS1
    obtain ⟨fl, hfl, hfl2⟩ : ∃ fl : Nat, fl ≤ 1 ∧ (if 0 ≤ w ∧ w ≤ 5 then (1 : Int) else 0) = fl ∧ (fl = 1 ↔ 0 ≤ w ∧ w ≤ 5) := by by_cases h : 0 ≤ w ∧ w ≤ 5; exact ⟨1, by decide, by rw [if_pos h]; rfl, ⟨fun _ => h, fun _ => rfl⟩⟩; exact ⟨0, by decide, by rw [if_neg h]; rfl, ⟨fun z => absurd z (by decide), fun z => absurd z h⟩⟩
    refine z_top (b := ((fl : Nat) : Int)) (hfl2.1) ?_
    refine z_zne (tgt := 34) hx hb dX3_ofAlgebra_25 (by decide) (by omega) (fun c5 => ?_) (fun c5 => ?_)
    · have hrg : 0 ≤ w ∧ w ≤ 5 := hfl2.2.mp (by omega)
      obtain ⟨t, rfl⟩ : ∃ t : Nat, w = t := ⟨w.toNat, by omega⟩
      refine lv_aload_n hx hb dX3_ofAlgebra_34 rfl (lv_at hl 0 rfl) ?_
      refine lv_iload_n hx hb dX3_ofAlgebra_35 rfl (lv_at hl 1 rfl) ?_
      refine lv_iload_n hx hb dX3_ofAlgebra_36 rfl (lv_at hl 2 rfl) ?_
      refine z_go 1 6 (z_runV (As := [.int (iI ((k : Nat) : Int)), .int (iI ((t : Nat) : Int))]) (rest := []) hC hml hl.1 (m_X3_algebraNow hE H4 (hO.ext (zS_F hS) hMo) μ σ 0 k t hH1 (by omega) (by omega)) (lw_V q1846 q1848 qs52 q67 q1849) rfl nd_X3_algebraNow rfl (z_rv hC (ci := 2) rfl hH1.2.2.1.1 rfl) rfl (Nat.le_of_ble_eq_true rfl) ⟨Nat.le_of_ble_eq_true rfl, Nat.le_of_ble_eq_true rfl⟩ ⟨zfit (k := 1) (z := 1) rfl rfl (by omega), zfit (k := 6) (z := 6) rfl rfl (by omega)⟩ dX3_ofAlgebra_37) ⟨zad (k := 1) rfl (by omega), zad (k := 6) rfl (by omega)⟩ hS (fun _ z => z.elim) (fun r H6 locs hp hF hS1 => ?_)
      obtain ⟨_, rfl, rfl⟩ := hp
      have hP := zpk hP hF
      have hP : va_P G.1 zCl ([]) H6 := hP
      have hD : va_D (zA (FM G μ σ) H0) ([]) := hD
      have hH1 : HM G s0 μ σ 0 H6 := hH1.ext0 hE hF
      have hS := hS1
      exact z_iret hC hrt hlk hQ hS ⟨zle (z := 1) rfl (by omega), zle (z := 6) rfl (by omega)⟩ ⟨_, rfl, 0, σ, PoM.same hH1, Or.inl ⟨rfl, rfl, k, t, ⟨by omega, by omega⟩, ⟨by omega, by omega⟩, rfl⟩⟩ dX3_ofAlgebra_40
    · refine lv_aload_n hx hb dX3_ofAlgebra_28 rfl (lv_at hl 0 rfl) ?_
      refine lv_iconst (v := iI 2) hx hb dX3_ofAlgebra_29 rfl ?_
      have hHb := hH1
      refine z_go 0 0 (z_runV (As := [.int (iI 2)]) (rest := []) hC hml hl.1 (m_X3_no hE H4 (hO.ext (zS_F hS) hMo) μ σ 0 2 hHb) (lw_V q1520 q1522 qs29 q67 q1523) rfl nd_X3_no rfl (z_rv hC (ci := 2) rfl hHb.2.2.1.1 rfl) rfl (Nat.le_of_ble_eq_true rfl) ⟨Nat.le_of_ble_eq_true rfl, Nat.le_of_ble_eq_true rfl⟩ ⟨zfit (k := 0) (z := 1) rfl rfl (by omega), zfit (k := 0) (z := 6) rfl rfl (by omega)⟩ dX3_ofAlgebra_30) ⟨zad (k := 0) rfl (by omega), zad (k := 0) rfl (by omega)⟩ hS (fun z hz => Or.inl (hz ▸ FM.in hE hh.sep (domM0 0 (by omega)) (by simp [rAm]))) (fun r H7 locs hp hF hS1 => ?_)
      obtain ⟨_, rfl, rfl, hx9⟩ := hp
      have hP : va_P G.1 zCl [] H7 := va_nil
      have hD : va_D (zA (FM G μ σ) H0) [] := va_nilD
      have hP : va_P G.1 zCl ([]) H7 := hP
      have hD : va_D (zA (FM G μ σ) H0) ([]) := hD
      have hS := hS1
      have hH9 : HM G s0 μ σ ((2 : Nat) : Int) H7 := HM.thr hE hHb hF hx9
      exact z_iret hC hrt hlk hQ hS ⟨zle (z := 1) rfl (by omega), zle (z := 6) rfl (by omega)⟩ ⟨_, rfl, 2, σ, PoM.same hH9, Or.inr ⟨by decide, rfl, by decide, Or.inr ⟨rfl, ⟨by omega, by omega⟩, fun z9 => by have h9 := hfl2.2.mpr z9; omega⟩⟩⟩ dX3_ofAlgebra_33
  · refine lv_aload_n hx hb dX3_ofAlgebra_13 rfl (lv_at hl 0 rfl) ?_
    refine lv_iconst (v := iI 1) hx hb dX3_ofAlgebra_14 rfl ?_
    have hHb := hH1
    refine z_go 0 0 (z_runV (As := [.int (iI 1)]) (rest := []) hC hml hl.1 (m_X3_no hE H2 (hO.ext (zS_F hS) hMo) μ σ 0 1 hHb) (lw_V q1520 q1522 qs29 q67 q1523) rfl nd_X3_no rfl (z_rv hC (ci := 2) rfl hHb.2.2.1.1 rfl) rfl (Nat.le_of_ble_eq_true rfl) ⟨Nat.le_of_ble_eq_true rfl, Nat.le_of_ble_eq_true rfl⟩ ⟨zfit (k := 0) (z := 1) rfl rfl (by omega), zfit (k := 0) (z := 6) rfl rfl (by omega)⟩ dX3_ofAlgebra_15) ⟨zad (k := 0) rfl (by omega), zad (k := 0) rfl (by omega)⟩ hS (fun z hz => Or.inl (hz ▸ FM.in hE hh.sep (domM0 0 (by omega)) (by simp [rAm]))) (fun r H8 locs hp hF hS1 => ?_)
    obtain ⟨_, rfl, rfl, hx9⟩ := hp
    have hP : va_P G.1 zCl [] H8 := va_nil
    have hD : va_D (zA (FM G μ σ) H0) [] := va_nilD
    have hP : va_P G.1 zCl ([]) H8 := hP
    have hD : va_D (zA (FM G μ σ) H0) ([]) := hD
    have hS := hS1
    have hH9 : HM G s0 μ σ ((1 : Nat) : Int) H8 := HM.thr hE hHb hF hx9
    exact z_iret hC hrt hlk hQ hS ⟨zle (z := 1) rfl (by omega), zle (z := 6) rfl (by omega)⟩ ⟨_, rfl, 1, σ, PoM.same hH9, Or.inr ⟨by decide, rfl, by decide, Or.inl ⟨rfl, fun z9 => by have h9 := hfl2.2.mpr z9; omega⟩⟩⟩ dX3_ofAlgebra_18

