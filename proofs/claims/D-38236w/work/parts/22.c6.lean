/-! THE CLASS: blades, what an algebra is asked -/
set_option maxRecDepth 100000
abbrev rm_m_X11_sign : Room := { frames := 3, cells := 0, slots := 0, locals := 64 }
set_option maxHeartbeats 4000000 in
theorem m_X11_sign {l : Launch} {s0 : State} {G : zG} (hE : zE l s0 G) (H0 : Heap) (hO : zO s0 H0) (kd : Nat) (dl d : Nat) (dv : Nat → Int) (da : Nat) (dm : Int) (t i j : Nat) (ekd : kd = 1) (hL : zLs G dl d (fun i => G.2 (1000 + ((dv i).toNat + 128))) da dm H0) (hdv : ∀ k, k < d → 0 < dv k ∧ dv k < 7) (ht : t ≤ d ∧ t ≤ 4) (hij : i < 16 ∧ j < 16) : zMU l s0 yX11_sign cX11_sign 7 (some FieldType.int) rm_m_X11_sign [.ref (G.2 (10 + kd)), .ref dl, .int (iI ((t : Nat) : Int)), .int (iI ((i : Nat) : Int)), .int (iI ((j : Nat) : Int))] H0 M0 (ri (fun y _ => y = sgB dv t i j)) := by
  refine z_metU hE (by decide +kernel) (Nat.le_of_ble_eq_true rfl) ?_
  intro pp ee ss mm args below meth cd Q ls hC hml hrt hlk hnm hH hQ hS hl
  have hx := hC.x
  have hb := hC.b
  have hl : lv_has ls 7 [(0, .ref (G.2 (10 + kd))), (1, .ref dl), (2, .int (iI ((t : Nat) : Int))), (3, .int (iI ((i : Nat) : Int))), (4, .int (iI ((j : Nat) : Int)))] := hl
  have hP : va_P G.1 zCl [] H0 := va_nil
  have hD : va_D (zA M0 H0) [] := va_nilD
  refine lv_iconst (v := iI 1) hx hb dX11_sign_0 rfl ?_
  refine lv_istore (lv' := [(5, .int (iI 1)), (0, .ref (G.2 (10 + kd))), (1, .ref dl), (2, .int (iI ((t : Nat) : Int))), (3, .int (iI ((i : Nat) : Int))), (4, .int (iI ((j : Nat) : Int)))]) hx hb dX11_sign_1 hl (by decide) rfl (fun ls hl => ?_)
  refine lv_iconst (v := iI 0) hx hb dX11_sign_3 rfl ?_
  refine lv_istore (lv' := [(6, .int (iI 0)), (5, .int (iI 1)), (0, .ref (G.2 (10 + kd))), (1, .ref dl), (2, .int (iI ((t : Nat) : Int))), (3, .int (iI ((i : Nat) : Int))), (4, .int (iI ((j : Nat) : Int)))]) hx hb dX11_sign_4 hl (by decide) rfl (fun ls hl => ?_)
  have hdn := hL.n10
  have lp1 : ∀ (dlp1 : Nat) (k : Nat) (z : Int), t - k = dlp1 → (k ≤ t) → (z = sgB dv k i j) → ∀ (H2 : Heap) (locs : List Loc) (ls : Array Slot), va_P G.1 zCl ([]) H2 → va_D (zA M0 H0) ([]) → va_S (zA M0 H0) H0 H2 locs → lv_has ls 7 [(6, .int (iI ((k : Nat) : Int))), (5, .int (iI z)), (0, .ref (G.2 (10 + kd))), (1, .ref dl), (2, .int (iI ((t : Nat) : Int))), (3, .int (iI ((i : Nat) : Int))), (4, .int (iI ((j : Nat) : Int)))] → W pp l ee rm_m_X11_sign ss mm args below meth cd H2 locs 0 0 Q (F0 mm 6 ls []) := by
    intro dlp1
    induction dlp1 using Nat.strongRecOn with
    | ind dlp1 ihlp1 =>
      intro k z hdlp1 hk hz H2 locs ls  hP hD hS hl
      refine lv_iload hx hb dX11_sign_6 (lv_at hl 0 rfl) ?_
      refine lv_iload_n hx hb dX11_sign_8 rfl (lv_at hl 4 rfl) ?_
      refine z_cge (tgt := 81) hx hb dX11_sign_9 (by decide) (by omega) (fun c3 => ?_) (fun c3 => ?_)
      · have ek : k = t := by omega
        refine lv_iload hx hb dX11_sign_81 (lv_at hl 1 rfl) ?_
        exact z_iret hC hrt hlk hQ hS ⟨zle (z := 0) rfl (by omega), zle (z := 0) rfl (by omega)⟩ ⟨_, rfl, by rw [hz, ek]⟩ dX11_sign_83
      · have h2k := Nat.two_pow_pos k
        have h2m : 2 ^ k ≤ 2 ^ 4 := Nat.pow_le_pow_right (by decide) (by omega)
        have hk1 := Nat.and_le_right (n := i / 2 ^ k) (m := 1)
        have hk2 := Nat.and_le_right (n := j / 2 ^ k) (m := 1)
        have hk3 := Nat.and_le_left (n := j) (m := 2 ^ k - 1)
        have hsz := sgB_in k i j (fun a ha => hdv a (by omega))
        refine lv_iload_n hx hb dX11_sign_12 rfl (lv_at hl 5 rfl) ?_
        refine lv_iload hx hb dX11_sign_13 (lv_at hl 0 rfl) ?_
        refine z_shr hx hb (i := i) (j := k) (n := i / 2 ^ k) dX11_sign_15 rfl rfl (by omega) rfl ?_
        refine lv_iconst (v := iI 1) hx hb dX11_sign_16 rfl ?_
        refine z_and hx hb (n := (i / 2 ^ k) &&& 1) dX11_sign_17 rfl rfl rfl ?_
        refine z_zne (tgt := 24) hx hb dX11_sign_18 (by decide) (by omega) (fun c4 => ?_) (fun c4 => ?_)
        · refine lv_iload hx hb dX11_sign_24 (lv_at hl 6 rfl) ?_
          refine lv_iconst (v := iI 1) hx hb dX11_sign_26 rfl ?_
          refine lv_iload hx hb dX11_sign_27 (lv_at hl 0 rfl) ?_
          refine z_shl hx hb (i := 1) (j := k) (n := 1 * 2 ^ k) dX11_sign_29 rfl rfl (by omega) rfl ?_
          refine lv_iconst (v := iI 1) hx hb dX11_sign_30 rfl ?_
          refine z_sub hx hb (z := ((1 * 2 ^ k : Nat) : Int) - 1) dX11_sign_31 rfl ?_
          refine z_top (b := ((2 ^ k - 1 : Nat) : Int)) (by rw [Nat.one_mul]; omega) ?_
          refine z_and hx hb (n := j &&& (2 ^ k - 1)) dX11_sign_32 rfl rfl rfl ?_
          refine z_go 0 0 (z_runS (As := [.int (iI ((j &&& (2 ^ k - 1) : Nat) : Int))]) (rest := []) hC hml hl.1 (m_J19_bitCount hE H2 (hO.ext0 (zS_F hS)) (j &&& (2 ^ k - 1)) (by omega)) (lw_S q343 q344 q90 q345) nd_J19_bitCount rfl rfl (Nat.le_of_ble_eq_true rfl) ⟨Nat.le_of_ble_eq_true rfl, Nat.le_of_ble_eq_true rfl⟩ ⟨zfit (k := 0) (z := 0) rfl rfl (by omega), zfit (k := 0) (z := 0) rfl rfl (by omega)⟩ dX11_sign_33) ⟨zad (k := 0) rfl (by omega), zad (k := 0) rfl (by omega)⟩ hS (fun _ z => z.elim) (fun r H5 locs hp hF hS1 => ?_)
          obtain ⟨_, rfl, rfl⟩ := hp
          have hP := zpk hP hF
          have hP : va_P G.1 zCl ([]) H5 := hP
          have hD : va_D (zA M0 H0) ([]) := hD
          have hS := hS1
          have hbk : bitc (j &&& (2 ^ k - 1)) ≤ 4 := by unfold bitc; omega
          refine lv_iconst (v := iI 2) hx hb dX11_sign_36 rfl ?_
          refine z_rem hx hb (z := Int.tmod ((bitc (j &&& (2 ^ k - 1)) : Nat) : Int) 2) dX11_sign_37 (by omega) rfl ?_
          refine z_top (b := ((bitc (j &&& (2 ^ k - 1)) % 2 : Nat) : Int)) (rfl) ?_
          refine lv_iconst (v := iI 1) hx hb dX11_sign_38 rfl ?_
          refine z_cne (tgt := 47) hx hb dX11_sign_39 (by decide) (by omega) (fun c6 => ?_) (fun c6 => ?_)
          · refine lv_iload hx hb dX11_sign_47 (lv_at hl 6 rfl) ?_
            refine lv_iload hx hb dX11_sign_49 (lv_at hl 0 rfl) ?_
            refine z_shr hx hb (i := j) (j := k) (n := j / 2 ^ k) dX11_sign_51 rfl rfl (by omega) rfl ?_
            refine lv_iconst (v := iI 1) hx hb dX11_sign_52 rfl ?_
            refine z_and hx hb (n := (j / 2 ^ k) &&& 1) dX11_sign_53 rfl rfl rfl ?_
            refine lv_iconst (v := iI 1) hx hb dX11_sign_54 rfl ?_
            refine z_cne (tgt := 75) hx hb dX11_sign_55 (by decide) (by omega) (fun c7 => ?_) (fun c7 => ?_)
            · refine z_iinc (z := ((k + 1 : Nat) : Int)) (lv' := [(6, .int (iI ((k + 1 : Nat) : Int))), (5, .int (iI z)), (0, .ref (G.2 (10 + kd))), (1, .ref dl), (2, .int (iI ((t : Nat) : Int))), (3, .int (iI ((i : Nat) : Int))), (4, .int (iI ((j : Nat) : Int)))]) hx hb dX11_sign_75 hl (k := 0) rfl (by omega) (by decide) rfl (fun ls hl => ?_)
              refine lv_goto (tgt := 6) hx hb dX11_sign_78 (by decide) ?_
              exact W.widen (by omega) (by omega) (ihlp1 (t - (k + 1)) (by omega) (k + 1) z rfl (by omega) (by rw [sgB_4 (by omega) (by omega) (by omega), hz]) _ _ _  hP hD hS hl)
            · refine lv_iload hx hb dX11_sign_58 (lv_at hl 1 rfl) ?_
              refine lv_aload_n hx hb dX11_sign_60 rfl (lv_at hl 3 rfl) ?_
              refine lv_iload hx hb dX11_sign_61 (lv_at hl 0 rfl) ?_
              refine z_go 0 0 (z_runV (As := [.int (iI ((k : Nat) : Int))]) (rest := [.int (iI z)]) hC hml hl.1 (m_J2_get hE H5 (hO.ext0 (zS_F hS)) dl d _ da dm k (hL.ext0 (zS_F hS)) (by omega)) (lw_V q1121 q373 q374 q65 q375) rfl nd_J2_get rfl (z_rv hC (ci := 8) rfl (zo hS hL.1 id) rfl) rfl (Nat.le_of_ble_eq_true rfl) ⟨Nat.le_of_ble_eq_true rfl, Nat.le_of_ble_eq_true rfl⟩ ⟨zfit (k := 0) (z := 0) rfl rfl (by omega), zfit (k := 0) (z := 0) rfl rfl (by omega)⟩ dX11_sign_63) ⟨zad (k := 0) rfl (by omega), zad (k := 0) rfl (by omega)⟩ hS (fun _ z => z.elim) (fun r H8 locs hp hF hS1 => ?_)
              obtain ⟨_, rfl, rfl⟩ := hp
              have hP := zpk hP hF
              have hP : va_P G.1 zCl ([]) H8 := hP
              have hD : va_D (zA M0 H0) ([]) := hD
              have hS := hS1
              have hdk := hdv k (by omega)
              refine z_castC hC (hO.ext0 (zS_F hS)) (by omega) q1122 dX11_sign_66 ?_
              refine z_go 0 0 (z_runV (As := []) (rest := [.int (iI z)]) hC hml hl.1 (m_J19_intValue hE H8 (hO.ext0 (zS_F hS)) ((dv k).toNat + 128) (by omega)) (lw_V q1123 q427 q428 q90 q429) rfl nd_J19_intValue rfl (z_cc hE hC.w (hO.ext0 (zS_F hS)) (by omega)) rfl (Nat.le_of_ble_eq_true rfl) ⟨Nat.le_of_ble_eq_true rfl, Nat.le_of_ble_eq_true rfl⟩ ⟨zfit (k := 0) (z := 0) rfl rfl (by omega), zfit (k := 0) (z := 0) rfl rfl (by omega)⟩ dX11_sign_69) ⟨zad (k := 0) rfl (by omega), zad (k := 0) rfl (by omega)⟩ hS (fun _ z => z.elim) (fun r H9 locs hp hF hS1 => ?_)
              obtain ⟨_, rfl, rfl⟩ := hp
              have hP := zpk hP hF
              have hP : va_P G.1 zCl ([]) H9 := hP
              have hD : va_D (zA M0 H0) ([]) := hD
              have hS := hS1
              refine z_top (b := dv k) (by omega) ?_
              refine z_mul hx hb (z := z * (dv k)) dX11_sign_72 rfl ?_
              refine lv_istore (lv' := [(5, .int (iI (z * (dv k)))), (6, .int (iI ((k : Nat) : Int))), (0, .ref (G.2 (10 + kd))), (1, .ref dl), (2, .int (iI ((t : Nat) : Int))), (3, .int (iI ((i : Nat) : Int))), (4, .int (iI ((j : Nat) : Int)))]) hx hb dX11_sign_73 hl (by decide) rfl (fun ls hl => ?_)
              refine z_iinc (z := ((k + 1 : Nat) : Int)) (lv' := [(6, .int (iI ((k + 1 : Nat) : Int))), (5, .int (iI (z * (dv k)))), (0, .ref (G.2 (10 + kd))), (1, .ref dl), (2, .int (iI ((t : Nat) : Int))), (3, .int (iI ((i : Nat) : Int))), (4, .int (iI ((j : Nat) : Int)))]) hx hb dX11_sign_75 hl (k := 1) rfl (by omega) (by decide) rfl (fun ls hl => ?_)
              refine lv_goto (tgt := 6) hx hb dX11_sign_78 (by decide) ?_
              exact W.widen (by omega) (by omega) (ihlp1 (t - (k + 1)) (by omega) (k + 1) (z * dv k) rfl (by omega) (by rw [sgB_3 (by omega) (by omega) (by omega), hz]) _ _ _  hP hD hS hl)
          · refine lv_iload hx hb dX11_sign_42 (lv_at hl 1 rfl) ?_
            refine z_neg hx hb (z := -z) dX11_sign_44 rfl ?_
            refine lv_istore (lv' := [(5, .int (iI (-z))), (6, .int (iI ((k : Nat) : Int))), (0, .ref (G.2 (10 + kd))), (1, .ref dl), (2, .int (iI ((t : Nat) : Int))), (3, .int (iI ((i : Nat) : Int))), (4, .int (iI ((j : Nat) : Int)))]) hx hb dX11_sign_45 hl (by decide) rfl (fun ls hl => ?_)
            refine lv_iload hx hb dX11_sign_47 (lv_at hl 6 rfl) ?_
            refine lv_iload hx hb dX11_sign_49 (lv_at hl 1 rfl) ?_
            refine z_shr hx hb (i := j) (j := k) (n := j / 2 ^ k) dX11_sign_51 rfl rfl (by omega) rfl ?_
            refine lv_iconst (v := iI 1) hx hb dX11_sign_52 rfl ?_
            refine z_and hx hb (n := (j / 2 ^ k) &&& 1) dX11_sign_53 rfl rfl rfl ?_
            refine lv_iconst (v := iI 1) hx hb dX11_sign_54 rfl ?_
            refine z_cne (tgt := 75) hx hb dX11_sign_55 (by decide) (by omega) (fun c10 => ?_) (fun c10 => ?_)
            · refine z_iinc (z := ((k + 1 : Nat) : Int)) (lv' := [(6, .int (iI ((k + 1 : Nat) : Int))), (5, .int (iI (-z))), (0, .ref (G.2 (10 + kd))), (1, .ref dl), (2, .int (iI ((t : Nat) : Int))), (3, .int (iI ((i : Nat) : Int))), (4, .int (iI ((j : Nat) : Int)))]) hx hb dX11_sign_75 hl (k := 1) rfl (by omega) (by decide) rfl (fun ls hl => ?_)
              refine lv_goto (tgt := 6) hx hb dX11_sign_78 (by decide) ?_
              exact W.widen (by omega) (by omega) (ihlp1 (t - (k + 1)) (by omega) (k + 1) (-z) rfl (by omega) (by rw [sgB_2 (by omega) (by omega) (by omega), hz]) _ _ _  hP hD hS hl)
            · refine lv_iload hx hb dX11_sign_58 (lv_at hl 0 rfl) ?_
              refine lv_aload_n hx hb dX11_sign_60 rfl (lv_at hl 3 rfl) ?_
              refine lv_iload hx hb dX11_sign_61 (lv_at hl 1 rfl) ?_
              refine z_go 0 0 (z_runV (As := [.int (iI ((k : Nat) : Int))]) (rest := [.int (iI (-z))]) hC hml hl.1 (m_J2_get hE H5 (hO.ext0 (zS_F hS)) dl d _ da dm k (hL.ext0 (zS_F hS)) (by omega)) (lw_V q1121 q373 q374 q65 q375) rfl nd_J2_get rfl (z_rv hC (ci := 8) rfl (zo hS hL.1 id) rfl) rfl (Nat.le_of_ble_eq_true rfl) ⟨Nat.le_of_ble_eq_true rfl, Nat.le_of_ble_eq_true rfl⟩ ⟨zfit (k := 0) (z := 0) rfl rfl (by omega), zfit (k := 0) (z := 0) rfl rfl (by omega)⟩ dX11_sign_63) ⟨zad (k := 0) rfl (by omega), zad (k := 0) rfl (by omega)⟩ hS (fun _ z => z.elim) (fun r H11 locs hp hF hS1 => ?_)
              obtain ⟨_, rfl, rfl⟩ := hp
              have hP := zpk hP hF
              have hP : va_P G.1 zCl ([]) H11 := hP
              have hD : va_D (zA M0 H0) ([]) := hD
              have hS := hS1
              have hdk := hdv k (by omega)
              refine z_castC hC (hO.ext0 (zS_F hS)) (by omega) q1122 dX11_sign_66 ?_
              refine z_go 0 0 (z_runV (As := []) (rest := [.int (iI (-z))]) hC hml hl.1 (m_J19_intValue hE H11 (hO.ext0 (zS_F hS)) ((dv k).toNat + 128) (by omega)) (lw_V q1123 q427 q428 q90 q429) rfl nd_J19_intValue rfl (z_cc hE hC.w (hO.ext0 (zS_F hS)) (by omega)) rfl (Nat.le_of_ble_eq_true rfl) ⟨Nat.le_of_ble_eq_true rfl, Nat.le_of_ble_eq_true rfl⟩ ⟨zfit (k := 0) (z := 0) rfl rfl (by omega), zfit (k := 0) (z := 0) rfl rfl (by omega)⟩ dX11_sign_69) ⟨zad (k := 0) rfl (by omega), zad (k := 0) rfl (by omega)⟩ hS (fun _ z => z.elim) (fun r H12 locs hp hF hS1 => ?_)
              obtain ⟨_, rfl, rfl⟩ := hp
              have hP := zpk hP hF
              have hP : va_P G.1 zCl ([]) H12 := hP
              have hD : va_D (zA M0 H0) ([]) := hD
              have hS := hS1
              refine z_top (b := dv k) (by omega) ?_
              refine z_mul hx hb (z := (-z) * (dv k)) dX11_sign_72 rfl ?_
              refine lv_istore (lv' := [(5, .int (iI ((-z) * (dv k)))), (6, .int (iI ((k : Nat) : Int))), (0, .ref (G.2 (10 + kd))), (1, .ref dl), (2, .int (iI ((t : Nat) : Int))), (3, .int (iI ((i : Nat) : Int))), (4, .int (iI ((j : Nat) : Int)))]) hx hb dX11_sign_73 hl (by decide) rfl (fun ls hl => ?_)
              refine z_iinc (z := ((k + 1 : Nat) : Int)) (lv' := [(6, .int (iI ((k + 1 : Nat) : Int))), (5, .int (iI ((-z) * (dv k)))), (0, .ref (G.2 (10 + kd))), (1, .ref dl), (2, .int (iI ((t : Nat) : Int))), (3, .int (iI ((i : Nat) : Int))), (4, .int (iI ((j : Nat) : Int)))]) hx hb dX11_sign_75 hl (k := 1) rfl (by omega) (by decide) rfl (fun ls hl => ?_)
              refine lv_goto (tgt := 6) hx hb dX11_sign_78 (by decide) ?_
              exact W.widen (by omega) (by omega) (ihlp1 (t - (k + 1)) (by omega) (k + 1) ((-z) * dv k) rfl (by omega) (by rw [sgB_1 (by omega) (by omega) (by omega), hz]) _ _ _  hP hD hS hl)
        · refine lv_goto (tgt := 75) hx hb dX11_sign_21 (by decide) ?_
          refine z_iinc (z := ((k + 1 : Nat) : Int)) (lv' := [(6, .int (iI ((k + 1 : Nat) : Int))), (5, .int (iI z)), (0, .ref (G.2 (10 + kd))), (1, .ref dl), (2, .int (iI ((t : Nat) : Int))), (3, .int (iI ((i : Nat) : Int))), (4, .int (iI ((j : Nat) : Int)))]) hx hb dX11_sign_75 hl (k := 0) rfl (by omega) (by decide) rfl (fun ls hl => ?_)
          refine lv_goto (tgt := 6) hx hb dX11_sign_78 (by decide) ?_
          exact W.widen (by omega) (by omega) (ihlp1 (t - (k + 1)) (by omega) (k + 1) z rfl (by omega) (by rw [sgB_0 (by omega), hz]) _ _ _  hP hD hS hl)
  exact W.widen (by omega) (by omega) (lp1 _ 0 1 rfl (Nat.zero_le _) rfl _ _ _  hP hD hS hl)

abbrev rm_m_X5_commute : Room := { frames := 0, cells := 0, slots := 0, locals := 0 }
set_option maxHeartbeats 4000000 in
theorem m_X5_commute {l : Launch} {s0 : State} {G : zG} (hE : zE l s0 G) (H0 : Heap) (hO : zO s0 H0) (x g : Nat) (p : Int) (d n kd : Nat) (dv : Nat → Int) (sg : Nat → Nat → Int) (i j : Nat) (hA : zAg G x g p d n kd dv sg H0) (hij : i < n ∧ j < n) : zM l s0 yX5_commute cX5_commute 3 (some FieldType.boolean) rm_m_X5_commute [.ref g, .int (iI ((i : Nat) : Int)), .int (iI ((j : Nat) : Int))] H0 M0 (ri (fun y _ => y = b2i (sg i j == sg j i))) := by
  refine z_met hE (by decide +kernel) (Nat.le_of_ble_eq_true rfl) ?_
  intro pp ee ss mm args below meth cd Q ls hC hml hrt hlk hnm hH hQ hS hl
  have hx := hC.x
  have hb := hC.b
  have hl : lv_has ls 3 [(0, .ref g), (1, .int (iI ((i : Nat) : Int))), (2, .int (iI ((j : Nat) : Int)))] := hl
  have hP : va_P G.1 zCl [] H0 := va_nil
  have hD : va_D (zA M0 H0) [] := va_nilD
  obtain ⟨la, le, dr, kn, sm, dl, da, ml, so, dm, ro, hx0, hg0, hL0, hso, hro, hfa⟩ := id hA
  obtain ⟨hp, hd4, hn2, hkd, hdv, hsg⟩ := hfa
  obtain ⟨hn16, hp7⟩ := hA.n
  have h1 := hsg i j hij.1 hij.2
  have h2 := hsg j i hij.2 hij.1
  refine lv_aload_n hx hb dX5_commute_0 rfl (lv_at hl 0 rfl) ?_
  refine z_get hC (k := 3) rfl in_X5 (zo hS hg0 id) (by decide) q962 (fun _ h => h) rfl dX5_commute_1 ?_
  refine lv_iload_n hx hb dX5_commute_4 rfl (lv_at hl 1 rfl) ?_
  refine z_aald hC (zo hS hso id) (k := i) rfl (by omega) (q := (ro i)) rfl dX5_commute_5 ?_
  refine lv_iload_n hx hb dX5_commute_6 rfl (lv_at hl 2 rfl) ?_
  refine z_iald hC (zo hS (hro i (by omega)) id) (k := j) rfl (by omega) (y := (sg i) j) rfl dX5_commute_7 ?_
  refine lv_aload_n hx hb dX5_commute_8 rfl (lv_at hl 0 rfl) ?_
  refine z_get hC (k := 3) rfl in_X5 (zo hS hg0 id) (by decide) q962 (fun _ h => h) rfl dX5_commute_9 ?_
  refine lv_iload_n hx hb dX5_commute_12 rfl (lv_at hl 2 rfl) ?_
  refine z_aald hC (zo hS hso id) (k := j) rfl (by omega) (q := (ro j)) rfl dX5_commute_13 ?_
  refine lv_iload_n hx hb dX5_commute_14 rfl (lv_at hl 1 rfl) ?_
  refine z_iald hC (zo hS (hro j (by omega)) id) (k := i) rfl (by omega) (y := (sg j) i) rfl dX5_commute_15 ?_
  refine z_cne (tgt := 23) hx hb dX5_commute_16 (by decide) (by omega) (fun c1 => ?_) (fun c1 => ?_)
  · refine lv_iconst (v := iI 0) hx hb dX5_commute_23 rfl ?_
    exact z_zret hC hrt hlk hQ hS ⟨zle (z := 0) rfl (by omega), zle (z := 0) rfl (by omega)⟩ (by omega) ⟨_, rfl, b2i_f (by simp; omega)⟩ dX5_commute_24
  · refine lv_iconst (v := iI 1) hx hb dX5_commute_19 rfl ?_
    refine lv_goto (tgt := 24) hx hb dX5_commute_20 (by decide) ?_
    exact z_zret hC hrt hlk hQ hS ⟨zle (z := 0) rfl (by omega), zle (z := 0) rfl (by omega)⟩ (by omega) ⟨_, rfl, b2i_t (by simp; omega)⟩ dX5_commute_24

abbrev rm_m_X5_gap : Room := { frames := 0, cells := 0, slots := 0, locals := 0 }
set_option maxHeartbeats 4000000 in
theorem m_X5_gap {l : Launch} {s0 : State} {G : zG} (hE : zE l s0 G) (H0 : Heap) (hO : zO s0 H0) (x g : Nat) (p : Int) (d n kd : Nat) (dv : Nat → Int) (sg : Nat → Nat → Int) (i j k : Nat) (hA : zAg G x g p d n kd dv sg H0) (hij : i < n ∧ j < n ∧ k < n) : zM l s0 yX5_gap cX5_gap 4 (some FieldType.int) rm_m_X5_gap [.ref g, .int (iI ((i : Nat) : Int)), .int (iI ((j : Nat) : Int)), .int (iI ((k : Nat) : Int))] H0 M0 (ri (fun y _ => y = gpV sg i j k)) := by
  refine z_met hE (by decide +kernel) (Nat.le_of_ble_eq_true rfl) ?_
  intro pp ee ss mm args below meth cd Q ls hC hml hrt hlk hnm hH hQ hS hl
  have hx := hC.x
  have hb := hC.b
  have hl : lv_has ls 4 [(0, .ref g), (1, .int (iI ((i : Nat) : Int))), (2, .int (iI ((j : Nat) : Int))), (3, .int (iI ((k : Nat) : Int)))] := hl
  have hP : va_P G.1 zCl [] H0 := va_nil
  have hD : va_D (zA M0 H0) [] := va_nilD
  obtain ⟨la, le, dr, kn, sm, dl, da, ml, so, dm, ro, hx0, hg0, hL0, hso, hro, hfa⟩ := id hA
  obtain ⟨hp, hd4, hn2, hkd, hdv, hsg⟩ := hfa
  obtain ⟨hn16, hp7⟩ := hA.n
  have h1 := xor_lt hn2 hij.1 hij.2.1
  have h2 := xor_lt hn2 hij.2.1 hij.2.2
  refine lv_aload_n hx hb dX5_gap_0 rfl (lv_at hl 0 rfl) ?_
  refine z_get hC (k := 3) rfl in_X5 (zo hS hg0 id) (by decide) q962 (fun _ h => h) rfl dX5_gap_1 ?_
  refine lv_iload_n hx hb dX5_gap_4 rfl (lv_at hl 1 rfl) ?_
  refine z_aald hC (zo hS hso id) (k := i) rfl (by omega) (q := (ro i)) rfl dX5_gap_5 ?_
  refine lv_iload_n hx hb dX5_gap_6 rfl (lv_at hl 2 rfl) ?_
  refine z_iald hC (zo hS (hro i (by omega)) id) (k := j) rfl (by omega) (y := (sg i) j) rfl dX5_gap_7 ?_
  refine lv_aload_n hx hb dX5_gap_8 rfl (lv_at hl 0 rfl) ?_
  refine z_get hC (k := 3) rfl in_X5 (zo hS hg0 id) (by decide) q962 (fun _ h => h) rfl dX5_gap_9 ?_
  refine lv_iload_n hx hb dX5_gap_12 rfl (lv_at hl 1 rfl) ?_
  refine lv_iload_n hx hb dX5_gap_13 rfl (lv_at hl 2 rfl) ?_
  refine z_xor hx hb (n := i ^^^ j) dX5_gap_14 rfl rfl rfl ?_
  refine z_aald hC (zo hS hso id) (k := i ^^^ j) rfl (by omega) (q := (ro (i ^^^ j))) rfl dX5_gap_15 ?_
  refine lv_iload_n hx hb dX5_gap_16 rfl (lv_at hl 3 rfl) ?_
  refine z_iald hC (zo hS (hro (i ^^^ j) (by omega)) id) (k := k) rfl (by omega) (y := (sg (i ^^^ j)) k) rfl dX5_gap_17 ?_
  refine z_mul hx hb (z := ((sg i) j) * ((sg (i ^^^ j)) k)) dX5_gap_18 rfl ?_
  refine lv_aload_n hx hb dX5_gap_19 rfl (lv_at hl 0 rfl) ?_
  refine z_get hC (k := 3) rfl in_X5 (zo hS hg0 id) (by decide) q962 (fun _ h => h) rfl dX5_gap_20 ?_
  refine lv_iload_n hx hb dX5_gap_23 rfl (lv_at hl 2 rfl) ?_
  refine z_aald hC (zo hS hso id) (k := j) rfl (by omega) (q := (ro j)) rfl dX5_gap_24 ?_
  refine lv_iload_n hx hb dX5_gap_25 rfl (lv_at hl 3 rfl) ?_
  refine z_iald hC (zo hS (hro j (by omega)) id) (k := k) rfl (by omega) (y := (sg j) k) rfl dX5_gap_26 ?_
  refine lv_aload_n hx hb dX5_gap_27 rfl (lv_at hl 0 rfl) ?_
  refine z_get hC (k := 3) rfl in_X5 (zo hS hg0 id) (by decide) q962 (fun _ h => h) rfl dX5_gap_28 ?_
  refine lv_iload_n hx hb dX5_gap_31 rfl (lv_at hl 1 rfl) ?_
  refine z_aald hC (zo hS hso id) (k := i) rfl (by omega) (q := (ro i)) rfl dX5_gap_32 ?_
  refine lv_iload_n hx hb dX5_gap_33 rfl (lv_at hl 2 rfl) ?_
  refine lv_iload_n hx hb dX5_gap_34 rfl (lv_at hl 3 rfl) ?_
  refine z_xor hx hb (n := j ^^^ k) dX5_gap_35 rfl rfl rfl ?_
  refine z_iald hC (zo hS (hro i (by omega)) id) (k := j ^^^ k) rfl (by omega) (y := (sg i) (j ^^^ k)) rfl dX5_gap_36 ?_
  refine z_mul hx hb (z := ((sg j) k) * ((sg i) (j ^^^ k))) dX5_gap_37 rfl ?_
  refine z_sub hx hb (z := (((sg i) j) * ((sg (i ^^^ j)) k)) - (((sg j) k) * ((sg i) (j ^^^ k)))) dX5_gap_38 rfl ?_
  exact z_iret hC hrt hlk hQ hS ⟨zle (z := 0) rfl (by omega), zle (z := 0) rfl (by omega)⟩ ⟨_, rfl, rfl⟩ dX5_gap_39

theorem gpV_in {p : Int} {d n : Nat} {sg : Nat → Nat → Int} (hn : n = 2 ^ d) (hsg : ∀ i j, i < n → j < n → 0 ≤ sg i j ∧ sg i j < p) (hp : 0 < p ∧ p ≤ 7) {i j k : Nat} (hi : i < n) (hj : j < n) (hk : k < n) : -36 ≤ gpV sg i j k ∧ gpV sg i j k ≤ 36 := by
  have h1 := zmul3 (hsg i j hi hj) (hsg (i ^^^ j) k (xor_lt hn hi hj) hk) (hsg i j hi hj) hp
  have h2 := zmul3 (hsg j k hj hk) (hsg i (j ^^^ k) hi (xor_lt hn hj hk)) (hsg i j hi hj) hp
  unfold gpV
  omega
theorem kp_1 {p : Int} {sg : Nat → Nat → Int} {i j k : Nat} : kpV p sg 1 i j k = (gpV sg i j k % p == 0) := rfl
theorem kp_3 {p : Int} {sg : Nat → Nat → Int} {i j k : Nat} : kpV p sg 3 i j k = ((gpV sg i j k + gpV sg k j i) % p == 0) := rfl
theorem kp_2 {p : Int} {sg : Nat → Nat → Int} {law i j k : Nat} (h0 : law ≠ 0) (h1 : law ≠ 1) (h3 : law ≠ 3) : kpV p sg law i j k = ((gpV sg i j k + gpV sg j i k) % p == 0 && (gpV sg i j k + gpV sg i k j) % p == 0) := by
  unfold kpV; rw [if_neg h0, if_neg h1, if_neg h3]
theorem beq_t {a b : Int} (h : a = b) : (a == b) = true := by simp [h]
theorem beq_f {a b : Int} (h : a ≠ b) : (a == b) = false := by simp [h]
abbrev rm_m_X5_isKept : Room := { frames := 2, cells := 0, slots := 0, locals := 43 }
set_option maxHeartbeats 4000000 in
theorem m_X5_isKept {l : Launch} {s0 : State} {G : zG} (hE : zE l s0 G) (H0 : Heap) (hO : zO s0 H0) (x g : Nat) (p : Int) (d n kd : Nat) (dv : Nat → Int) (sg : Nat → Nat → Int) (law i j k : Nat) (hA : zAg G x g p d n kd dv sg H0) (hl0 : law ≠ 0 ∧ law < 4) (hij : i < n ∧ j < n ∧ k < n) : zM l s0 yX5_isKept cX5_isKept 5 (some FieldType.boolean) rm_m_X5_isKept [.ref g, .int (iI ((law : Nat) : Int)), .int (iI ((i : Nat) : Int)), .int (iI ((j : Nat) : Int)), .int (iI ((k : Nat) : Int))] H0 M0 (ri (fun y _ => y = b2i (kpV p sg law i j k))) := by
  refine z_met hE (by decide +kernel) (Nat.le_of_ble_eq_true rfl) ?_
  intro pp ee ss mm args below meth cd Q ls hC hml hrt hlk hnm hH hQ hS hl
  have hx := hC.x
  have hb := hC.b
  have hl : lv_has ls 5 [(0, .ref g), (1, .int (iI ((law : Nat) : Int))), (2, .int (iI ((i : Nat) : Int))), (3, .int (iI ((j : Nat) : Int))), (4, .int (iI ((k : Nat) : Int)))] := hl
  have hP : va_P G.1 zCl [] H0 := va_nil
  have hD : va_D (zA M0 H0) [] := va_nilD
  obtain ⟨la, le, dr, kn, sm, dl, da, ml, so, dm, ro, hx0, hg0, hL0, hso, hro, hfa⟩ := id hA
  obtain ⟨hp, hd4, hn2, hkd, hdv, hsg⟩ := hfa
  obtain ⟨hn16, hp7⟩ := hA.n
  have gijk := gpV_in hn2 hsg hp7 (i := i) (j := j) (k := k) (by omega) (by omega) (by omega)
  have gkji := gpV_in hn2 hsg hp7 (i := k) (j := j) (k := i) (by omega) (by omega) (by omega)
  have gjik := gpV_in hn2 hsg hp7 (i := j) (j := i) (k := k) (by omega) (by omega) (by omega)
  have gikj := gpV_in hn2 hsg hp7 (i := i) (j := k) (k := j) (by omega) (by omega) (by omega)
  refine lv_iload_n hx hb dX5_isKept_0 rfl (lv_at hl 1 rfl) ?_
  refine lv_iconst (v := iI 1) hx hb dX5_isKept_1 rfl ?_
  refine z_cne (tgt := 29) hx hb dX5_isKept_2 (by decide) (by omega) (fun c1 => ?_) (fun c1 => ?_)
  · refine lv_iload_n hx hb dX5_isKept_29 rfl (lv_at hl 1 rfl) ?_
    refine lv_iconst (v := iI 3) hx hb dX5_isKept_30 rfl ?_
    refine z_cne (tgt := 67) hx hb dX5_isKept_31 (by decide) (by omega) (fun c2 => ?_) (fun c2 => ?_)
    · have el := kp_2 (p := p) (sg := sg) (i := i) (j := j) (k := k) hl0.1 (show law ≠ 1 by omega) (show law ≠ 3 by omega)
      refine lv_aload_n hx hb dX5_isKept_67 rfl (lv_at hl 0 rfl) ?_
      refine z_get hC (k := 4) rfl in_X5 (zo hS hg0 id) (by decide) q965 (fun _ h => h) rfl dX5_isKept_68 ?_
      refine lv_aload_n hx hb dX5_isKept_71 rfl (lv_at hl 0 rfl) ?_
      refine lv_iload_n hx hb dX5_isKept_72 rfl (lv_at hl 2 rfl) ?_
      refine lv_iload_n hx hb dX5_isKept_73 rfl (lv_at hl 3 rfl) ?_
      refine lv_iload hx hb dX5_isKept_74 (lv_at hl 4 rfl) ?_
      refine z_go 0 0 (z_runV (As := [.int (iI ((i : Nat) : Int)), .int (iI ((j : Nat) : Int)), .int (iI ((k : Nat) : Int))]) (rest := [.ref x]) hC hml hl.1 (m_X5_gap hE H0 (hO.ext0 (zS_F hS)) x g p d n kd dv sg i j k (hA.ext0 (zS_F hS)) ⟨by omega, by omega, by omega⟩) (lw_V q415 q417 qs10 q74 q418) rfl nd_X5_gap rfl (z_rv hC (ci := 4) rfl (zo hS hg0 id) rfl) rfl (Nat.le_of_ble_eq_true rfl) ⟨Nat.le_of_ble_eq_true rfl, Nat.le_of_ble_eq_true rfl⟩ ⟨zfit (k := 0) (z := 0) rfl rfl (by omega), zfit (k := 0) (z := 0) rfl rfl (by omega)⟩ dX5_isKept_76) ⟨zad (k := 0) rfl (by omega), zad (k := 0) rfl (by omega)⟩ hS (fun _ z => z.elim) (fun r H3 locs hp hF hS1 => ?_)
      obtain ⟨_, rfl, rfl⟩ := hp
      have hP := zpk hP hF
      have hP : va_P G.1 zCl ([]) H3 := hP
      have hD : va_D (zA M0 H0) ([]) := hD
      have hS := hS1
      refine lv_aload_n hx hb dX5_isKept_79 rfl (lv_at hl 0 rfl) ?_
      refine lv_iload_n hx hb dX5_isKept_80 rfl (lv_at hl 3 rfl) ?_
      refine lv_iload_n hx hb dX5_isKept_81 rfl (lv_at hl 2 rfl) ?_
      refine lv_iload hx hb dX5_isKept_82 (lv_at hl 4 rfl) ?_
      refine z_go 0 0 (z_runV (As := [.int (iI ((j : Nat) : Int)), .int (iI ((i : Nat) : Int)), .int (iI ((k : Nat) : Int))]) (rest := [.int (iI (gpV sg i j k)), .ref x]) hC hml hl.1 (m_X5_gap hE H3 (hO.ext0 (zS_F hS)) x g p d n kd dv sg j i k (hA.ext0 (zS_F hS)) ⟨by omega, by omega, by omega⟩) (lw_V q415 q417 qs10 q74 q418) rfl nd_X5_gap rfl (z_rv hC (ci := 4) rfl (zo hS hg0 id) rfl) rfl (Nat.le_of_ble_eq_true rfl) ⟨Nat.le_of_ble_eq_true rfl, Nat.le_of_ble_eq_true rfl⟩ ⟨zfit (k := 0) (z := 0) rfl rfl (by omega), zfit (k := 0) (z := 0) rfl rfl (by omega)⟩ dX5_isKept_84) ⟨zad (k := 0) rfl (by omega), zad (k := 0) rfl (by omega)⟩ hS (fun _ z => z.elim) (fun r H4 locs hp hF hS1 => ?_)
      obtain ⟨_, rfl, rfl⟩ := hp
      have hP := zpk hP hF
      have hP : va_P G.1 zCl ([]) H4 := hP
      have hD : va_D (zA M0 H0) ([]) := hD
      have hS := hS1
      refine z_add hx hb (z := (gpV sg i j k) + (gpV sg j i k)) dX5_isKept_87 rfl ?_
      refine z_go 0 0 (z_runVN (As := [.int (iI ((gpV sg i j k) + (gpV sg j i k)))]) (rest := []) hC hml hl.1 (m_X1_mod hE H4 (hO.ext0 (zS_F hS)) x la le dr p kn sm (gpV sg i j k + gpV sg j i k) (zo hS hx0 id) hp7 (by omega)) q355 q62 q419 q354 qs5 nd_X1_mod rfl (z_rv hC (ci := 0) rfl (zo hS hx0 id) rfl) rfl (Nat.le_of_ble_eq_true rfl) ⟨Nat.le_of_ble_eq_true rfl, Nat.le_of_ble_eq_true rfl⟩ ⟨zfit (k := 0) (z := 0) rfl rfl (by omega), zfit (k := 0) (z := 0) rfl rfl (by omega)⟩ dX5_isKept_88) ⟨zad (k := 0) rfl (by omega), zad (k := 0) rfl (by omega)⟩ hS (fun _ z => z.elim) (fun r H5 locs hp hF hS1 => ?_)
      obtain ⟨_, rfl, rfl⟩ := hp
      have hP := zpk hP hF
      have hP : va_P G.1 zCl ([]) H5 := hP
      have hD : va_D (zA M0 H0) ([]) := hD
      have hS := hS1
      have hm1 := md_in hp (gpV sg i j k + gpV sg j i k)
      refine z_zne (tgt := 125) hx hb dX5_isKept_91 (by decide) (by omega) (fun c1 => ?_) (fun c1 => ?_)
      · refine lv_iconst (v := iI 0) hx hb dX5_isKept_125 rfl ?_
        exact z_zret hC hrt hlk hQ hS ⟨zle (z := 0) rfl (by omega), zle (z := 0) rfl (by omega)⟩ (by omega) ⟨_, rfl, b2i_f (by rw [el, beq_f c1, Bool.false_and])⟩ dX5_isKept_126
      · refine lv_aload_n hx hb dX5_isKept_94 rfl (lv_at hl 0 rfl) ?_
        refine z_get hC (k := 4) rfl in_X5 (zo hS hg0 id) (by decide) q965 (fun _ h => h) rfl dX5_isKept_95 ?_
        refine lv_aload_n hx hb dX5_isKept_98 rfl (lv_at hl 0 rfl) ?_
        refine lv_iload_n hx hb dX5_isKept_99 rfl (lv_at hl 2 rfl) ?_
        refine lv_iload_n hx hb dX5_isKept_100 rfl (lv_at hl 3 rfl) ?_
        refine lv_iload hx hb dX5_isKept_101 (lv_at hl 4 rfl) ?_
        refine z_go 0 0 (z_runV (As := [.int (iI ((i : Nat) : Int)), .int (iI ((j : Nat) : Int)), .int (iI ((k : Nat) : Int))]) (rest := [.ref x]) hC hml hl.1 (m_X5_gap hE H5 (hO.ext0 (zS_F hS)) x g p d n kd dv sg i j k (hA.ext0 (zS_F hS)) ⟨by omega, by omega, by omega⟩) (lw_V q415 q417 qs10 q74 q418) rfl nd_X5_gap rfl (z_rv hC (ci := 4) rfl (zo hS hg0 id) rfl) rfl (Nat.le_of_ble_eq_true rfl) ⟨Nat.le_of_ble_eq_true rfl, Nat.le_of_ble_eq_true rfl⟩ ⟨zfit (k := 0) (z := 0) rfl rfl (by omega), zfit (k := 0) (z := 0) rfl rfl (by omega)⟩ dX5_isKept_103) ⟨zad (k := 0) rfl (by omega), zad (k := 0) rfl (by omega)⟩ hS (fun _ z => z.elim) (fun r H6 locs hp hF hS1 => ?_)
        obtain ⟨_, rfl, rfl⟩ := hp
        have hP := zpk hP hF
        have hP : va_P G.1 zCl ([]) H6 := hP
        have hD : va_D (zA M0 H0) ([]) := hD
        have hS := hS1
        refine lv_aload_n hx hb dX5_isKept_106 rfl (lv_at hl 0 rfl) ?_
        refine lv_iload_n hx hb dX5_isKept_107 rfl (lv_at hl 2 rfl) ?_
        refine lv_iload hx hb dX5_isKept_108 (lv_at hl 4 rfl) ?_
        refine lv_iload_n hx hb dX5_isKept_110 rfl (lv_at hl 3 rfl) ?_
        refine z_go 0 0 (z_runV (As := [.int (iI ((i : Nat) : Int)), .int (iI ((k : Nat) : Int)), .int (iI ((j : Nat) : Int))]) (rest := [.int (iI (gpV sg i j k)), .ref x]) hC hml hl.1 (m_X5_gap hE H6 (hO.ext0 (zS_F hS)) x g p d n kd dv sg i k j (hA.ext0 (zS_F hS)) ⟨by omega, by omega, by omega⟩) (lw_V q415 q417 qs10 q74 q418) rfl nd_X5_gap rfl (z_rv hC (ci := 4) rfl (zo hS hg0 id) rfl) rfl (Nat.le_of_ble_eq_true rfl) ⟨Nat.le_of_ble_eq_true rfl, Nat.le_of_ble_eq_true rfl⟩ ⟨zfit (k := 0) (z := 0) rfl rfl (by omega), zfit (k := 0) (z := 0) rfl rfl (by omega)⟩ dX5_isKept_111) ⟨zad (k := 0) rfl (by omega), zad (k := 0) rfl (by omega)⟩ hS (fun _ z => z.elim) (fun r H7 locs hp hF hS1 => ?_)
        obtain ⟨_, rfl, rfl⟩ := hp
        have hP := zpk hP hF
        have hP : va_P G.1 zCl ([]) H7 := hP
        have hD : va_D (zA M0 H0) ([]) := hD
        have hS := hS1
        refine z_add hx hb (z := (gpV sg i j k) + (gpV sg i k j)) dX5_isKept_114 rfl ?_
        refine z_go 0 0 (z_runVN (As := [.int (iI ((gpV sg i j k) + (gpV sg i k j)))]) (rest := []) hC hml hl.1 (m_X1_mod hE H7 (hO.ext0 (zS_F hS)) x la le dr p kn sm (gpV sg i j k + gpV sg i k j) (zo hS hx0 id) hp7 (by omega)) q355 q62 q419 q354 qs5 nd_X1_mod rfl (z_rv hC (ci := 0) rfl (zo hS hx0 id) rfl) rfl (Nat.le_of_ble_eq_true rfl) ⟨Nat.le_of_ble_eq_true rfl, Nat.le_of_ble_eq_true rfl⟩ ⟨zfit (k := 0) (z := 0) rfl rfl (by omega), zfit (k := 0) (z := 0) rfl rfl (by omega)⟩ dX5_isKept_115) ⟨zad (k := 0) rfl (by omega), zad (k := 0) rfl (by omega)⟩ hS (fun _ z => z.elim) (fun r H8 locs hp hF hS1 => ?_)
        obtain ⟨_, rfl, rfl⟩ := hp
        have hP := zpk hP hF
        have hP : va_P G.1 zCl ([]) H8 := hP
        have hD : va_D (zA M0 H0) ([]) := hD
        have hS := hS1
        have hm2 := md_in hp (gpV sg i j k + gpV sg i k j)
        refine z_zne (tgt := 125) hx hb dX5_isKept_118 (by decide) (by omega) (fun c2 => ?_) (fun c2 => ?_)
        · refine lv_iconst (v := iI 0) hx hb dX5_isKept_125 rfl ?_
          exact z_zret hC hrt hlk hQ hS ⟨zle (z := 0) rfl (by omega), zle (z := 0) rfl (by omega)⟩ (by omega) ⟨_, rfl, b2i_f (by rw [el, beq_f c2, Bool.and_false])⟩ dX5_isKept_126
        · refine lv_iconst (v := iI 1) hx hb dX5_isKept_121 rfl ?_
          refine lv_goto (tgt := 126) hx hb dX5_isKept_122 (by decide) ?_
          exact z_zret hC hrt hlk hQ hS ⟨zle (z := 0) rfl (by omega), zle (z := 0) rfl (by omega)⟩ (by omega) ⟨_, rfl, b2i_t (by rw [el, beq_t c1, beq_t c2]; rfl)⟩ dX5_isKept_126
    · have el : law = 3 := by omega
      refine lv_aload_n hx hb dX5_isKept_34 rfl (lv_at hl 0 rfl) ?_
      refine z_get hC (k := 4) rfl in_X5 (zo hS hg0 id) (by decide) q965 (fun _ h => h) rfl dX5_isKept_35 ?_
      refine lv_aload_n hx hb dX5_isKept_38 rfl (lv_at hl 0 rfl) ?_
      refine lv_iload_n hx hb dX5_isKept_39 rfl (lv_at hl 2 rfl) ?_
      refine lv_iload_n hx hb dX5_isKept_40 rfl (lv_at hl 3 rfl) ?_
      refine lv_iload hx hb dX5_isKept_41 (lv_at hl 4 rfl) ?_
      refine z_go 0 0 (z_runV (As := [.int (iI ((i : Nat) : Int)), .int (iI ((j : Nat) : Int)), .int (iI ((k : Nat) : Int))]) (rest := [.ref x]) hC hml hl.1 (m_X5_gap hE H0 (hO.ext0 (zS_F hS)) x g p d n kd dv sg i j k (hA.ext0 (zS_F hS)) ⟨by omega, by omega, by omega⟩) (lw_V q415 q417 qs10 q74 q418) rfl nd_X5_gap rfl (z_rv hC (ci := 4) rfl (zo hS hg0 id) rfl) rfl (Nat.le_of_ble_eq_true rfl) ⟨Nat.le_of_ble_eq_true rfl, Nat.le_of_ble_eq_true rfl⟩ ⟨zfit (k := 0) (z := 0) rfl rfl (by omega), zfit (k := 0) (z := 0) rfl rfl (by omega)⟩ dX5_isKept_43) ⟨zad (k := 0) rfl (by omega), zad (k := 0) rfl (by omega)⟩ hS (fun _ z => z.elim) (fun r H9 locs hp hF hS1 => ?_)
      obtain ⟨_, rfl, rfl⟩ := hp
      have hP := zpk hP hF
      have hP : va_P G.1 zCl ([]) H9 := hP
      have hD : va_D (zA M0 H0) ([]) := hD
      have hS := hS1
      refine lv_aload_n hx hb dX5_isKept_46 rfl (lv_at hl 0 rfl) ?_
      refine lv_iload hx hb dX5_isKept_47 (lv_at hl 4 rfl) ?_
      refine lv_iload_n hx hb dX5_isKept_49 rfl (lv_at hl 3 rfl) ?_
      refine lv_iload_n hx hb dX5_isKept_50 rfl (lv_at hl 2 rfl) ?_
      refine z_go 0 0 (z_runV (As := [.int (iI ((k : Nat) : Int)), .int (iI ((j : Nat) : Int)), .int (iI ((i : Nat) : Int))]) (rest := [.int (iI (gpV sg i j k)), .ref x]) hC hml hl.1 (m_X5_gap hE H9 (hO.ext0 (zS_F hS)) x g p d n kd dv sg k j i (hA.ext0 (zS_F hS)) ⟨by omega, by omega, by omega⟩) (lw_V q415 q417 qs10 q74 q418) rfl nd_X5_gap rfl (z_rv hC (ci := 4) rfl (zo hS hg0 id) rfl) rfl (Nat.le_of_ble_eq_true rfl) ⟨Nat.le_of_ble_eq_true rfl, Nat.le_of_ble_eq_true rfl⟩ ⟨zfit (k := 0) (z := 0) rfl rfl (by omega), zfit (k := 0) (z := 0) rfl rfl (by omega)⟩ dX5_isKept_51) ⟨zad (k := 0) rfl (by omega), zad (k := 0) rfl (by omega)⟩ hS (fun _ z => z.elim) (fun r H10 locs hp hF hS1 => ?_)
      obtain ⟨_, rfl, rfl⟩ := hp
      have hP := zpk hP hF
      have hP : va_P G.1 zCl ([]) H10 := hP
      have hD : va_D (zA M0 H0) ([]) := hD
      have hS := hS1
      refine z_add hx hb (z := (gpV sg i j k) + (gpV sg k j i)) dX5_isKept_54 rfl ?_
      refine z_go 0 0 (z_runVN (As := [.int (iI ((gpV sg i j k) + (gpV sg k j i)))]) (rest := []) hC hml hl.1 (m_X1_mod hE H10 (hO.ext0 (zS_F hS)) x la le dr p kn sm (gpV sg i j k + gpV sg k j i) (zo hS hx0 id) hp7 (by omega)) q355 q62 q419 q354 qs5 nd_X1_mod rfl (z_rv hC (ci := 0) rfl (zo hS hx0 id) rfl) rfl (Nat.le_of_ble_eq_true rfl) ⟨Nat.le_of_ble_eq_true rfl, Nat.le_of_ble_eq_true rfl⟩ ⟨zfit (k := 0) (z := 0) rfl rfl (by omega), zfit (k := 0) (z := 0) rfl rfl (by omega)⟩ dX5_isKept_55) ⟨zad (k := 0) rfl (by omega), zad (k := 0) rfl (by omega)⟩ hS (fun _ z => z.elim) (fun r H11 locs hp hF hS1 => ?_)
      obtain ⟨_, rfl, rfl⟩ := hp
      have hP := zpk hP hF
      have hP : va_P G.1 zCl ([]) H11 := hP
      have hD : va_D (zA M0 H0) ([]) := hD
      have hS := hS1
      have hm1 := md_in hp (gpV sg i j k + gpV sg k j i)
      refine z_zne (tgt := 65) hx hb dX5_isKept_58 (by decide) (by omega) (fun c12 => ?_) (fun c12 => ?_)
      · refine lv_iconst (v := iI 0) hx hb dX5_isKept_65 rfl ?_
        exact z_zret hC hrt hlk hQ hS ⟨zle (z := 0) rfl (by omega), zle (z := 0) rfl (by omega)⟩ (by omega) ⟨_, rfl, b2i_f (by rw [el, kp_3]; exact beq_f (by assumption))⟩ dX5_isKept_66
      · refine lv_iconst (v := iI 1) hx hb dX5_isKept_61 rfl ?_
        refine lv_goto (tgt := 66) hx hb dX5_isKept_62 (by decide) ?_
        exact z_zret hC hrt hlk hQ hS ⟨zle (z := 0) rfl (by omega), zle (z := 0) rfl (by omega)⟩ (by omega) ⟨_, rfl, b2i_t (by rw [el, kp_3]; exact beq_t (by assumption))⟩ dX5_isKept_66
  · have el : law = 1 := by omega
    refine lv_aload_n hx hb dX5_isKept_5 rfl (lv_at hl 0 rfl) ?_
    refine z_get hC (k := 4) rfl in_X5 (zo hS hg0 id) (by decide) q965 (fun _ h => h) rfl dX5_isKept_6 ?_
    refine lv_aload_n hx hb dX5_isKept_9 rfl (lv_at hl 0 rfl) ?_
    refine lv_iload_n hx hb dX5_isKept_10 rfl (lv_at hl 2 rfl) ?_
    refine lv_iload_n hx hb dX5_isKept_11 rfl (lv_at hl 3 rfl) ?_
    refine lv_iload hx hb dX5_isKept_12 (lv_at hl 4 rfl) ?_
    refine z_go 0 0 (z_runV (As := [.int (iI ((i : Nat) : Int)), .int (iI ((j : Nat) : Int)), .int (iI ((k : Nat) : Int))]) (rest := [.ref x]) hC hml hl.1 (m_X5_gap hE H0 (hO.ext0 (zS_F hS)) x g p d n kd dv sg i j k (hA.ext0 (zS_F hS)) ⟨by omega, by omega, by omega⟩) (lw_V q415 q417 qs10 q74 q418) rfl nd_X5_gap rfl (z_rv hC (ci := 4) rfl (zo hS hg0 id) rfl) rfl (Nat.le_of_ble_eq_true rfl) ⟨Nat.le_of_ble_eq_true rfl, Nat.le_of_ble_eq_true rfl⟩ ⟨zfit (k := 0) (z := 0) rfl rfl (by omega), zfit (k := 0) (z := 0) rfl rfl (by omega)⟩ dX5_isKept_14) ⟨zad (k := 0) rfl (by omega), zad (k := 0) rfl (by omega)⟩ hS (fun _ z => z.elim) (fun r H13 locs hp hF hS1 => ?_)
    obtain ⟨_, rfl, rfl⟩ := hp
    have hP := zpk hP hF
    have hP : va_P G.1 zCl ([]) H13 := hP
    have hD : va_D (zA M0 H0) ([]) := hD
    have hS := hS1
    refine z_go 0 0 (z_runVN (As := [.int (iI (gpV sg i j k))]) (rest := []) hC hml hl.1 (m_X1_mod hE H13 (hO.ext0 (zS_F hS)) x la le dr p kn sm (gpV sg i j k) (zo hS hx0 id) hp7 (by omega)) q355 q62 q419 q354 qs5 nd_X1_mod rfl (z_rv hC (ci := 0) rfl (zo hS hx0 id) rfl) rfl (Nat.le_of_ble_eq_true rfl) ⟨Nat.le_of_ble_eq_true rfl, Nat.le_of_ble_eq_true rfl⟩ ⟨zfit (k := 0) (z := 0) rfl rfl (by omega), zfit (k := 0) (z := 0) rfl rfl (by omega)⟩ dX5_isKept_17) ⟨zad (k := 0) rfl (by omega), zad (k := 0) rfl (by omega)⟩ hS (fun _ z => z.elim) (fun r H14 locs hp hF hS1 => ?_)
    obtain ⟨_, rfl, rfl⟩ := hp
    have hP := zpk hP hF
    have hP : va_P G.1 zCl ([]) H14 := hP
    have hD : va_D (zA M0 H0) ([]) := hD
    have hS := hS1
    have hm1 := md_in hp (gpV sg i j k)
    refine z_zne (tgt := 27) hx hb dX5_isKept_20 (by decide) (by omega) (fun c15 => ?_) (fun c15 => ?_)
    · refine lv_iconst (v := iI 0) hx hb dX5_isKept_27 rfl ?_
      exact z_zret hC hrt hlk hQ hS ⟨zle (z := 0) rfl (by omega), zle (z := 0) rfl (by omega)⟩ (by omega) ⟨_, rfl, b2i_f (by rw [el, kp_1]; exact beq_f (by assumption))⟩ dX5_isKept_28
    · refine lv_iconst (v := iI 1) hx hb dX5_isKept_23 rfl ?_
      refine lv_goto (tgt := 28) hx hb dX5_isKept_24 (by decide) ?_
      exact z_zret hC hrt hlk hQ hS ⟨zle (z := 0) rfl (by omega), zle (z := 0) rfl (by omega)⟩ (by omega) ⟨_, rfl, b2i_t (by rw [el, kp_1]; exact beq_t (by assumption))⟩ dX5_isKept_28

abbrev rm_m_X5_centre : Room := { frames := 2, cells := 0, slots := 0, locals := 40 }
set_option maxHeartbeats 4000000 in
theorem m_X5_centre {l : Launch} {s0 : State} {G : zG} (hE : zE l s0 G) (H0 : Heap) (hO : zO s0 H0) (x g : Nat) (p : Int) (d n kd : Nat) (dv : Nat → Int) (sg : Nat → Nat → Int) (hA : zAg G x g p d n kd dv sg H0) : zM l s0 yX5_centre cX5_centre 5 (some FieldType.int) rm_m_X5_centre [.ref g] H0 M0 (ri (fun y _ => y = (ceV sg n n : Nat))) := by
  refine z_met hE (by decide +kernel) (Nat.le_of_ble_eq_true rfl) ?_
  intro pp ee ss mm args below meth cd Q ls hC hml hrt hlk hnm hH hQ hS hl
  have hx := hC.x
  have hb := hC.b
  have hl : lv_has ls 5 [(0, .ref g)] := hl
  have hP : va_P G.1 zCl [] H0 := va_nil
  have hD : va_D (zA M0 H0) [] := va_nilD
  obtain ⟨la, le, dr, kn, sm, dl, da, ml, so, dm, ro, hx0, hg0, hL0, hso, hro, hfa⟩ := id hA
  obtain ⟨hp, hd4, hn2, hkd, hdv, hsg⟩ := hfa
  obtain ⟨hn16, hp7⟩ := hA.n
  refine lv_iconst (v := iI 0) hx hb dX5_centre_0 rfl ?_
  refine lv_istore_n (lv' := [(1, .int (iI 0)), (0, .ref g)]) hx hb dX5_centre_1 rfl hl (by decide) rfl (fun ls hl => ?_)
  refine lv_iconst (v := iI 0) hx hb dX5_centre_2 rfl ?_
  refine lv_istore_n (lv' := [(2, .int (iI 0)), (1, .int (iI 0)), (0, .ref g)]) hx hb dX5_centre_3 rfl hl (by decide) rfl (fun ls hl => ?_)
  have lp1 : ∀ (dlp1 : Nat) (i : Nat) (c : Nat), n - i = dlp1 → (i ≤ n) → (c = ceV sg n i) → ∀ (H2 : Heap) (locs : List Loc) (ls : Array Slot), va_P G.1 zCl ([]) H2 → va_D (zA M0 H0) ([]) → va_S (zA M0 H0) H0 H2 locs → lv_has ls 5 [(2, .int (iI ((i : Nat) : Int))), (1, .int (iI ((c : Nat) : Int))), (0, .ref g)] → W pp l ee rm_m_X5_centre ss mm args below meth cd H2 locs 0 0 Q (F0 mm 4 ls []) := by
    intro dlp1
    induction dlp1 using Nat.strongRecOn with
    | ind dlp1 ihlp1 =>
      intro i c hdlp1 hi hc H2 locs ls  hP hD hS hl
      refine lv_iload_n hx hb dX5_centre_4 rfl (lv_at hl 0 rfl) ?_
      refine lv_aload_n hx hb dX5_centre_5 rfl (lv_at hl 2 rfl) ?_
      refine z_go 0 0 (z_runV (As := []) (rest := [.int (iI ((i : Nat) : Int))]) hC hml hl.1 (m_X5_units hE H2 (hO.ext0 (zS_F hS)) x g p d n kd dv sg (hA.ext0 (zS_F hS))) (lw_V q401 q298 q299 q74 q300) rfl nd_X5_units rfl (z_rv hC (ci := 4) rfl (zo hS hg0 id) rfl) rfl (Nat.le_of_ble_eq_true rfl) ⟨Nat.le_of_ble_eq_true rfl, Nat.le_of_ble_eq_true rfl⟩ ⟨zfit (k := 0) (z := 0) rfl rfl (by omega), zfit (k := 0) (z := 0) rfl rfl (by omega)⟩ dX5_centre_6) ⟨zad (k := 0) rfl (by omega), zad (k := 0) rfl (by omega)⟩ hS (fun _ z => z.elim) (fun r H3 locs hp hF hS1 => ?_)
      obtain ⟨_, rfl, rfl⟩ := hp
      have hP := zpk hP hF
      have hP : va_P G.1 zCl ([]) H3 := hP
      have hD : va_D (zA M0 H0) ([]) := hD
      have hS := hS1
      refine z_cge (tgt := 58) hx hb dX5_centre_9 (by decide) (by omega) (fun c4 => ?_) (fun c4 => ?_)
      · have ek : i = n := by omega
        refine lv_iload_n hx hb dX5_centre_58 rfl (lv_at hl 1 rfl) ?_
        exact z_iret hC hrt hlk hQ hS ⟨zle (z := 0) rfl (by omega), zle (z := 0) rfl (by omega)⟩ ⟨_, rfl, by rw [hc, ek]⟩ dX5_centre_59
      · refine lv_iconst (v := iI 1) hx hb dX5_centre_12 rfl ?_
        refine lv_istore_n (lv' := [(3, .int (iI 1)), (2, .int (iI ((i : Nat) : Int))), (1, .int (iI ((c : Nat) : Int))), (0, .ref g)]) hx hb dX5_centre_13 rfl hl (by decide) rfl (fun ls hl => ?_)
        refine lv_iconst (v := iI 0) hx hb dX5_centre_14 rfl ?_
        refine lv_istore (lv' := [(4, .int (iI 0)), (3, .int (iI 1)), (2, .int (iI ((i : Nat) : Int))), (1, .int (iI ((c : Nat) : Int))), (0, .ref g)]) hx hb dX5_centre_15 hl (by decide) rfl (fun ls hl => ?_)
        have lp5 : ∀ (dlp5 : Nat) (j : Nat) (b : Nat), n - j = dlp5 → (j ≤ n) → (b = b2n (cmV sg i j)) → ∀ (H6 : Heap) (locs : List Loc) (ls : Array Slot), va_P G.1 zCl ([]) H6 → va_D (zA M0 H0) ([]) → va_S (zA M0 H0) H0 H6 locs → lv_has ls 5 [(4, .int (iI ((j : Nat) : Int))), (3, .int (iI ((b : Nat) : Int))), (2, .int (iI ((i : Nat) : Int))), (1, .int (iI ((c : Nat) : Int))), (0, .ref g)] → W pp l ee rm_m_X5_centre ss mm args below meth cd H6 locs 0 0 Q (F0 mm 17 ls []) := by
          intro dlp5
          induction dlp5 using Nat.strongRecOn with
          | ind dlp5 ihlp5 =>
            intro j b hdlp5 hj hb9 H6 locs ls  hP hD hS hl
            refine lv_iload hx hb dX5_centre_17 (lv_at hl 0 rfl) ?_
            refine lv_aload_n hx hb dX5_centre_19 rfl (lv_at hl 4 rfl) ?_
            refine z_go 0 0 (z_runV (As := []) (rest := [.int (iI ((j : Nat) : Int))]) hC hml hl.1 (m_X5_units hE H6 (hO.ext0 (zS_F hS)) x g p d n kd dv sg (hA.ext0 (zS_F hS))) (lw_V q401 q298 q299 q74 q300) rfl nd_X5_units rfl (z_rv hC (ci := 4) rfl (zo hS hg0 id) rfl) rfl (Nat.le_of_ble_eq_true rfl) ⟨Nat.le_of_ble_eq_true rfl, Nat.le_of_ble_eq_true rfl⟩ ⟨zfit (k := 0) (z := 0) rfl rfl (by omega), zfit (k := 0) (z := 0) rfl rfl (by omega)⟩ dX5_centre_20) ⟨zad (k := 0) rfl (by omega), zad (k := 0) rfl (by omega)⟩ hS (fun _ z => z.elim) (fun r H7 locs hp hF hS1 => ?_)
            obtain ⟨_, rfl, rfl⟩ := hp
            have hP := zpk hP hF
            have hP : va_P G.1 zCl ([]) H7 := hP
            have hD : va_D (zA M0 H0) ([]) := hD
            have hS := hS1
            refine z_cge (tgt := 42) hx hb dX5_centre_23 (by decide) (by omega) (fun c8 => ?_) (fun c8 => ?_)
            · have ej : j = n := by omega
              have hb01 : b ≤ 1 := by rw [hb9]; unfold b2n; split <;> omega
              have h2i : 2 ^ i ≤ 2 ^ 15 := Nat.pow_le_pow_right (by decide) (by omega)
              refine lv_iload_n hx hb dX5_centre_42 rfl (lv_at hl 1 rfl) ?_
              refine z_zeq (tgt := 52) hx hb dX5_centre_43 (by decide) (by omega) (fun c9 => ?_) (fun c9 => ?_)
              · refine z_iinc (z := ((i + 1 : Nat) : Int)) (lv' := [(2, .int (iI ((i + 1 : Nat) : Int))), (4, .int (iI ((j : Nat) : Int))), (3, .int (iI ((b : Nat) : Int))), (1, .int (iI ((c : Nat) : Int))), (0, .ref g)]) hx hb dX5_centre_52 hl (k := 2) rfl (by omega) (by decide) rfl (fun ls hl => ?_)
                refine lv_goto (tgt := 4) hx hb dX5_centre_55 (by decide) ?_
                exact W.widen (by omega) (by omega) (ihlp1 (n - (i + 1)) (by omega) (i + 1) c rfl (by omega) (by simp only [ceV]; rw [if_neg (by rw [← ej]; intro z; rw [z] at hb9; simp [b2n] at hb9; omega)]; exact hc) _ _ _  hP hD hS (lv_sub hl [0, 3, 4] rfl))
              · refine lv_iload_n hx hb dX5_centre_46 rfl (lv_at hl 3 rfl) ?_
                refine lv_iconst (v := iI 1) hx hb dX5_centre_47 rfl ?_
                refine lv_iload_n hx hb dX5_centre_48 rfl (lv_at hl 2 rfl) ?_
                refine z_shl hx hb (i := 1) (j := i) (n := 1 * 2 ^ i) dX5_centre_49 rfl rfl (by omega) rfl ?_
                have e1 : 1 * 2 ^ i = 2 ^ i := Nat.one_mul _
                refine z_or hx hb (n := c ||| (1 * 2 ^ i)) dX5_centre_50 rfl rfl rfl ?_
                refine lv_istore_n (lv' := [(1, .int (iI ((c ||| (1 * 2 ^ i) : Nat) : Int))), (4, .int (iI ((j : Nat) : Int))), (3, .int (iI ((b : Nat) : Int))), (2, .int (iI ((i : Nat) : Int))), (0, .ref g)]) hx hb dX5_centre_51 rfl hl (by decide) rfl (fun ls hl => ?_)
                refine z_iinc (z := ((i + 1 : Nat) : Int)) (lv' := [(2, .int (iI ((i + 1 : Nat) : Int))), (1, .int (iI ((c ||| (1 * 2 ^ i) : Nat) : Int))), (4, .int (iI ((j : Nat) : Int))), (3, .int (iI ((b : Nat) : Int))), (0, .ref g)]) hx hb dX5_centre_52 hl (k := 3) rfl (by omega) (by decide) rfl (fun ls hl => ?_)
                refine lv_goto (tgt := 4) hx hb dX5_centre_55 (by decide) ?_
                exact W.widen (by omega) (by omega) (ihlp1 (n - (i + 1)) (by omega) (i + 1) (c ||| (1 * 2 ^ i)) rfl (by omega) (by simp only [ceV]; rw [if_pos (by rw [← ej]; cases hz9 : cmV sg i j; rw [hz9] at hb9; simp [b2n] at hb9; omega; rfl), hc, Nat.one_mul]) _ _ _  hP hD hS (lv_sub hl [0, 1, 4] rfl))
            · refine lv_iload_n hx hb dX5_centre_26 rfl (lv_at hl 1 rfl) ?_
              refine lv_aload_n hx hb dX5_centre_27 rfl (lv_at hl 4 rfl) ?_
              refine lv_iload_n hx hb dX5_centre_28 rfl (lv_at hl 2 rfl) ?_
              refine lv_iload hx hb dX5_centre_29 (lv_at hl 0 rfl) ?_
              refine z_go 0 0 (z_runV (As := [.int (iI ((i : Nat) : Int)), .int (iI ((j : Nat) : Int))]) (rest := [.int (iI ((b : Nat) : Int))]) hC hml hl.1 (m_X5_commute hE H7 (hO.ext0 (zS_F hS)) x g p d n kd dv sg i j (hA.ext0 (zS_F hS)) ⟨by omega, by omega⟩) (lw_V q402 q403 q404 q74 q405) rfl nd_X5_commute rfl (z_rv hC (ci := 4) rfl (zo hS hg0 id) rfl) rfl (Nat.le_of_ble_eq_true rfl) ⟨Nat.le_of_ble_eq_true rfl, Nat.le_of_ble_eq_true rfl⟩ ⟨zfit (k := 0) (z := 0) rfl rfl (by omega), zfit (k := 0) (z := 0) rfl rfl (by omega)⟩ dX5_centre_31) ⟨zad (k := 0) rfl (by omega), zad (k := 0) rfl (by omega)⟩ hS (fun _ z => z.elim) (fun r H10 locs hp hF hS1 => ?_)
              obtain ⟨_, rfl, rfl⟩ := hp
              have hP := zpk hP hF
              have hP : va_P G.1 zCl ([]) H10 := hP
              have hD : va_D (zA M0 H0) ([]) := hD
              have hS := hS1
              refine z_top (b := ((b2n (sg i j == sg j i) : Nat) : Int)) (b2n_i _) ?_
              refine z_and hx hb (n := b &&& (b2n (sg i j == sg j i))) dX5_centre_34 rfl rfl rfl ?_
              refine lv_istore_n (lv' := [(3, .int (iI ((b &&& (b2n (sg i j == sg j i)) : Nat) : Int))), (4, .int (iI ((j : Nat) : Int))), (2, .int (iI ((i : Nat) : Int))), (1, .int (iI ((c : Nat) : Int))), (0, .ref g)]) hx hb dX5_centre_35 rfl hl (by decide) rfl (fun ls hl => ?_)
              refine z_iinc (z := ((j + 1 : Nat) : Int)) (lv' := [(4, .int (iI ((j + 1 : Nat) : Int))), (3, .int (iI ((b &&& (b2n (sg i j == sg j i)) : Nat) : Int))), (2, .int (iI ((i : Nat) : Int))), (1, .int (iI ((c : Nat) : Int))), (0, .ref g)]) hx hb dX5_centre_36 hl (k := 1) rfl (by omega) (by decide) rfl (fun ls hl => ?_)
              refine lv_goto (tgt := 17) hx hb dX5_centre_39 (by decide) ?_
              exact W.widen (by omega) (by omega) (ihlp5 (n - (j + 1)) (by omega) (j + 1) (b &&& b2n (sg i j == sg j i)) rfl (by omega) (by rw [hb9, b2n_and]; rfl) _ _ _  hP hD hS hl)
        exact W.widen (by omega) (by omega) (lp5 _ 0 1 rfl (Nat.zero_le _) rfl _ _ _  hP hD hS hl)
  exact W.widen (by omega) (by omega) (lp1 _ 0 0 rfl (Nat.zero_le _) rfl _ _ _  hP hD hS hl)

