/-! THE MODEL is told: prime, algebras, dials, elements, numbers -/
set_option maxRecDepth 100000
abbrev rm_m_X3_elementsOf : Room := { frames := 3, cells := 0, slots := 0, locals := 64 }
set_option maxHeartbeats 4000000 in
theorem m_X3_elementsOf {l : Launch} {s0 : State} {G : zG} (hE : zE l s0 G) (H0 : Heap) (hO : zO s0 H0) (μ : Ro → Nat) (σ : St) (th : Int) (k : Nat) (hh : HM G s0 μ σ th H0) (hk : k < St_na σ) : zM l s0 yX3_elementsOf cX3_elementsOf 4 (some FieldType.int) rm_m_X3_elementsOf [.ref (μ (0, 0, 0)), .int (iI ((k : Nat) : Int))] H0 M0 (ri (fun y _ => y = (ecV σ k (St_ne σ) : Nat))) := by
  refine z_met hE (by decide +kernel) (Nat.le_of_ble_eq_true rfl) ?_
  intro pp ee ss mm args below meth cd Q ls hC hml hrt hlk hnm hH hQ hS hl
  have hx := hC.x
  have hb := hC.b
  have hl : lv_has ls 4 [(0, .ref (μ (0, 0, 0))), (1, .int (iI ((k : Nat) : Int)))] := hl
  have hP : va_P G.1 zCl [] H0 := va_nil
  have hD : va_D (zA M0 H0) [] := va_nilD
  have hH1 := hh
  obtain ⟨hp, hna, hal, hne9, hel9, hmr9⟩ := id hh.ok
  have hp7 : 0 < St_p σ ∧ St_p σ ≤ 7 := by rcases hp with h | h | h <;> rw [h] <;> decide
  refine lv_iconst (v := iI 0) hx hb dX3_elementsOf_0 rfl ?_
  refine lv_istore_n (lv' := [(2, .int (iI 0)), (0, .ref (μ (0, 0, 0))), (1, .int (iI ((k : Nat) : Int)))]) hx hb dX3_elementsOf_1 rfl hl (by decide) rfl (fun ls hl => ?_)
  refine lv_iconst (v := iI 0) hx hb dX3_elementsOf_2 rfl ?_
  refine lv_istore_n (lv' := [(3, .int (iI 0)), (2, .int (iI 0)), (0, .ref (μ (0, 0, 0))), (1, .int (iI ((k : Nat) : Int)))]) hx hb dX3_elementsOf_3 rfl hl (by decide) rfl (fun ls hl => ?_)
  have lp1 : ∀ (dlp1 : Nat) (j : Nat) (c : Nat), St_ne σ - j = dlp1 → (j ≤ St_ne σ) → (c = ecV σ k j) → ∀ (H2 : Heap) (locs : List Loc) (ls : Array Slot), va_P G.1 zCl ([]) H2 → va_D (zA M0 H0) ([]) → va_S (zA M0 H0) H0 H2 locs → lv_has ls 4 [(3, .int (iI ((j : Nat) : Int))), (2, .int (iI ((c : Nat) : Int))), (0, .ref (μ (0, 0, 0))), (1, .int (iI ((k : Nat) : Int)))] → W pp l ee rm_m_X3_elementsOf ss mm args below meth cd H2 locs 0 0 Q (F0 mm 4 ls []) := by
    intro dlp1
    induction dlp1 using Nat.strongRecOn with
    | ind dlp1 ihlp1 =>
      intro j c hdlp1 hj hc H2 locs ls  hP hD hS hl
      have hH1 : HM G s0 μ σ th H2 := hh.ext0 hE (zS_F hS)
      have hxx := hH1.2.2.1.1
      refine lv_iload_n hx hb dX3_elementsOf_4 rfl (lv_at hl 0 rfl) ?_
      refine lv_aload_n hx hb dX3_elementsOf_5 rfl (lv_at hl 2 rfl) ?_
      refine z_get hC (k := 4) rfl in_X3 hxx (by decide) q1500 (fun _ h => h) rfl dX3_elementsOf_6 ?_
      have hH1 : HM G s0 μ σ th H2 := hh.ext0 hE (zS_F hS)
      obtain ⟨mde, hLe⟩ := id hH1.2.2.1.2.2
      refine z_go5 0 0 (z_runF (n := 0) (As := []) (rest := [.int (iI ((j : Nat) : Int))]) (ci := 8) hC hml hl.1 (m_J2_size hE H2 (hO.ext0 (zS_F hS)) (μ (3, 0, 0)) (St_ne σ) (fun j => μ (13, j, 0)) (μ (4, 0, 0)) mde hLe) q232 q1525 q1529 q230 q65 q1527 q1526 q1531 q1530 q1528 ⟨by decide +kernel, by decide +kernel, by decide +kernel⟩ rfl rfl rfl (z_rv hC (ci := 8) rfl hLe.1 rfl) rfl (Nat.le_of_ble_eq_true rfl) ⟨Nat.le_of_ble_eq_true rfl, Nat.le_of_ble_eq_true rfl⟩ ⟨zfit (k := 0) (z := 0) rfl rfl (by omega), zfit (k := 0) (z := 0) rfl rfl (by omega)⟩ dX3_elementsOf_9) ⟨zad (k := 0) rfl (by omega), zad (k := 0) rfl (by omega)⟩ hS (fun _ z => z.elim) (fun r H3 locs hp hF hS1 => ?_)
      obtain ⟨_, rfl, rfl⟩ := hp
      have hP := zpk hP hF
      have hP : va_P G.1 zCl ([]) H3 := hP
      have hD : va_D (zA M0 H0) ([]) := hD
      have hS := hS1
      refine z_cge (tgt := 51) hx hb dX3_elementsOf_14 (by decide) (by omega) (fun c4 => ?_) (fun c4 => ?_)
      · have ej : j = St_ne σ := by omega
        refine lv_iload_n hx hb dX3_elementsOf_51 rfl (lv_at hl 1 rfl) ?_
        exact z_iret hC hrt hlk hQ hS ⟨zle (z := 0) rfl (by omega), zle (z := 0) rfl (by omega)⟩ ⟨_, rfl, by rw [hc, ej]⟩ dX3_elementsOf_52
      · have hcl := ecV_le σ k j
        have hH1 : HM G s0 μ σ th H3 := hh.ext0 hE (zS_F hS)
        have hxx := hH1.2.2.1.1
        refine lv_iload_n hx hb dX3_elementsOf_17 rfl (lv_at hl 1 rfl) ?_
        refine lv_aload_n hx hb dX3_elementsOf_18 rfl (lv_at hl 2 rfl) ?_
        refine z_get hC (k := 4) rfl in_X3 hxx (by decide) q1500 (fun _ h => h) rfl dX3_elementsOf_19 ?_
        refine lv_iload_n hx hb dX3_elementsOf_22 rfl (lv_at hl 0 rfl) ?_
        have hH1 : HM G s0 μ σ th H3 := hh.ext0 hE (zS_F hS)
        obtain ⟨mde, hLe⟩ := id hH1.2.2.1.2.2
        refine z_go5 0 0 (z_runF (n := 1) (As := [.int (iI ((j : Nat) : Int))]) (rest := [.int (iI ((c : Nat) : Int))]) (ci := 8) hC hml hl.1 (m_J2_get hE H3 (hO.ext0 (zS_F hS)) (μ (3, 0, 0)) (St_ne σ) (fun j => μ (13, j, 0)) (μ (4, 0, 0)) mde j hLe (by omega)) q375 q1588 q1591 q373 q65 q1590 q1589 q1593 q1592 q1528 ⟨by decide +kernel, by decide +kernel, by decide +kernel⟩ rfl rfl rfl (z_rv hC (ci := 8) rfl hLe.1 rfl) rfl (Nat.le_of_ble_eq_true rfl) ⟨Nat.le_of_ble_eq_true rfl, Nat.le_of_ble_eq_true rfl⟩ ⟨zfit (k := 0) (z := 0) rfl rfl (by omega), zfit (k := 0) (z := 0) rfl rfl (by omega)⟩ dX3_elementsOf_23) ⟨zad (k := 0) rfl (by omega), zad (k := 0) rfl (by omega)⟩ hS (fun _ z => z.elim) (fun r H5 locs hp hF hS1 => ?_)
        obtain ⟨_, rfl, rfl⟩ := hp
        have hP := zpk hP hF
        have hP : va_P G.1 zCl ([]) H5 := hP
        have hD : va_D (zA M0 H0) ([]) := hD
        have hS := hS1
        have hH1 : HM G s0 μ σ th H5 := hh.ext0 hE (zS_F hS)
        have hEj := hH1.el (j := j) (by omega)
        have hvj := hH1.row (j := j) (by omega)
        have heaj := hH1.ea (j := j) (by omega)
        have hnnj := hH1.n (k := St_ea σ j) heaj
        refine z_cast hC (ci := 7) rfl hEj.1 rfl q1598 dX3_elementsOf_28 ?_
        refine z_get hC (k := 0) rfl in_X8 hEj.1 (by decide) q1638 (fun _ h => h) rfl dX3_elementsOf_31 ?_
        refine lv_iload_n hx hb dX3_elementsOf_34 rfl (lv_at hl 3 rfl) ?_
        refine z_cne (tgt := 42) hx hb dX3_elementsOf_35 (by decide) (by omega) (fun c6 => ?_) (fun c6 => ?_)
        · refine lv_iconst (v := iI 0) hx hb dX3_elementsOf_42 rfl ?_
          refine z_add hx hb (z := ((c : Nat) : Int) + 0) dX3_elementsOf_43 rfl ?_
          refine z_top (b := ((c + 0 : Nat) : Int)) (by omega) ?_
          refine lv_istore_n (lv' := [(2, .int (iI ((c + 0 : Nat) : Int))), (3, .int (iI ((j : Nat) : Int))), (0, .ref (μ (0, 0, 0))), (1, .int (iI ((k : Nat) : Int)))]) hx hb dX3_elementsOf_44 rfl hl (by decide) rfl (fun ls hl => ?_)
          refine z_iinc (z := ((j + 1 : Nat) : Int)) (lv' := [(3, .int (iI ((j + 1 : Nat) : Int))), (2, .int (iI ((c + 0 : Nat) : Int))), (0, .ref (μ (0, 0, 0))), (1, .int (iI ((k : Nat) : Int)))]) hx hb dX3_elementsOf_45 hl (k := 1) rfl (by omega) (by decide) rfl (fun ls hl => ?_)
          refine lv_goto (tgt := 4) hx hb dX3_elementsOf_48 (by decide) ?_
          exact W.widen (by omega) (by omega) (ihlp1 (St_ne σ - (j + 1)) (by omega) (j + 1) (c + 0) rfl (by omega) (by simp only [ecV]; rw [if_neg (by omega)]; omega) _ _ _  hP hD hS hl)
        · refine lv_iconst (v := iI 1) hx hb dX3_elementsOf_38 rfl ?_
          refine lv_goto (tgt := 43) hx hb dX3_elementsOf_39 (by decide) ?_
          refine z_add hx hb (z := ((c : Nat) : Int) + 1) dX3_elementsOf_43 rfl ?_
          refine z_top (b := ((c + 1 : Nat) : Int)) (by omega) ?_
          refine lv_istore_n (lv' := [(2, .int (iI ((c + 1 : Nat) : Int))), (3, .int (iI ((j : Nat) : Int))), (0, .ref (μ (0, 0, 0))), (1, .int (iI ((k : Nat) : Int)))]) hx hb dX3_elementsOf_44 rfl hl (by decide) rfl (fun ls hl => ?_)
          refine z_iinc (z := ((j + 1 : Nat) : Int)) (lv' := [(3, .int (iI ((j + 1 : Nat) : Int))), (2, .int (iI ((c + 1 : Nat) : Int))), (0, .ref (μ (0, 0, 0))), (1, .int (iI ((k : Nat) : Int)))]) hx hb dX3_elementsOf_45 hl (k := 1) rfl (by omega) (by decide) rfl (fun ls hl => ?_)
          refine lv_goto (tgt := 4) hx hb dX3_elementsOf_48 (by decide) ?_
          exact W.widen (by omega) (by omega) (ihlp1 (St_ne σ - (j + 1)) (by omega) (j + 1) (c + 1) rfl (by omega) (by simp only [ecV]; rw [if_pos (by omega)]; omega) _ _ _  hP hD hS hl)
  exact W.widen (by omega) (by omega) (lp1 _ 0 0 rfl (Nat.zero_le _) rfl _ _ _  hP hD hS hl)

abbrev rm_m_X3_prime : Room := { frames := 1, cells := 0, slots := 0, locals := 21 }
set_option maxHeartbeats 4000000 in
theorem m_X3_prime {l : Launch} {s0 : State} {G : zG} (hE : zE l s0 G) (H0 : Heap) (hO : zO s0 H0) (μ : Ro → Nat) (σ : St) (th : Int) (z : Int) (hh : HM G s0 μ σ th H0) (hi : zi z) : zM l s0 yX3_prime cX3_prime 3 (some FieldType.int) rm_m_X3_prime [.ref (μ (0, 0, 0)), .int (iI z)] H0 (FM G μ σ) (HPM G s0 H0 μ σ [IAE, ISE] ((fun y σ' => pr357 z ∧ St_na σ = 0 ∧ σ' = stP σ z ∧ y = St_p σ)) ((XPr σ z))) := by
  refine z_met hE (by decide +kernel) (Nat.le_of_ble_eq_true rfl) ?_
  intro pp ee ss mm args below meth cd Q ls hC hml hrt hlk hnm hH hQ hS hl
  have hx := hC.x
  have hb := hC.b
  have hl : lv_has ls 3 [(0, .ref (μ (0, 0, 0))), (1, .int (iI z))] := hl
  have hP : va_P G.1 zCl [] H0 := va_nil
  have hD : va_D (zA (FM G μ σ) H0) [] := va_nilD
  have hMo : ∀ z, (FM G μ σ) z → s0.heap.size ≤ z := fun z hz => FM.ge hh.sep hz
  have hH1 := hh
  obtain ⟨hp, hna, hal, hne9, hel9, hmr9⟩ := id hh.ok
  have hp7 : 0 < St_p σ ∧ St_p σ ≤ 7 := by rcases hp with h | h | h <;> rw [h] <;> decide
  have hP : va_P G.1 zCl [((μ (0, 0, 0)), zOb 2 [.int (iI th), .int (iI (St_p σ)), .int (iI ((St_kn σ : Nat) : Int)), .ref (μ (1, 0, 0)), .ref (μ (3, 0, 0))])] H0 := zP1 hh.2.2.1.1
  have hD : va_D (zA (FM G μ σ) H0) [((μ (0, 0, 0)), zOb 2 [.int (iI th), .int (iI (St_p σ)), .int (iI ((St_kn σ : Nat) : Int)), .ref (μ (1, 0, 0)), .ref (μ (3, 0, 0))])] := zD1 (Or.inl (FM.in hE hh.sep (domM0 0 (by omega)) (by simp [rAm])))
  refine lv_aload_n hx hb dX3_prime_0 rfl (lv_at hl 0 rfl) ?_
  refine lv_iconst (v := iI 0) hx hb dX3_prime_1 rfl ?_
  refine z_putO hC hP hD hS 0 (k := 0) rfl rfl in_X3 tyX3_ok nmX3 (by decide) q1495 (fun _ h => h) rfl rfl rfl rfl (Nat.le_of_ble_eq_true rfl) (ws' := [((μ (0, 0, 0)), zOb 2 [.int (iI 0), .int (iI (St_p σ)), .int (iI ((St_kn σ : Nat) : Int)), .ref (μ (1, 0, 0)), .ref (μ (3, 0, 0))])]) rfl dX3_prime_2 (fun H1 locs hP hD hS hZ1 hZ2 => ?_)
  have hH1 : HM G s0 μ σ 0 H1 := HM.thr hE hH1 (zF.one hZ1 hZ2) (hP 0 _ rfl)
  have hP : va_P G.1 zCl [] H1 := va_nil
  have hD : va_D (zA (FM G μ σ) H0) [] := va_nilD
  refine lv_iload_n hx hb dX3_prime_5 rfl (lv_at hl 1 rfl) ?_
  refine lv_iconst (v := iI 3) hx hb dX3_prime_6 rfl ?_
  refine z_ceq (tgt := 27) hx hb dX3_prime_7 (by decide) (by omega) (fun c2 => ?_) (fun c2 => ?_)
  · have hz9 : pr357 z := (show z = 3 ∨ z = 5 ∨ z = 7 by omega)
    have hxx := hH1.2.2.1.1
    refine lv_aload_n hx hb dX3_prime_27 rfl (lv_at hl 0 rfl) ?_
    refine z_get hC (k := 3) rfl in_X3 hxx (by decide) q1499 (fun _ h => h) rfl dX3_prime_28 ?_
    obtain ⟨mda, hLa⟩ := id hH1.2.2.1.2.1
    refine z_go5 0 0 (z_runF (n := 0) (As := []) (rest := []) (ci := 8) hC hml hl.1 (m_J2_size hE H1 (hO.ext (zS_F hS) hMo) (μ (1, 0, 0)) (St_na σ) (fun k => μ (6, k, 0)) (μ (2, 0, 0)) mda hLa) q232 q1525 q1529 q230 q65 q1527 q1526 q1531 q1530 q1528 ⟨by decide +kernel, by decide +kernel, by decide +kernel⟩ rfl rfl rfl (z_rv hC (ci := 8) rfl hLa.1 rfl) rfl (Nat.le_of_ble_eq_true rfl) ⟨Nat.le_of_ble_eq_true rfl, Nat.le_of_ble_eq_true rfl⟩ ⟨zfit (k := 0) (z := 0) rfl rfl (by omega), zfit (k := 0) (z := 0) rfl rfl (by omega)⟩ dX3_prime_31) ⟨zad (k := 0) rfl (by omega), zad (k := 0) rfl (by omega)⟩ hS (fun _ z => z.elim) (fun r H3 locs hp hF hS1 => ?_)
    obtain ⟨_, rfl, rfl⟩ := hp
    have hP := zpk hP hF
    have hP : va_P G.1 zCl ([]) H3 := hP
    have hD : va_D (zA (FM G μ σ) H0) ([]) := hD
    have hH1 : HM G s0 μ σ 0 H3 := hH1.ext0 hE hF
    have hS := hS1
    refine z_zle (tgt := 45) hx hb dX3_prime_36 (by decide) (by omega) (fun c4 => ?_) (fun c4 => ?_)
    · have hn0 : St_na σ = 0 := by omega
      have hP : va_P G.1 zCl [((μ (0, 0, 0)), zOb 2 [.int (iI 0), .int (iI (St_p σ)), .int (iI ((St_kn σ : Nat) : Int)), .ref (μ (1, 0, 0)), .ref (μ (3, 0, 0))])] H3 := zP1 hH1.2.2.1.1
      have hD : va_D (zA (FM G μ σ) H0) [((μ (0, 0, 0)), zOb 2 [.int (iI 0), .int (iI (St_p σ)), .int (iI ((St_kn σ : Nat) : Int)), .ref (μ (1, 0, 0)), .ref (μ (3, 0, 0))])] := zD1 (Or.inl (FM.in hE hh.sep (domM0 0 (by omega)) (by simp [rAm])))
      refine lv_aload_n hx hb dX3_prime_45 rfl (lv_at hl 0 rfl) ?_
      refine z_get hC (k := 1) rfl in_X3 (hP 0 _ rfl) (by decide) q1496 (fun _ h => h) rfl dX3_prime_46 ?_
      refine lv_istore_n (lv' := [(2, .int (iI (St_p σ))), (0, .ref (μ (0, 0, 0))), (1, .int (iI z))]) hx hb dX3_prime_49 rfl hl (by decide) rfl (fun ls hl => ?_)
      refine lv_aload_n hx hb dX3_prime_50 rfl (lv_at hl 1 rfl) ?_
      refine lv_iload_n hx hb dX3_prime_51 rfl (lv_at hl 2 rfl) ?_
      refine z_putO hC hP hD hS 0 (k := 1) rfl rfl in_X3 tyX3_ok nmX3 (by decide) q1496 (fun _ h => h) rfl rfl rfl rfl (Nat.le_of_ble_eq_true rfl) (ws' := [((μ (0, 0, 0)), zOb 2 [.int (iI 0), .int (iI z), .int (iI ((St_kn σ : Nat) : Int)), .ref (μ (1, 0, 0)), .ref (μ (3, 0, 0))])]) rfl dX3_prime_52 (fun H5 locs hP hD hS hZ1 hZ2 => ?_)
      have hH9 : HM G s0 μ (stP σ z) 0 H5 := HM.prime hE hH1 hz9 hn0 (zF.one hZ1 hZ2) (hP 0 _ rfl)
      refine lv_iload_n hx hb dX3_prime_55 rfl (lv_at hl 0 rfl) ?_
      exact z_iret hC hrt hlk hQ hS ⟨zle (z := 0) rfl (by omega), zle (z := 0) rfl (by omega)⟩ ⟨_, rfl, 0, stP σ z, ⟨μ, hH9, rfl, fun _ w => Or.inl w⟩, Or.inl ⟨rfl, hz9, hn0, rfl, rfl⟩⟩ dX3_prime_56
    · refine lv_aload_n hx hb dX3_prime_39 rfl (lv_at hl 0 rfl) ?_
      refine lv_iconst (v := iI 2) hx hb dX3_prime_40 rfl ?_
      have hHb := hH1
      refine z_go 0 0 (z_runV (As := [.int (iI 2)]) (rest := []) hC hml hl.1 (m_X3_no hE H3 (hO.ext (zS_F hS) hMo) μ σ 0 2 hHb) (lw_V q1520 q1522 qs29 q67 q1523) rfl nd_X3_no rfl (z_rv hC (ci := 2) rfl hHb.2.2.1.1 rfl) rfl (Nat.le_of_ble_eq_true rfl) ⟨Nat.le_of_ble_eq_true rfl, Nat.le_of_ble_eq_true rfl⟩ ⟨zfit (k := 0) (z := 0) rfl rfl (by omega), zfit (k := 0) (z := 0) rfl rfl (by omega)⟩ dX3_prime_41) ⟨zad (k := 0) rfl (by omega), zad (k := 0) rfl (by omega)⟩ hS (fun z hz => Or.inl (hz ▸ FM.in hE hh.sep (domM0 0 (by omega)) (by simp [rAm]))) (fun r H6 locs hp hF hS1 => ?_)
      obtain ⟨_, rfl, rfl, hx9⟩ := hp
      have hP : va_P G.1 zCl [] H6 := va_nil
      have hD : va_D (zA (FM G μ σ) H0) [] := va_nilD
      have hP : va_P G.1 zCl ([]) H6 := hP
      have hD : va_D (zA (FM G μ σ) H0) ([]) := hD
      have hS := hS1
      have hH9 : HM G s0 μ σ ((2 : Nat) : Int) H6 := HM.thr hE hHb hF hx9
      exact z_iret hC hrt hlk hQ hS ⟨zle (z := 0) rfl (by omega), zle (z := 0) rfl (by omega)⟩ ⟨_, rfl, 2, σ, PoM.same hH9, Or.inr ⟨by decide, rfl, by decide, Or.inr ⟨rfl, hz9, by omega⟩⟩⟩ dX3_prime_44
  · refine lv_iload_n hx hb dX3_prime_10 rfl (lv_at hl 1 rfl) ?_
    refine lv_iconst (v := iI 5) hx hb dX3_prime_11 rfl ?_
    refine z_ceq (tgt := 27) hx hb dX3_prime_12 (by decide) (by omega) (fun c7 => ?_) (fun c7 => ?_)
    · have hz9 : pr357 z := (show z = 3 ∨ z = 5 ∨ z = 7 by omega)
      have hxx := hH1.2.2.1.1
      refine lv_aload_n hx hb dX3_prime_27 rfl (lv_at hl 0 rfl) ?_
      refine z_get hC (k := 3) rfl in_X3 hxx (by decide) q1499 (fun _ h => h) rfl dX3_prime_28 ?_
      obtain ⟨mda, hLa⟩ := id hH1.2.2.1.2.1
      refine z_go5 0 0 (z_runF (n := 0) (As := []) (rest := []) (ci := 8) hC hml hl.1 (m_J2_size hE H1 (hO.ext (zS_F hS) hMo) (μ (1, 0, 0)) (St_na σ) (fun k => μ (6, k, 0)) (μ (2, 0, 0)) mda hLa) q232 q1525 q1529 q230 q65 q1527 q1526 q1531 q1530 q1528 ⟨by decide +kernel, by decide +kernel, by decide +kernel⟩ rfl rfl rfl (z_rv hC (ci := 8) rfl hLa.1 rfl) rfl (Nat.le_of_ble_eq_true rfl) ⟨Nat.le_of_ble_eq_true rfl, Nat.le_of_ble_eq_true rfl⟩ ⟨zfit (k := 0) (z := 0) rfl rfl (by omega), zfit (k := 0) (z := 0) rfl rfl (by omega)⟩ dX3_prime_31) ⟨zad (k := 0) rfl (by omega), zad (k := 0) rfl (by omega)⟩ hS (fun _ z => z.elim) (fun r H8 locs hp hF hS1 => ?_)
      obtain ⟨_, rfl, rfl⟩ := hp
      have hP := zpk hP hF
      have hP : va_P G.1 zCl ([]) H8 := hP
      have hD : va_D (zA (FM G μ σ) H0) ([]) := hD
      have hH1 : HM G s0 μ σ 0 H8 := hH1.ext0 hE hF
      have hS := hS1
      refine z_zle (tgt := 45) hx hb dX3_prime_36 (by decide) (by omega) (fun c9 => ?_) (fun c9 => ?_)
      · have hn0 : St_na σ = 0 := by omega
        have hP : va_P G.1 zCl [((μ (0, 0, 0)), zOb 2 [.int (iI 0), .int (iI (St_p σ)), .int (iI ((St_kn σ : Nat) : Int)), .ref (μ (1, 0, 0)), .ref (μ (3, 0, 0))])] H8 := zP1 hH1.2.2.1.1
        have hD : va_D (zA (FM G μ σ) H0) [((μ (0, 0, 0)), zOb 2 [.int (iI 0), .int (iI (St_p σ)), .int (iI ((St_kn σ : Nat) : Int)), .ref (μ (1, 0, 0)), .ref (μ (3, 0, 0))])] := zD1 (Or.inl (FM.in hE hh.sep (domM0 0 (by omega)) (by simp [rAm])))
        refine lv_aload_n hx hb dX3_prime_45 rfl (lv_at hl 0 rfl) ?_
        refine z_get hC (k := 1) rfl in_X3 (hP 0 _ rfl) (by decide) q1496 (fun _ h => h) rfl dX3_prime_46 ?_
        refine lv_istore_n (lv' := [(2, .int (iI (St_p σ))), (0, .ref (μ (0, 0, 0))), (1, .int (iI z))]) hx hb dX3_prime_49 rfl hl (by decide) rfl (fun ls hl => ?_)
        refine lv_aload_n hx hb dX3_prime_50 rfl (lv_at hl 1 rfl) ?_
        refine lv_iload_n hx hb dX3_prime_51 rfl (lv_at hl 2 rfl) ?_
        refine z_putO hC hP hD hS 0 (k := 1) rfl rfl in_X3 tyX3_ok nmX3 (by decide) q1496 (fun _ h => h) rfl rfl rfl rfl (Nat.le_of_ble_eq_true rfl) (ws' := [((μ (0, 0, 0)), zOb 2 [.int (iI 0), .int (iI z), .int (iI ((St_kn σ : Nat) : Int)), .ref (μ (1, 0, 0)), .ref (μ (3, 0, 0))])]) rfl dX3_prime_52 (fun H10 locs hP hD hS hZ1 hZ2 => ?_)
        have hH9 : HM G s0 μ (stP σ z) 0 H10 := HM.prime hE hH1 hz9 hn0 (zF.one hZ1 hZ2) (hP 0 _ rfl)
        refine lv_iload_n hx hb dX3_prime_55 rfl (lv_at hl 0 rfl) ?_
        exact z_iret hC hrt hlk hQ hS ⟨zle (z := 0) rfl (by omega), zle (z := 0) rfl (by omega)⟩ ⟨_, rfl, 0, stP σ z, ⟨μ, hH9, rfl, fun _ w => Or.inl w⟩, Or.inl ⟨rfl, hz9, hn0, rfl, rfl⟩⟩ dX3_prime_56
      · refine lv_aload_n hx hb dX3_prime_39 rfl (lv_at hl 0 rfl) ?_
        refine lv_iconst (v := iI 2) hx hb dX3_prime_40 rfl ?_
        have hHb := hH1
        refine z_go 0 0 (z_runV (As := [.int (iI 2)]) (rest := []) hC hml hl.1 (m_X3_no hE H8 (hO.ext (zS_F hS) hMo) μ σ 0 2 hHb) (lw_V q1520 q1522 qs29 q67 q1523) rfl nd_X3_no rfl (z_rv hC (ci := 2) rfl hHb.2.2.1.1 rfl) rfl (Nat.le_of_ble_eq_true rfl) ⟨Nat.le_of_ble_eq_true rfl, Nat.le_of_ble_eq_true rfl⟩ ⟨zfit (k := 0) (z := 0) rfl rfl (by omega), zfit (k := 0) (z := 0) rfl rfl (by omega)⟩ dX3_prime_41) ⟨zad (k := 0) rfl (by omega), zad (k := 0) rfl (by omega)⟩ hS (fun z hz => Or.inl (hz ▸ FM.in hE hh.sep (domM0 0 (by omega)) (by simp [rAm]))) (fun r H11 locs hp hF hS1 => ?_)
        obtain ⟨_, rfl, rfl, hx9⟩ := hp
        have hP : va_P G.1 zCl [] H11 := va_nil
        have hD : va_D (zA (FM G μ σ) H0) [] := va_nilD
        have hP : va_P G.1 zCl ([]) H11 := hP
        have hD : va_D (zA (FM G μ σ) H0) ([]) := hD
        have hS := hS1
        have hH9 : HM G s0 μ σ ((2 : Nat) : Int) H11 := HM.thr hE hHb hF hx9
        exact z_iret hC hrt hlk hQ hS ⟨zle (z := 0) rfl (by omega), zle (z := 0) rfl (by omega)⟩ ⟨_, rfl, 2, σ, PoM.same hH9, Or.inr ⟨by decide, rfl, by decide, Or.inr ⟨rfl, hz9, by omega⟩⟩⟩ dX3_prime_44
    · refine lv_iload_n hx hb dX3_prime_15 rfl (lv_at hl 1 rfl) ?_
      refine lv_bipush (v := iI 7) hx hb dX3_prime_16 (by decide) ?_
      refine z_ceq (tgt := 27) hx hb dX3_prime_18 (by decide) (by omega) (fun c12 => ?_) (fun c12 => ?_)
      · have hz9 : pr357 z := (show z = 3 ∨ z = 5 ∨ z = 7 by omega)
        have hxx := hH1.2.2.1.1
        refine lv_aload_n hx hb dX3_prime_27 rfl (lv_at hl 0 rfl) ?_
        refine z_get hC (k := 3) rfl in_X3 hxx (by decide) q1499 (fun _ h => h) rfl dX3_prime_28 ?_
        obtain ⟨mda, hLa⟩ := id hH1.2.2.1.2.1
        refine z_go5 0 0 (z_runF (n := 0) (As := []) (rest := []) (ci := 8) hC hml hl.1 (m_J2_size hE H1 (hO.ext (zS_F hS) hMo) (μ (1, 0, 0)) (St_na σ) (fun k => μ (6, k, 0)) (μ (2, 0, 0)) mda hLa) q232 q1525 q1529 q230 q65 q1527 q1526 q1531 q1530 q1528 ⟨by decide +kernel, by decide +kernel, by decide +kernel⟩ rfl rfl rfl (z_rv hC (ci := 8) rfl hLa.1 rfl) rfl (Nat.le_of_ble_eq_true rfl) ⟨Nat.le_of_ble_eq_true rfl, Nat.le_of_ble_eq_true rfl⟩ ⟨zfit (k := 0) (z := 0) rfl rfl (by omega), zfit (k := 0) (z := 0) rfl rfl (by omega)⟩ dX3_prime_31) ⟨zad (k := 0) rfl (by omega), zad (k := 0) rfl (by omega)⟩ hS (fun _ z => z.elim) (fun r H13 locs hp hF hS1 => ?_)
        obtain ⟨_, rfl, rfl⟩ := hp
        have hP := zpk hP hF
        have hP : va_P G.1 zCl ([]) H13 := hP
        have hD : va_D (zA (FM G μ σ) H0) ([]) := hD
        have hH1 : HM G s0 μ σ 0 H13 := hH1.ext0 hE hF
        have hS := hS1
        refine z_zle (tgt := 45) hx hb dX3_prime_36 (by decide) (by omega) (fun c14 => ?_) (fun c14 => ?_)
        · have hn0 : St_na σ = 0 := by omega
          have hP : va_P G.1 zCl [((μ (0, 0, 0)), zOb 2 [.int (iI 0), .int (iI (St_p σ)), .int (iI ((St_kn σ : Nat) : Int)), .ref (μ (1, 0, 0)), .ref (μ (3, 0, 0))])] H13 := zP1 hH1.2.2.1.1
          have hD : va_D (zA (FM G μ σ) H0) [((μ (0, 0, 0)), zOb 2 [.int (iI 0), .int (iI (St_p σ)), .int (iI ((St_kn σ : Nat) : Int)), .ref (μ (1, 0, 0)), .ref (μ (3, 0, 0))])] := zD1 (Or.inl (FM.in hE hh.sep (domM0 0 (by omega)) (by simp [rAm])))
          refine lv_aload_n hx hb dX3_prime_45 rfl (lv_at hl 0 rfl) ?_
          refine z_get hC (k := 1) rfl in_X3 (hP 0 _ rfl) (by decide) q1496 (fun _ h => h) rfl dX3_prime_46 ?_
          refine lv_istore_n (lv' := [(2, .int (iI (St_p σ))), (0, .ref (μ (0, 0, 0))), (1, .int (iI z))]) hx hb dX3_prime_49 rfl hl (by decide) rfl (fun ls hl => ?_)
          refine lv_aload_n hx hb dX3_prime_50 rfl (lv_at hl 1 rfl) ?_
          refine lv_iload_n hx hb dX3_prime_51 rfl (lv_at hl 2 rfl) ?_
          refine z_putO hC hP hD hS 0 (k := 1) rfl rfl in_X3 tyX3_ok nmX3 (by decide) q1496 (fun _ h => h) rfl rfl rfl rfl (Nat.le_of_ble_eq_true rfl) (ws' := [((μ (0, 0, 0)), zOb 2 [.int (iI 0), .int (iI z), .int (iI ((St_kn σ : Nat) : Int)), .ref (μ (1, 0, 0)), .ref (μ (3, 0, 0))])]) rfl dX3_prime_52 (fun H15 locs hP hD hS hZ1 hZ2 => ?_)
          have hH9 : HM G s0 μ (stP σ z) 0 H15 := HM.prime hE hH1 hz9 hn0 (zF.one hZ1 hZ2) (hP 0 _ rfl)
          refine lv_iload_n hx hb dX3_prime_55 rfl (lv_at hl 0 rfl) ?_
          exact z_iret hC hrt hlk hQ hS ⟨zle (z := 0) rfl (by omega), zle (z := 0) rfl (by omega)⟩ ⟨_, rfl, 0, stP σ z, ⟨μ, hH9, rfl, fun _ w => Or.inl w⟩, Or.inl ⟨rfl, hz9, hn0, rfl, rfl⟩⟩ dX3_prime_56
        · refine lv_aload_n hx hb dX3_prime_39 rfl (lv_at hl 0 rfl) ?_
          refine lv_iconst (v := iI 2) hx hb dX3_prime_40 rfl ?_
          have hHb := hH1
          refine z_go 0 0 (z_runV (As := [.int (iI 2)]) (rest := []) hC hml hl.1 (m_X3_no hE H13 (hO.ext (zS_F hS) hMo) μ σ 0 2 hHb) (lw_V q1520 q1522 qs29 q67 q1523) rfl nd_X3_no rfl (z_rv hC (ci := 2) rfl hHb.2.2.1.1 rfl) rfl (Nat.le_of_ble_eq_true rfl) ⟨Nat.le_of_ble_eq_true rfl, Nat.le_of_ble_eq_true rfl⟩ ⟨zfit (k := 0) (z := 0) rfl rfl (by omega), zfit (k := 0) (z := 0) rfl rfl (by omega)⟩ dX3_prime_41) ⟨zad (k := 0) rfl (by omega), zad (k := 0) rfl (by omega)⟩ hS (fun z hz => Or.inl (hz ▸ FM.in hE hh.sep (domM0 0 (by omega)) (by simp [rAm]))) (fun r H16 locs hp hF hS1 => ?_)
          obtain ⟨_, rfl, rfl, hx9⟩ := hp
          have hP : va_P G.1 zCl [] H16 := va_nil
          have hD : va_D (zA (FM G μ σ) H0) [] := va_nilD
          have hP : va_P G.1 zCl ([]) H16 := hP
          have hD : va_D (zA (FM G μ σ) H0) ([]) := hD
          have hS := hS1
          have hH9 : HM G s0 μ σ ((2 : Nat) : Int) H16 := HM.thr hE hHb hF hx9
          exact z_iret hC hrt hlk hQ hS ⟨zle (z := 0) rfl (by omega), zle (z := 0) rfl (by omega)⟩ ⟨_, rfl, 2, σ, PoM.same hH9, Or.inr ⟨by decide, rfl, by decide, Or.inr ⟨rfl, hz9, by omega⟩⟩⟩ dX3_prime_44
      · refine lv_aload_n hx hb dX3_prime_21 rfl (lv_at hl 0 rfl) ?_
        refine lv_iconst (v := iI 1) hx hb dX3_prime_22 rfl ?_
        have hHb := hH1
        refine z_go 0 0 (z_runV (As := [.int (iI 1)]) (rest := []) hC hml hl.1 (m_X3_no hE H1 (hO.ext (zS_F hS) hMo) μ σ 0 1 hHb) (lw_V q1520 q1522 qs29 q67 q1523) rfl nd_X3_no rfl (z_rv hC (ci := 2) rfl hHb.2.2.1.1 rfl) rfl (Nat.le_of_ble_eq_true rfl) ⟨Nat.le_of_ble_eq_true rfl, Nat.le_of_ble_eq_true rfl⟩ ⟨zfit (k := 0) (z := 0) rfl rfl (by omega), zfit (k := 0) (z := 0) rfl rfl (by omega)⟩ dX3_prime_23) ⟨zad (k := 0) rfl (by omega), zad (k := 0) rfl (by omega)⟩ hS (fun z hz => Or.inl (hz ▸ FM.in hE hh.sep (domM0 0 (by omega)) (by simp [rAm]))) (fun r H17 locs hp hF hS1 => ?_)
        obtain ⟨_, rfl, rfl, hx9⟩ := hp
        have hP : va_P G.1 zCl [] H17 := va_nil
        have hD : va_D (zA (FM G μ σ) H0) [] := va_nilD
        have hP : va_P G.1 zCl ([]) H17 := hP
        have hD : va_D (zA (FM G μ σ) H0) ([]) := hD
        have hS := hS1
        have hH9 : HM G s0 μ σ ((1 : Nat) : Int) H17 := HM.thr hE hHb hF hx9
        exact z_iret hC hrt hlk hQ hS ⟨zle (z := 0) rfl (by omega), zle (z := 0) rfl (by omega)⟩ ⟨_, rfl, 1, σ, PoM.same hH9, Or.inr ⟨by decide, rfl, by decide, Or.inl ⟨rfl, fun w => by have w : z = 3 ∨ z = 5 ∨ z = 7 := w; omega⟩⟩⟩ dX3_prime_26

abbrev rm_m_X3_algebra : Room := { frames := 7, cells := 6, slots := 25, locals := 221 }
set_option maxHeartbeats 4000000 in
theorem m_X3_algebra {l : Launch} {s0 : State} {G : zG} (hE : zE l s0 G) (H0 : Heap) (hO : zO s0 H0) (μ : Ro → Nat) (σ : St) (th : Int) (z : Int) (hh : HM G s0 μ σ th H0) (hi : zi z) : zM l s0 yX3_algebra cX3_algebra 2 (some FieldType.int) rm_m_X3_algebra [.ref (μ (0, 0, 0)), .int (iI z)] H0 (FM G μ σ) (HPM G s0 H0 μ σ [IAE, ISE] ((fun y σ' => (0 ≤ z ∧ z ≤ 1) ∧ St_na σ < 4 ∧ σ' = stAl σ z.toNat ∧ y = (St_na σ : Nat))) ((XAlg σ z))) := by
  refine z_met hE (by decide +kernel) (Nat.le_of_ble_eq_true rfl) ?_
  intro pp ee ss mm args below meth cd Q ls hC hml hrt hlk hnm hH hQ hS hl
  have hx := hC.x
  have hb := hC.b
  have hl : lv_has ls 2 [(0, .ref (μ (0, 0, 0))), (1, .int (iI z))] := hl
  have hP : va_P G.1 zCl [] H0 := va_nil
  have hD : va_D (zA (FM G μ σ) H0) [] := va_nilD
  have hMo : ∀ z, (FM G μ σ) z → s0.heap.size ≤ z := fun z hz => FM.ge hh.sep hz
  have hH1 := hh
  obtain ⟨hp, hna, hal, hne9, hel9, hmr9⟩ := id hh.ok
  have hp7 : 0 < St_p σ ∧ St_p σ ≤ 7 := by rcases hp with h | h | h <;> rw [h] <;> decide
  have hP : va_P G.1 zCl [((μ (0, 0, 0)), zOb 2 [.int (iI th), .int (iI (St_p σ)), .int (iI ((St_kn σ : Nat) : Int)), .ref (μ (1, 0, 0)), .ref (μ (3, 0, 0))])] H0 := zP1 hh.2.2.1.1
  have hD : va_D (zA (FM G μ σ) H0) [((μ (0, 0, 0)), zOb 2 [.int (iI th), .int (iI (St_p σ)), .int (iI ((St_kn σ : Nat) : Int)), .ref (μ (1, 0, 0)), .ref (μ (3, 0, 0))])] := zD1 (Or.inl (FM.in hE hh.sep (domM0 0 (by omega)) (by simp [rAm])))
  refine lv_aload_n hx hb dX3_algebra_0 rfl (lv_at hl 0 rfl) ?_
  refine lv_iconst (v := iI 0) hx hb dX3_algebra_1 rfl ?_
  refine z_putO hC hP hD hS 0 (k := 0) rfl rfl in_X3 tyX3_ok nmX3 (by decide) q1495 (fun _ h => h) rfl rfl rfl rfl (Nat.le_of_ble_eq_true rfl) (ws' := [((μ (0, 0, 0)), zOb 2 [.int (iI 0), .int (iI (St_p σ)), .int (iI ((St_kn σ : Nat) : Int)), .ref (μ (1, 0, 0)), .ref (μ (3, 0, 0))])]) rfl dX3_algebra_2 (fun H1 locs hP hD hS hZ1 hZ2 => ?_)
  have hH1 : HM G s0 μ σ 0 H1 := HM.thr hE hH1 (zF.one hZ1 hZ2) (hP 0 _ rfl)
  have hP : va_P G.1 zCl [] H1 := va_nil
  have hD : va_D (zA (FM G μ σ) H0) [] := va_nilD
  refine lv_iload_n hx hb dX3_algebra_5 rfl (lv_at hl 1 rfl) ?_
  refine lv_iconst (v := iI 0) hx hb dX3_algebra_6 rfl ?_
  refine lv_iconst (v := iI 1) hx hb dX3_algebra_7 rfl ?_
  refine z_go 0 0 (z_runS (As := [.int (iI z), .int (iI 0), .int (iI 1)]) (rest := []) hC hml hl.1 (m_X3_in hE H1 (hO.ext (zS_F hS) hMo) (0) (1) (z) ⟨by omega, by omega, by omega⟩) (lw_S q1536 q1537 q67 q1538) nd_X3_in rfl rfl (Nat.le_of_ble_eq_true rfl) ⟨Nat.le_of_ble_eq_true rfl, Nat.le_of_ble_eq_true rfl⟩ ⟨zfit (k := 0) (z := 6) rfl rfl (by omega), zfit (k := 0) (z := 25) rfl rfl (by omega)⟩ dX3_algebra_8) ⟨zad (k := 0) rfl (by omega), zad (k := 0) rfl (by omega)⟩ hS (fun _ z => z.elim) (fun r H2 locs hp hF hS1 => ?_)
  obtain ⟨_, rfl, rfl⟩ := hp
  have hP := zpk hP hF
  have hP : va_P G.1 zCl ([]) H2 := hP
  have hD : va_D (zA (FM G μ σ) H0) ([]) := hD
  have hH1 : HM G s0 μ σ 0 H2 := hH1.ext0 hE hF
  have hS := hS1
  obtain ⟨fl, hfl, hfl2⟩ : ∃ fl : Nat, fl ≤ 1 ∧ (if 0 ≤ z ∧ z ≤ 1 then (1 : Int) else 0) = fl ∧ (fl = 1 ↔ 0 ≤ z ∧ z ≤ 1) := by by_cases h : 0 ≤ z ∧ z ≤ 1; exact ⟨1, by decide, by rw [if_pos h]; rfl, ⟨fun _ => h, fun _ => rfl⟩⟩; exact ⟨0, by decide, by rw [if_neg h]; rfl, ⟨fun z => absurd z (by decide), fun z => absurd z h⟩⟩
  refine z_top (b := ((fl : Nat) : Int)) (hfl2.1) ?_
  refine z_zne (tgt := 20) hx hb dX3_algebra_11 (by decide) (by omega) (fun c3 => ?_) (fun c3 => ?_)
  · have hrg : 0 ≤ z ∧ z ≤ 1 := hfl2.2.mp (by omega)
    have hxx := hH1.2.2.1.1
    refine lv_aload_n hx hb dX3_algebra_20 rfl (lv_at hl 0 rfl) ?_
    refine z_get hC (k := 3) rfl in_X3 hxx (by decide) q1499 (fun _ h => h) rfl dX3_algebra_21 ?_
    obtain ⟨mda, hLa⟩ := id hH1.2.2.1.2.1
    refine z_go5 0 0 (z_runF (n := 0) (As := []) (rest := []) (ci := 8) hC hml hl.1 (m_J2_size hE H2 (hO.ext (zS_F hS) hMo) (μ (1, 0, 0)) (St_na σ) (fun k => μ (6, k, 0)) (μ (2, 0, 0)) mda hLa) q232 q1525 q1529 q230 q65 q1527 q1526 q1531 q1530 q1528 ⟨by decide +kernel, by decide +kernel, by decide +kernel⟩ rfl rfl rfl (z_rv hC (ci := 8) rfl hLa.1 rfl) rfl (Nat.le_of_ble_eq_true rfl) ⟨Nat.le_of_ble_eq_true rfl, Nat.le_of_ble_eq_true rfl⟩ ⟨zfit (k := 0) (z := 6) rfl rfl (by omega), zfit (k := 0) (z := 25) rfl rfl (by omega)⟩ dX3_algebra_24) ⟨zad (k := 0) rfl (by omega), zad (k := 0) rfl (by omega)⟩ hS (fun _ z => z.elim) (fun r H4 locs hp hF hS1 => ?_)
    obtain ⟨_, rfl, rfl⟩ := hp
    have hP := zpk hP hF
    have hP : va_P G.1 zCl ([]) H4 := hP
    have hD : va_D (zA (FM G μ σ) H0) ([]) := hD
    have hH1 : HM G s0 μ σ 0 H4 := hH1.ext0 hE hF
    have hS := hS1
    refine lv_iconst (v := iI 4) hx hb dX3_algebra_29 rfl ?_
    refine z_cne (tgt := 39) hx hb dX3_algebra_30 (by decide) (by omega) (fun c5 => ?_) (fun c5 => ?_)
    · have hlt9 : St_na σ < 4 := by omega
      obtain ⟨kd, rfl⟩ : ∃ kd : Nat, z = kd := ⟨z.toNat, by omega⟩
      have hxx := hH1.2.2.1.1
      refine lv_aload_n hx hb dX3_algebra_39 rfl (lv_at hl 0 rfl) ?_
      refine z_get hC (k := 3) rfl in_X3 hxx (by decide) q1499 (fun _ h => h) rfl dX3_algebra_40 ?_
      refine z_new hC hP hD hS (c1 := 1) (s1 := 6) (fs := [.int (iI 0), .null, .null, .int (iI 0), .null, .null]) (ci := 5) rfl in_X6 tyX6_ok q1539 q1540 q82 df_X6 ⟨zle (z := 6) rfl (by omega), zle (z := 25) rfl (by omega)⟩ ⟨by omega, by omega⟩ (ws' := fun q6 => [(q6, zOb 5 [.int (iI 0), .null, .null, .int (iI 0), .null, .null])]) (fun _ => rfl) dX3_algebra_43 (fun q6 H7 hq0q6 hq1q6 hP hD hS hF => ?_)
      have hH1 : HM G s0 μ σ 0 H7 := hH1.ext0 hE hF
      refine lv_dup hx hb dX3_algebra_46 rfl ?_
      refine lv_aload_n hx hb dX3_algebra_47 rfl (lv_at hl 0 rfl) ?_
      refine lv_iload_n hx hb dX3_algebra_48 rfl (lv_at hl 1 rfl) ?_
      have hgn : H0.size ≤ q6 := hq0q6
      have hszb : H0.size ≤ H7.size := hS.1
      refine z_go 5 15 (z_runI (As := [.ref (μ (0, 0, 0)), .int (iI ((kd : Nat) : Int))]) (rest := [.ref q6, .ref (μ (1, 0, 0))]) hC hml hl.1 (m_X6_init hE H7 (hO.ext (zS_F hS) hMo) q6 (μ (0, 0, 0)) kd (Nat.le_trans hO.1 hgn) (hP 0 _ rfl)) q1543 q82 q1541 q1542 rfl nd_X6_init rfl rfl (Nat.le_of_ble_eq_true rfl) ⟨Nat.le_of_ble_eq_true rfl, Nat.le_of_ble_eq_true rfl⟩ ⟨zfit (k := 4) (z := 6) rfl rfl (by omega), zfit (k := 9) (z := 25) rfl rfl (by omega)⟩ dX3_algebra_49) ⟨zad (k := 4) rfl (by omega), zad (k := 9) rfl (by omega)⟩ hS (fun q z => by subst z; exact hD.2 0 _ rfl) (fun r H8 locs hp hF hS1 => ?_)
      obtain ⟨rfl, dl, so, r0, ml, hP9, hD9⟩ := hp
      have hP := hP9
      have hDn : va_D (fun z => H0.size ≤ z) [(q6, zOb 5 [.int (iI ((kd : Nat) : Int)), .ref dl, .ref so, .int (iI 0), .ref ml, .ref (μ (0, 0, 0))]), (dl, zI G 4 (fun _ => 0)), (so, zII G 1 (fun _ => some r0)), (r0, zI G 1 (fun _ => 1)), (ml, zOb 8 [.int (iI 0), .ref (G.2 12), .int (iI 0)])] := va_D.weaken hD9 (fun _ _ _ z => z.elim (fun w => w ▸ hgn) (fun w => Nat.le_trans hszb w))
      have hD : va_D (zA (FM G μ σ) H0) _ := va_D.weaken hDn (fun _ _ _ z => Or.inr z)
      have hP : va_P G.1 zCl ([(q6, zOb 5 [.int (iI ((kd : Nat) : Int)), .ref dl, .ref so, .int (iI 0), .ref ml, .ref (μ (0, 0, 0))]), (dl, zI G 4 (fun _ => 0)), (so, zII G 1 (fun _ => some r0)), (r0, zI G 1 (fun _ => 1)), (ml, zOb 8 [.int (iI 0), .ref (G.2 12), .int (iI 0)])]) H8 := hP
      have hD : va_D (zA (FM G μ σ) H0) ([(q6, zOb 5 [.int (iI ((kd : Nat) : Int)), .ref dl, .ref so, .int (iI 0), .ref ml, .ref (μ (0, 0, 0))]), (dl, zI G 4 (fun _ => 0)), (so, zII G 1 (fun _ => some r0)), (r0, zI G 1 (fun _ => 1)), (ml, zOb 8 [.int (iI 0), .ref (G.2 12), .int (iI 0)])]) := hD
      have hH1 : HM G s0 μ σ 0 H8 := hH1.ext hE hF (fun a9 ha9 _ z => by have := hh.lt hE hO a9 ha9; omega)
      have hS := hS1
      have hlt0 : ¬ H8.size ≤ q6 ∧ ¬ H8.size ≤ dl ∧ ¬ H8.size ≤ so ∧ ¬ H8.size ≤ r0 ∧ ¬ H8.size ≤ ml := ⟨Nat.not_le.mpr (hP 0 _ rfl).lt, Nat.not_le.mpr (hP 1 _ rfl).lt, Nat.not_le.mpr (hP 2 _ rfl).lt, Nat.not_le.mpr (hP 3 _ rfl).lt, Nat.not_le.mpr (hP 4 _ rfl).lt⟩
      obtain ⟨mdl, hLb⟩ := id hH1.2.2.1.2.1
      have hHb := hH1
      have hPb := hP
      have hl19 := hh.lt hE hO _ (domM0 1 (by omega))
      have hl29 := hh.lt hE hO _ (domM0 2 (by omega))
      have hxn9 : H0.size ≤ q6 := hDn.2 0 _ rfl
      have hxne : q6 ≠ (μ (1, 0, 0)) := by omega
      have hHbs : H0.size ≤ H8.size := hS.1
      have hsep9 : (μ (2, 0, 0)) ≠ G.2 12 → s0.heap.size ≤ (μ (2, 0, 0)) ∧ (μ (1, 0, 0)) ≠ (μ (2, 0, 0)) := fun w => ⟨(hh.sep.1 _ (domM0 2 (by omega))).resolve_right (fun y => w y.1), hh.sep.ne hE (domM0 1 (by omega)) (domM0 2 (by omega)) (fun y => by cases y) (by simp [rAm])⟩
      have hx8 := hH1.2.2.1.1
      refine z_go5 6 25 (z_runF (n := 1) (As := [.ref q6]) (rest := []) (ci := 8) hC hml hl.1 (m_J2_add hE H8 (hO.ext (zS_F hS) hMo) (μ (1, 0, 0)) (St_na σ) (fun k => μ (6, k, 0)) (μ (2, 0, 0)) mdl q6 (hh.sep.ge (domM0 1 (by omega)) (by simp [rAm])) hsep9 (by omega) hLb (zAny.of hE (ci := 5) rfl (hPb 0 _ rfl) q1974) hxne) q980 q1573 q1576 q978 q65 q1575 q1574 q1578 q1577 q1528 ⟨by decide +kernel, by decide +kernel, by decide +kernel⟩ rfl rfl rfl (z_rv hC (ci := 8) rfl hLb.1 rfl) rfl (Nat.le_of_ble_eq_true rfl) ⟨Nat.le_of_ble_eq_true rfl, Nat.le_of_ble_eq_true rfl⟩ ⟨zfit (k := 1) (z := 6) rfl rfl (by omega), zfit (k := 10) (z := 25) rfl rfl (by omega)⟩ dX3_algebra_52) ⟨zad (k := 1) rfl (by omega), zad (k := 10) rfl (by omega)⟩ hS (fun z hz => Or.inl (hz.elim (fun w => w ▸ FM.in hE hh.sep (domM0 1 (by omega)) (by simp [rAm])) (fun w => ⟨by rw [w.1]; exact w.2, (2, 0, 0), domM0 2 (by omega), w.1.symm⟩))) (fun r H9 locs hp hF hS1 => ?_)
      obtain ⟨_, rfl, rfl, arr1, hL1, hor⟩ := hp
      have hP : va_P G.1 zCl [(q6, zOb 5 [.int (iI ((kd : Nat) : Int)), .ref dl, .ref so, .int (iI 0), .ref ml, .ref (μ (0, 0, 0))]), (dl, zI G 4 (fun _ => 0)), (so, zII G 1 (fun _ => some r0)), (r0, zI G 1 (fun _ => 1)), (ml, zOb 8 [.int (iI 0), .ref (G.2 12), .int (iI 0)])] H9 := zkeep hPb hDn hF (fun z hz => by rcases hz with hz | hz <;> omega)
      have hx9 := hx8.ext hF (fun z => z.elim (fun w => by have := hh.sep.ne hE (domM0 0 (by omega)) (domM0 1 (by omega)) (fun y => by cases y) (by simp [rAm]); exact this w) (fun w => by have := hh.sep.ne hE (domM0 0 (by omega)) (domM0 2 (by omega)) (fun y => by cases y) (by simp [rAm]); exact this w.1))
      have hP : va_P G.1 zCl ([(q6, zOb 5 [.int (iI ((kd : Nat) : Int)), .ref dl, .ref so, .int (iI 0), .ref ml, .ref (μ (0, 0, 0))]), (dl, zI G 4 (fun _ => 0)), (so, zII G 1 (fun _ => some r0)), (r0, zI G 1 (fun _ => 1)), (ml, zOb 8 [.int (iI 0), .ref (G.2 12), .int (iI 0)])]) H9 := hP
      have hD : va_D (zA (FM G μ σ) H0) ([(q6, zOb 5 [.int (iI ((kd : Nat) : Int)), .ref dl, .ref so, .int (iI 0), .ref ml, .ref (μ (0, 0, 0))]), (dl, zI G 4 (fun _ => 0)), (so, zII G 1 (fun _ => some r0)), (r0, zI G 1 (fun _ => 1)), (ml, zOb 8 [.int (iI 0), .ref (G.2 12), .int (iI 0)])]) := hD
      have hS := hS1
      have hge0 : H0.size ≤ q6 := hDn.2 0 _ rfl
      have hge1 : H0.size ≤ dl := hDn.2 1 _ rfl
      have hge2 : H0.size ≤ so := hDn.2 2 _ rfl
      have hge3 : H0.size ≤ r0 := hDn.2 3 _ rfl
      have hge4 : H0.size ≤ ml := hDn.2 4 _ rfl
      have hPo : PoM G s0 H0 μ σ (stAl σ kd) 0 H9 := HM.newal hE hO hh hHb hF (by omega) hlt9 ⟨hge0, hge1, hge4, hge2, hge3⟩ (hor.imp id (fun z => Nat.le_trans hHbs z)) ⟨fun e => absurd (hDn.1 0 1 _ _ rfl rfl e) (by decide), fun e => absurd (hDn.1 0 4 _ _ rfl rfl e) (by decide), fun e => absurd (hDn.1 0 2 _ _ rfl rfl e) (by decide), fun e => absurd (hDn.1 0 3 _ _ rfl rfl e) (by decide), fun e => absurd (hDn.1 1 4 _ _ rfl rfl e) (by decide), fun e => absurd (hDn.1 1 2 _ _ rfl rfl e) (by decide), fun e => absurd (hDn.1 1 3 _ _ rfl rfl e) (by decide), fun e => absurd (hDn.1 4 2 _ _ rfl rfl e) (by decide), fun e => absurd (hDn.1 4 3 _ _ rfl rfl e) (by decide), fun e => absurd (hDn.1 2 3 _ _ rfl rfl e) (by decide), by rcases hor with w | w <;> omega, by rcases hor with w | w <;> omega, by rcases hor with w | w <;> omega, by rcases hor with w | w <;> omega, by rcases hor with w | w <;> omega⟩ hL1 (hP 0 _ rfl) (hP 1 _ rfl) (hP 4 _ rfl) (hP 2 _ rfl) (hP 3 _ rfl)
      have hHPo := hPo
      refine lv_pop hx hb dX3_algebra_57 rfl ?_
      refine lv_aload_n hx hb dX3_algebra_58 rfl (lv_at hl 0 rfl) ?_
      refine z_get hC (k := 3) rfl in_X3 hx9 (by decide) q1499 (fun _ h => h) rfl dX3_algebra_59 ?_
      refine z_go5 6 25 (z_runF (n := 0) (As := []) (rest := []) (ci := 8) hC hml hl.1 (m_J2_size hE H9 (hO.ext (zS_F hS) hMo) (μ (1, 0, 0)) (St_na σ + 1) _ arr1 _ hL1) q232 q1525 q1529 q230 q65 q1527 q1526 q1531 q1530 q1528 ⟨by decide +kernel, by decide +kernel, by decide +kernel⟩ rfl rfl rfl (z_rv hC (ci := 8) rfl hL1.1 rfl) rfl (Nat.le_of_ble_eq_true rfl) ⟨Nat.le_of_ble_eq_true rfl, Nat.le_of_ble_eq_true rfl⟩ ⟨zfit (k := 0) (z := 6) rfl rfl (by omega), zfit (k := 0) (z := 25) rfl rfl (by omega)⟩ dX3_algebra_62) ⟨zad (k := 0) rfl (by omega), zad (k := 0) rfl (by omega)⟩ hS (fun _ z => z.elim) (fun r H10 locs hp hF hS1 => ?_)
      obtain ⟨_, rfl, rfl⟩ := hp
      have hP := zpk hP hF
      have hP : va_P G.1 zCl ([(q6, zOb 5 [.int (iI ((kd : Nat) : Int)), .ref dl, .ref so, .int (iI 0), .ref ml, .ref (μ (0, 0, 0))]), (dl, zI G 4 (fun _ => 0)), (so, zII G 1 (fun _ => some r0)), (r0, zI G 1 (fun _ => 1)), (ml, zOb 8 [.int (iI 0), .ref (G.2 12), .int (iI 0)])]) H10 := hP
      have hD : va_D (zA (FM G μ σ) H0) ([(q6, zOb 5 [.int (iI ((kd : Nat) : Int)), .ref dl, .ref so, .int (iI 0), .ref ml, .ref (μ (0, 0, 0))]), (dl, zI G 4 (fun _ => 0)), (so, zII G 1 (fun _ => some r0)), (r0, zI G 1 (fun _ => 1)), (ml, zOb 8 [.int (iI 0), .ref (G.2 12), .int (iI 0)])]) := hD
      have hHPo : PoM G s0 H0 μ σ (stAl σ kd) 0 H10 := hHPo.ext0 hE hF
      have hS := hS1
      refine lv_iconst (v := iI 1) hx hb dX3_algebra_67 rfl ?_
      refine z_sub hx hb (z := ((St_na σ + 1 : Nat) : Int) - 1) dX3_algebra_68 rfl ?_
      refine z_top (b := ((St_na σ : Nat) : Int)) (by omega) ?_
      exact z_iret hC hrt hlk hQ hS ⟨zle (z := 6) rfl (by omega), zle (z := 25) rfl (by omega)⟩ ⟨_, rfl, 0, stAl σ kd, hHPo, Or.inl ⟨rfl, hrg, hlt9, rfl, rfl⟩⟩ dX3_algebra_69
    · refine lv_aload_n hx hb dX3_algebra_33 rfl (lv_at hl 0 rfl) ?_
      refine lv_iconst (v := iI 2) hx hb dX3_algebra_34 rfl ?_
      have hHb := hH1
      refine z_go 0 0 (z_runV (As := [.int (iI 2)]) (rest := []) hC hml hl.1 (m_X3_no hE H4 (hO.ext (zS_F hS) hMo) μ σ 0 2 hHb) (lw_V q1520 q1522 qs29 q67 q1523) rfl nd_X3_no rfl (z_rv hC (ci := 2) rfl hHb.2.2.1.1 rfl) rfl (Nat.le_of_ble_eq_true rfl) ⟨Nat.le_of_ble_eq_true rfl, Nat.le_of_ble_eq_true rfl⟩ ⟨zfit (k := 0) (z := 6) rfl rfl (by omega), zfit (k := 0) (z := 25) rfl rfl (by omega)⟩ dX3_algebra_35) ⟨zad (k := 0) rfl (by omega), zad (k := 0) rfl (by omega)⟩ hS (fun z hz => Or.inl (hz ▸ FM.in hE hh.sep (domM0 0 (by omega)) (by simp [rAm]))) (fun r H11 locs hp hF hS1 => ?_)
      obtain ⟨_, rfl, rfl, hx9⟩ := hp
      have hP : va_P G.1 zCl [] H11 := va_nil
      have hD : va_D (zA (FM G μ σ) H0) [] := va_nilD
      have hP : va_P G.1 zCl ([]) H11 := hP
      have hD : va_D (zA (FM G μ σ) H0) ([]) := hD
      have hS := hS1
      have hH9 : HM G s0 μ σ ((2 : Nat) : Int) H11 := HM.thr hE hHb hF hx9
      exact z_iret hC hrt hlk hQ hS ⟨zle (z := 6) rfl (by omega), zle (z := 25) rfl (by omega)⟩ ⟨_, rfl, 2, σ, PoM.same hH9, Or.inr ⟨by decide, rfl, by decide, Or.inr ⟨rfl, hrg, by omega⟩⟩⟩ dX3_algebra_38
  · refine lv_aload_n hx hb dX3_algebra_14 rfl (lv_at hl 0 rfl) ?_
    refine lv_iconst (v := iI 1) hx hb dX3_algebra_15 rfl ?_
    have hHb := hH1
    refine z_go 0 0 (z_runV (As := [.int (iI 1)]) (rest := []) hC hml hl.1 (m_X3_no hE H2 (hO.ext (zS_F hS) hMo) μ σ 0 1 hHb) (lw_V q1520 q1522 qs29 q67 q1523) rfl nd_X3_no rfl (z_rv hC (ci := 2) rfl hHb.2.2.1.1 rfl) rfl (Nat.le_of_ble_eq_true rfl) ⟨Nat.le_of_ble_eq_true rfl, Nat.le_of_ble_eq_true rfl⟩ ⟨zfit (k := 0) (z := 6) rfl rfl (by omega), zfit (k := 0) (z := 25) rfl rfl (by omega)⟩ dX3_algebra_16) ⟨zad (k := 0) rfl (by omega), zad (k := 0) rfl (by omega)⟩ hS (fun z hz => Or.inl (hz ▸ FM.in hE hh.sep (domM0 0 (by omega)) (by simp [rAm]))) (fun r H12 locs hp hF hS1 => ?_)
    obtain ⟨_, rfl, rfl, hx9⟩ := hp
    have hP : va_P G.1 zCl [] H12 := va_nil
    have hD : va_D (zA (FM G μ σ) H0) [] := va_nilD
    have hP : va_P G.1 zCl ([]) H12 := hP
    have hD : va_D (zA (FM G μ σ) H0) ([]) := hD
    have hS := hS1
    have hH9 : HM G s0 μ σ ((1 : Nat) : Int) H12 := HM.thr hE hHb hF hx9
    exact z_iret hC hrt hlk hQ hS ⟨zle (z := 6) rfl (by omega), zle (z := 25) rfl (by omega)⟩ ⟨_, rfl, 1, σ, PoM.same hH9, Or.inr ⟨by decide, rfl, by decide, Or.inl ⟨rfl, fun z9 => by have h9 := hfl2.2.mpr z9; omega⟩⟩⟩ dX3_algebra_19

abbrev rm_m_X3_dial : Room := { frames := 4, cells := 17, slots := 272, locals := 95 }
set_option maxHeartbeats 4000000 in
theorem m_X3_dial {l : Launch} {s0 : State} {G : zG} (hE : zE l s0 G) (H0 : Heap) (hO : zO s0 H0) (μ : Ro → Nat) (σ : St) (th : Int) (i z : Int) (hh : HM G s0 μ σ th H0) (hi : zi i ∧ zi z) : zM l s0 yX3_dial cX3_dial 3 (some FieldType.int) rm_m_X3_dial [.ref (μ (0, 0, 0)), .int (iI i), .int (iI z)] H0 (FM G μ σ) (HPM G s0 H0 μ σ [IOB, IAE, ISE] ((fun y σ' => ∃ k : Nat, (i = k ∧ k < St_na σ) ∧ (0 < z ∧ z < St_p σ) ∧ (St_d σ k < 4 ∧ ecV σ k (St_ne σ) = 0) ∧ σ' = stDi σ k z ∧ y = (2 ^ (St_d σ k + 1) : Nat))) ((XDi σ i z))) := by
  refine z_met hE (by decide +kernel) (Nat.le_of_ble_eq_true rfl) ?_
  intro pp ee ss mm args below meth cd Q ls hC hml hrt hlk hnm hH hQ hS hl
  have hx := hC.x
  have hb := hC.b
  have hl : lv_has ls 3 [(0, .ref (μ (0, 0, 0))), (1, .int (iI i)), (2, .int (iI z))] := hl
  have hP : va_P G.1 zCl [] H0 := va_nil
  have hD : va_D (zA (FM G μ σ) H0) [] := va_nilD
  have hMo : ∀ z, (FM G μ σ) z → s0.heap.size ≤ z := fun z hz => FM.ge hh.sep hz
  have hH1 := hh
  obtain ⟨hp, hna, hal, hne9, hel9, hmr9⟩ := id hh.ok
  have hp7 : 0 < St_p σ ∧ St_p σ ≤ 7 := by rcases hp with h | h | h <;> rw [h] <;> decide
  have hP : va_P G.1 zCl [((μ (0, 0, 0)), zOb 2 [.int (iI th), .int (iI (St_p σ)), .int (iI ((St_kn σ : Nat) : Int)), .ref (μ (1, 0, 0)), .ref (μ (3, 0, 0))])] H0 := zP1 hh.2.2.1.1
  have hD : va_D (zA (FM G μ σ) H0) [((μ (0, 0, 0)), zOb 2 [.int (iI th), .int (iI (St_p σ)), .int (iI ((St_kn σ : Nat) : Int)), .ref (μ (1, 0, 0)), .ref (μ (3, 0, 0))])] := zD1 (Or.inl (FM.in hE hh.sep (domM0 0 (by omega)) (by simp [rAm])))
  refine lv_aload_n hx hb dX3_dial_0 rfl (lv_at hl 0 rfl) ?_
  refine lv_iconst (v := iI 0) hx hb dX3_dial_1 rfl ?_
  refine z_putO hC hP hD hS 0 (k := 0) rfl rfl in_X3 tyX3_ok nmX3 (by decide) q1495 (fun _ h => h) rfl rfl rfl rfl (Nat.le_of_ble_eq_true rfl) (ws' := [((μ (0, 0, 0)), zOb 2 [.int (iI 0), .int (iI (St_p σ)), .int (iI ((St_kn σ : Nat) : Int)), .ref (μ (1, 0, 0)), .ref (μ (3, 0, 0))])]) rfl dX3_dial_2 (fun H1 locs hP hD hS hZ1 hZ2 => ?_)
  have hH1 : HM G s0 μ σ 0 H1 := HM.thr hE hH1 (zF.one hZ1 hZ2) (hP 0 _ rfl)
  have hP : va_P G.1 zCl [] H1 := va_nil
  have hD : va_D (zA (FM G μ σ) H0) [] := va_nilD
  refine lv_aload_n hx hb dX3_dial_5 rfl (lv_at hl 0 rfl) ?_
  refine lv_iload_n hx hb dX3_dial_6 rfl (lv_at hl 1 rfl) ?_
  refine z_go 0 0 (z_runV (As := [.int (iI i)]) (rest := []) hC hml hl.1 (m_X3_isAlgebra hE H1 (hO.ext (zS_F hS) hMo) μ σ 0 i hH1 hi.1) (lw_V q1583 q1585 qs30 q67 q1586) rfl nd_X3_isAlgebra rfl (z_rv hC (ci := 2) rfl hH1.2.2.1.1 rfl) rfl (Nat.le_of_ble_eq_true rfl) ⟨Nat.le_of_ble_eq_true rfl, Nat.le_of_ble_eq_true rfl⟩ ⟨zfit (k := 0) (z := 17) rfl rfl (by omega), zfit (k := 0) (z := 272) rfl rfl (by omega)⟩ dX3_dial_7) ⟨zad (k := 0) rfl (by omega), zad (k := 0) rfl (by omega)⟩ hS (fun _ z => z.elim) (fun r H2 locs hp hF hS1 => ?_)
  obtain ⟨_, rfl, rfl⟩ := hp
  have hP := zpk hP hF
  have hP : va_P G.1 zCl ([]) H2 := hP
  have hD : va_D (zA (FM G μ σ) H0) ([]) := hD
  have hH1 : HM G s0 μ σ 0 H2 := hH1.ext0 hE hF
  have hS := hS1
  obtain ⟨fl, hfl, hfl2⟩ : ∃ fl : Nat, fl ≤ 1 ∧ (if 0 ≤ i ∧ i < (((St_na σ) : Nat) : Int) then (1 : Int) else 0) = fl ∧ (fl = 1 ↔ 0 ≤ i ∧ i < (((St_na σ) : Nat) : Int)) := by by_cases h : 0 ≤ i ∧ i < (((St_na σ) : Nat) : Int); exact ⟨1, by decide, by rw [if_pos h]; rfl, ⟨fun _ => h, fun _ => rfl⟩⟩; exact ⟨0, by decide, by rw [if_neg h]; rfl, ⟨fun z => absurd z (by decide), fun z => absurd z h⟩⟩
  refine z_top (b := ((fl : Nat) : Int)) (hfl2.1) ?_
  refine z_zne (tgt := 19) hx hb dX3_dial_10 (by decide) (by omega) (fun c3 => ?_) (fun c3 => ?_)
  · have hok9 := hfl2.2.mp (by omega)
    obtain ⟨k, rfl⟩ : ∃ k : Nat, i = k := ⟨i.toNat, by omega⟩
    have hk9 : k < St_na σ := by omega
    have hxx := hH1.2.2.1.1
    refine lv_iload_n hx hb dX3_dial_19 rfl (lv_at hl 2 rfl) ?_
    refine lv_iconst (v := iI 1) hx hb dX3_dial_20 rfl ?_
    refine lv_aload_n hx hb dX3_dial_21 rfl (lv_at hl 0 rfl) ?_
    refine z_get hC (k := 1) rfl in_X3 hxx (by decide) q1496 (fun _ h => h) rfl dX3_dial_22 ?_
    refine lv_iconst (v := iI 1) hx hb dX3_dial_25 rfl ?_
    refine z_sub hx hb (z := (St_p σ) - 1) dX3_dial_26 rfl ?_
    refine z_go 0 0 (z_runS (As := [.int (iI z), .int (iI 1), .int (iI ((St_p σ) - 1))]) (rest := []) hC hml hl.1 (m_X3_in hE H2 (hO.ext (zS_F hS) hMo) (1) ((St_p σ - 1)) (z) ⟨by omega, by omega, by omega⟩) (lw_S q1536 q1537 q67 q1538) nd_X3_in rfl rfl (Nat.le_of_ble_eq_true rfl) ⟨Nat.le_of_ble_eq_true rfl, Nat.le_of_ble_eq_true rfl⟩ ⟨zfit (k := 0) (z := 17) rfl rfl (by omega), zfit (k := 0) (z := 272) rfl rfl (by omega)⟩ dX3_dial_27) ⟨zad (k := 0) rfl (by omega), zad (k := 0) rfl (by omega)⟩ hS (fun _ z => z.elim) (fun r H4 locs hp hF hS1 => ?_)
    obtain ⟨_, rfl, rfl⟩ := hp
    have hP := zpk hP hF
    have hP : va_P G.1 zCl ([]) H4 := hP
    have hD : va_D (zA (FM G μ σ) H0) ([]) := hD
    have hH1 : HM G s0 μ σ 0 H4 := hH1.ext0 hE hF
    have hS := hS1
    obtain ⟨fl, hfl, hfl2⟩ : ∃ fl : Nat, fl ≤ 1 ∧ (if 1 ≤ z ∧ z ≤ (St_p σ - 1) then (1 : Int) else 0) = fl ∧ (fl = 1 ↔ 1 ≤ z ∧ z ≤ (St_p σ - 1)) := by by_cases h : 1 ≤ z ∧ z ≤ (St_p σ - 1); exact ⟨1, by decide, by rw [if_pos h]; rfl, ⟨fun _ => h, fun _ => rfl⟩⟩; exact ⟨0, by decide, by rw [if_neg h]; rfl, ⟨fun z => absurd z (by decide), fun z => absurd z h⟩⟩
    refine z_top (b := ((fl : Nat) : Int)) (hfl2.1) ?_
    refine z_zne (tgt := 39) hx hb dX3_dial_30 (by decide) (by omega) (fun c5 => ?_) (fun c5 => ?_)
    · have hrg : 1 ≤ z ∧ z ≤ (St_p σ - 1) := hfl2.2.mp (by omega)
      have hxx := hH1.2.2.1.1
      refine lv_aload_n hx hb dX3_dial_39 rfl (lv_at hl 0 rfl) ?_
      refine z_get hC (k := 3) rfl in_X3 hxx (by decide) q1499 (fun _ h => h) rfl dX3_dial_40 ?_
      refine lv_iload_n hx hb dX3_dial_43 rfl (lv_at hl 1 rfl) ?_
      obtain ⟨mda, hLa⟩ := id hH1.2.2.1.2.1
      refine z_go5 0 0 (z_runF (n := 1) (As := [.int (iI ((k : Nat) : Int))]) (rest := []) (ci := 8) hC hml hl.1 (m_J2_get hE H4 (hO.ext (zS_F hS) hMo) (μ (1, 0, 0)) (St_na σ) (fun k => μ (6, k, 0)) (μ (2, 0, 0)) mda k hLa (by omega)) q375 q1588 q1591 q373 q65 q1590 q1589 q1593 q1592 q1528 ⟨by decide +kernel, by decide +kernel, by decide +kernel⟩ rfl rfl rfl (z_rv hC (ci := 8) rfl hLa.1 rfl) rfl (Nat.le_of_ble_eq_true rfl) ⟨Nat.le_of_ble_eq_true rfl, Nat.le_of_ble_eq_true rfl⟩ ⟨zfit (k := 0) (z := 17) rfl rfl (by omega), zfit (k := 0) (z := 272) rfl rfl (by omega)⟩ dX3_dial_44) ⟨zad (k := 0) rfl (by omega), zad (k := 0) rfl (by omega)⟩ hS (fun _ z => z.elim) (fun r H6 locs hp hF hS1 => ?_)
      obtain ⟨_, rfl, rfl⟩ := hp
      have hP := zpk hP hF
      have hP : va_P G.1 zCl ([]) H6 := hP
      have hD : va_D (zA (FM G μ σ) H0) ([]) := hD
      have hH1 : HM G s0 μ σ 0 H6 := hH1.ext0 hE hF
      have hS := hS1
      have hAk := hH1.al (k := k) (by omega)
      have hn16k := hH1.n (k := k) (by omega)
      have hdk := hal k (by omega)
      refine z_cast hC (ci := 5) rfl hAk.1 rfl q1539 dX3_dial_49 ?_
      refine z_get hC (k := 3) rfl in_X6 hAk.1 (by decide) q1555 (fun _ h => h) rfl dX3_dial_52 ?_
      refine lv_iconst (v := iI 4) hx hb dX3_dial_55 rfl ?_
      refine z_ceq (tgt := 67) hx hb dX3_dial_56 (by decide) (by omega) (fun c7 => ?_) (fun c7 => ?_)
      · refine lv_aload_n hx hb dX3_dial_67 rfl (lv_at hl 0 rfl) ?_
        refine lv_iconst (v := iI 3) hx hb dX3_dial_68 rfl ?_
        have hHb := hH1
        refine z_go 0 0 (z_runV (As := [.int (iI 3)]) (rest := []) hC hml hl.1 (m_X3_no hE H6 (hO.ext (zS_F hS) hMo) μ σ 0 3 hHb) (lw_V q1520 q1522 qs29 q67 q1523) rfl nd_X3_no rfl (z_rv hC (ci := 2) rfl hHb.2.2.1.1 rfl) rfl (Nat.le_of_ble_eq_true rfl) ⟨Nat.le_of_ble_eq_true rfl, Nat.le_of_ble_eq_true rfl⟩ ⟨zfit (k := 0) (z := 17) rfl rfl (by omega), zfit (k := 0) (z := 272) rfl rfl (by omega)⟩ dX3_dial_69) ⟨zad (k := 0) rfl (by omega), zad (k := 0) rfl (by omega)⟩ hS (fun z hz => Or.inl (hz ▸ FM.in hE hh.sep (domM0 0 (by omega)) (by simp [rAm]))) (fun r H8 locs hp hF hS1 => ?_)
        obtain ⟨_, rfl, rfl, hx9⟩ := hp
        have hP : va_P G.1 zCl [] H8 := va_nil
        have hD : va_D (zA (FM G μ σ) H0) [] := va_nilD
        have hP : va_P G.1 zCl ([]) H8 := hP
        have hD : va_D (zA (FM G μ σ) H0) ([]) := hD
        have hS := hS1
        have hH9 : HM G s0 μ σ ((3 : Nat) : Int) H8 := HM.thr hE hHb hF hx9
        exact z_iret hC hrt hlk hQ hS ⟨zle (z := 17) rfl (by omega), zle (z := 272) rfl (by omega)⟩ ⟨_, rfl, 3, σ, PoM.same hH9, Or.inr ⟨by decide, rfl, by decide, Or.inr (Or.inr ⟨rfl, ⟨by omega, by omega⟩, ⟨by omega, by omega⟩, fun z9 => by have z9 : St_d σ k < 4 ∧ ecV σ k (St_ne σ) = 0 := z9; omega⟩)⟩⟩ dX3_dial_72
      · refine lv_aload_n hx hb dX3_dial_59 rfl (lv_at hl 0 rfl) ?_
        refine lv_iload_n hx hb dX3_dial_60 rfl (lv_at hl 1 rfl) ?_
        refine z_go 0 0 (z_runV (As := [.int (iI ((k : Nat) : Int))]) (rest := []) hC hml hl.1 (m_X3_elementsOf hE H6 (hO.ext (zS_F hS) hMo) μ σ 0 k hH1 (by omega)) (lw_V q1594 q1596 qs31 q67 q1597) rfl nd_X3_elementsOf rfl (z_rv hC (ci := 2) rfl hH1.2.2.1.1 rfl) rfl (Nat.le_of_ble_eq_true rfl) ⟨Nat.le_of_ble_eq_true rfl, Nat.le_of_ble_eq_true rfl⟩ ⟨zfit (k := 0) (z := 17) rfl rfl (by omega), zfit (k := 0) (z := 272) rfl rfl (by omega)⟩ dX3_dial_61) ⟨zad (k := 0) rfl (by omega), zad (k := 0) rfl (by omega)⟩ hS (fun _ z => z.elim) (fun r H9 locs hp hF hS1 => ?_)
        obtain ⟨_, rfl, rfl⟩ := hp
        have hP := zpk hP hF
        have hP : va_P G.1 zCl ([]) H9 := hP
        have hD : va_D (zA (FM G μ σ) H0) ([]) := hD
        have hH1 : HM G s0 μ σ 0 H9 := hH1.ext0 hE hF
        have hS := hS1
        have hec9 := ecV_le σ k (St_ne σ)
        refine z_zle (tgt := 73) hx hb dX3_dial_64 (by decide) (by omega) (fun c10 => ?_) (fun c10 => ?_)
        · have hst9 : St_d σ k < 4 ∧ ecV σ k (St_ne σ) = 0 := by omega
          have hxx := hH1.2.2.1.1
          refine lv_aload_n hx hb dX3_dial_73 rfl (lv_at hl 0 rfl) ?_
          refine z_get hC (k := 3) rfl in_X3 hxx (by decide) q1499 (fun _ h => h) rfl dX3_dial_74 ?_
          refine lv_iload_n hx hb dX3_dial_77 rfl (lv_at hl 1 rfl) ?_
          obtain ⟨mda, hLa⟩ := id hH1.2.2.1.2.1
          refine z_go5 0 0 (z_runF (n := 1) (As := [.int (iI ((k : Nat) : Int))]) (rest := []) (ci := 8) hC hml hl.1 (m_J2_get hE H9 (hO.ext (zS_F hS) hMo) (μ (1, 0, 0)) (St_na σ) (fun k => μ (6, k, 0)) (μ (2, 0, 0)) mda k hLa (by omega)) q375 q1588 q1591 q373 q65 q1590 q1589 q1593 q1592 q1528 ⟨by decide +kernel, by decide +kernel, by decide +kernel⟩ rfl rfl rfl (z_rv hC (ci := 8) rfl hLa.1 rfl) rfl (Nat.le_of_ble_eq_true rfl) ⟨Nat.le_of_ble_eq_true rfl, Nat.le_of_ble_eq_true rfl⟩ ⟨zfit (k := 0) (z := 17) rfl rfl (by omega), zfit (k := 0) (z := 272) rfl rfl (by omega)⟩ dX3_dial_78) ⟨zad (k := 0) rfl (by omega), zad (k := 0) rfl (by omega)⟩ hS (fun _ z => z.elim) (fun r H11 locs hp hF hS1 => ?_)
          obtain ⟨_, rfl, rfl⟩ := hp
          have hP := zpk hP hF
          have hP : va_P G.1 zCl ([]) H11 := hP
          have hD : va_D (zA (FM G μ σ) H0) ([]) := hD
          have hH1 : HM G s0 μ σ 0 H11 := hH1.ext0 hE hF
          have hS := hS1
          have hAk := hH1.al (k := k) (by omega)
          have hn16k := hH1.n (k := k) (by omega)
          refine z_cast hC (ci := 5) rfl hAk.1 rfl q1539 dX3_dial_83 ?_
          refine lv_iload_n hx hb dX3_dial_86 rfl (lv_at hl 2 rfl) ?_
          have hHb := hH1
          have hHbs : H0.size ≤ H11.size := hS.1
          obtain ⟨mdb, hLb⟩ := id hH1.2.2.1.2.1
          have hx8 := hH1.2.2.1.1
          refine z_go 17 272 (z_runV (As := [.int (iI z)]) (rest := []) hC hml hl.1 (m_X6_dial hE H11 (hO.ext (zS_F hS) hMo) μ σ 0 k z hHb (by omega) hst9.1 ⟨by omega, by omega⟩) (lw_V q1599 q1600 q1601 q82 q1602) rfl nd_X6_dial rfl (z_rv hC (ci := 5) rfl hAk.1 rfl) rfl (Nat.le_of_ble_eq_true rfl) ⟨Nat.le_of_ble_eq_true rfl, Nat.le_of_ble_eq_true rfl⟩ ⟨zfit (k := 17) (z := 17) rfl rfl (by omega), zfit (k := 272) (z := 272) rfl rfl (by omega)⟩ dX3_dial_87) ⟨zad (k := 17) rfl (by omega), zad (k := 272) rfl (by omega)⟩ hS (fun y hy => Or.inl (hy.elim (fun w => w ▸ FM.in hE hh.sep (domMA 6 k (by omega) (by omega)) (by simp [rAm])) (fun w => w ▸ FM.in hE hh.sep (domMA 7 k (by omega) (by omega)) (by simp [rAm])))) (fun r H12 locs hp hF hS1 => ?_)
          obtain ⟨rfl, q9, F9, hgr, hq9, hP9, hD9⟩ := hp
          have hP : va_P G.1 zCl [] H12 := va_nil
          have hD : va_D (zA (FM G μ σ) H0) [] := va_nilD
          have hP : va_P G.1 zCl ([]) H12 := hP
          have hD : va_D (zA (FM G μ σ) H0) ([]) := hD
          have hS := hS1
          have hrow9 : ∀ i, i < 2 ^ (St_d σ k + 1) → zAt G (q9 + 1 + i) (zI G (2 ^ (St_d σ k + 1)) (sgT (St_p σ) (St_kd σ k) (St_d σ k + 1) (va_up (St_dv σ k) (St_d σ k) z) i)) H12 := fun i hi => zI_congr (hP9 (3 + i) _ (zR_at (L := 3) rfl hi)) (fun j hj => by rw [hgr i j hi hj, if_pos (Or.inl hi)]; rfl)
          have hHPo : PoM G s0 H0 μ σ (stDi σ k z) 0 H12 := HM.dial hE hO hh hHb hF (by omega) hst9.1 ⟨by omega, by omega⟩ (ecV_0 hst9.2) (Nat.le_trans hHbs hq9) (hP9 0 _ rfl) (hP9 1 _ rfl) (hP9 2 _ rfl) hrow9
          have hx9 := hx8.ext hF (fun z => z.elim (hh.sep.ne hE (domM0 0 (by omega)) (domMA 6 k (by omega) (by omega)) (fun y => by cases y) (by simp [rAm])) (hh.sep.ne hE (domM0 0 (by omega)) (domMA 7 k (by omega) (by omega)) (fun y => by cases y) (by simp [rAm])))
          have hL9 := hLb.ext hF (fun z => z.elim (hh.sep.ne hE (domM0 1 (by omega)) (domMA 6 k (by omega) (by omega)) (fun y => by cases y) (by simp [rAm])) (hh.sep.ne hE (domM0 1 (by omega)) (domMA 7 k (by omega) (by omega)) (fun y => by cases y) (by simp [rAm]))) (fun n12 z => z.elim (fun w => by have := hh.sep.one (domM0 2 (by omega)) (domMA 6 k (by omega) (by omega)) n12 w; cases this) (fun w => by have := hh.sep.one (domM0 2 (by omega)) (domMA 7 k (by omega) (by omega)) n12 w; cases this))
          have hg9 : zAt G (μ (6, k, 0)) (zOb 5 [.int (iI ((St_kd σ k : Nat) : Int)), .ref (μ (7, k, 0)), .ref q9, .int (iI ((St_d σ k + 1 : Nat) : Int)), .ref (μ (9, k, 0)), .ref (μ (0, 0, 0))]) H12 := hP9 0 _ rfl
          refine lv_aload_n hx hb dX3_dial_90 rfl (lv_at hl 0 rfl) ?_
          refine z_get hC (k := 3) rfl in_X3 hx9 (by decide) q1499 (fun _ h => h) rfl dX3_dial_91 ?_
          refine lv_iload_n hx hb dX3_dial_94 rfl (lv_at hl 1 rfl) ?_
          refine z_go5 17 272 (z_runF (n := 1) (As := [.int (iI ((k : Nat) : Int))]) (rest := []) (ci := 8) hC hml hl.1 (m_J2_get hE H12 (hO.ext (zS_F hS) hMo) (μ (1, 0, 0)) (St_na σ) (fun k => μ (6, k, 0)) (μ (2, 0, 0)) mdb k hL9 (by omega)) q375 q1588 q1591 q373 q65 q1590 q1589 q1593 q1592 q1528 ⟨by decide +kernel, by decide +kernel, by decide +kernel⟩ rfl rfl rfl (z_rv hC (ci := 8) rfl hL9.1 rfl) rfl (Nat.le_of_ble_eq_true rfl) ⟨Nat.le_of_ble_eq_true rfl, Nat.le_of_ble_eq_true rfl⟩ ⟨zfit (k := 0) (z := 17) rfl rfl (by omega), zfit (k := 0) (z := 272) rfl rfl (by omega)⟩ dX3_dial_95) ⟨zad (k := 0) rfl (by omega), zad (k := 0) rfl (by omega)⟩ hS (fun _ z => z.elim) (fun r H13 locs hp hF hS1 => ?_)
          obtain ⟨_, rfl, rfl⟩ := hp
          have hP := zpk hP hF
          have hP : va_P G.1 zCl ([]) H13 := hP
          have hD : va_D (zA (FM G μ σ) H0) ([]) := hD
          have hHPo : PoM G s0 H0 μ σ (stDi σ k z) 0 H13 := hHPo.ext0 hE hF
          have hg9 : zAt G (μ (6, k, 0)) (zOb 5 [.int (iI ((St_kd σ k : Nat) : Int)), .ref (μ (7, k, 0)), .ref q9, .int (iI ((St_d σ k + 1 : Nat) : Int)), .ref (μ (9, k, 0)), .ref (μ (0, 0, 0))]) H13 := hg9.ext0 hF
          have hS := hS1
          refine z_cast hC (ci := 5) rfl hg9 rfl q1539 dX3_dial_100 ?_
          refine z_go 17 272 (z_runV (As := []) (rest := []) hC hml hl.1 (m_X6_units hE H13 (hO.ext (zS_F hS) hMo) (μ (6, k, 0)) (μ (7, k, 0)) q9 (μ (9, k, 0)) (μ (0, 0, 0)) (St_kd σ k) (St_d σ k + 1) hg9 (by omega)) (lw_V q1627 q1604 q1605 q82 q1606) rfl nd_X6_units rfl (z_rv hC (ci := 5) rfl hg9 rfl) rfl (Nat.le_of_ble_eq_true rfl) ⟨Nat.le_of_ble_eq_true rfl, Nat.le_of_ble_eq_true rfl⟩ ⟨zfit (k := 0) (z := 17) rfl rfl (by omega), zfit (k := 0) (z := 272) rfl rfl (by omega)⟩ dX3_dial_103) ⟨zad (k := 0) rfl (by omega), zad (k := 0) rfl (by omega)⟩ hS (fun _ z => z.elim) (fun r H14 locs hp hF hS1 => ?_)
          obtain ⟨_, rfl, rfl⟩ := hp
          have hP := zpk hP hF
          have hP : va_P G.1 zCl ([]) H14 := hP
          have hD : va_D (zA (FM G μ σ) H0) ([]) := hD
          have hHPo : PoM G s0 H0 μ σ (stDi σ k z) 0 H14 := hHPo.ext0 hE hF
          have hg9 : zAt G (μ (6, k, 0)) (zOb 5 [.int (iI ((St_kd σ k : Nat) : Int)), .ref (μ (7, k, 0)), .ref q9, .int (iI ((St_d σ k + 1 : Nat) : Int)), .ref (μ (9, k, 0)), .ref (μ (0, 0, 0))]) H14 := hg9.ext0 hF
          have hS := hS1
          exact z_iret hC hrt hlk hQ hS ⟨zle (z := 17) rfl (by omega), zle (z := 272) rfl (by omega)⟩ ⟨_, rfl, 0, stDi σ k z, hHPo, Or.inl ⟨rfl, k, ⟨by omega, by omega⟩, ⟨by omega, by omega⟩, hst9, rfl, rfl⟩⟩ dX3_dial_106
        · refine lv_aload_n hx hb dX3_dial_67 rfl (lv_at hl 0 rfl) ?_
          refine lv_iconst (v := iI 3) hx hb dX3_dial_68 rfl ?_
          have hHb := hH1
          refine z_go 0 0 (z_runV (As := [.int (iI 3)]) (rest := []) hC hml hl.1 (m_X3_no hE H9 (hO.ext (zS_F hS) hMo) μ σ 0 3 hHb) (lw_V q1520 q1522 qs29 q67 q1523) rfl nd_X3_no rfl (z_rv hC (ci := 2) rfl hHb.2.2.1.1 rfl) rfl (Nat.le_of_ble_eq_true rfl) ⟨Nat.le_of_ble_eq_true rfl, Nat.le_of_ble_eq_true rfl⟩ ⟨zfit (k := 0) (z := 17) rfl rfl (by omega), zfit (k := 0) (z := 272) rfl rfl (by omega)⟩ dX3_dial_69) ⟨zad (k := 0) rfl (by omega), zad (k := 0) rfl (by omega)⟩ hS (fun z hz => Or.inl (hz ▸ FM.in hE hh.sep (domM0 0 (by omega)) (by simp [rAm]))) (fun r H15 locs hp hF hS1 => ?_)
          obtain ⟨_, rfl, rfl, hx9⟩ := hp
          have hP : va_P G.1 zCl [] H15 := va_nil
          have hD : va_D (zA (FM G μ σ) H0) [] := va_nilD
          have hP : va_P G.1 zCl ([]) H15 := hP
          have hD : va_D (zA (FM G μ σ) H0) ([]) := hD
          have hS := hS1
          have hH9 : HM G s0 μ σ ((3 : Nat) : Int) H15 := HM.thr hE hHb hF hx9
          exact z_iret hC hrt hlk hQ hS ⟨zle (z := 17) rfl (by omega), zle (z := 272) rfl (by omega)⟩ ⟨_, rfl, 3, σ, PoM.same hH9, Or.inr ⟨by decide, rfl, by decide, Or.inr (Or.inr ⟨rfl, ⟨by omega, by omega⟩, ⟨by omega, by omega⟩, fun z9 => by have z9 : St_d σ k < 4 ∧ ecV σ k (St_ne σ) = 0 := z9; omega⟩)⟩⟩ dX3_dial_72
    · refine lv_aload_n hx hb dX3_dial_33 rfl (lv_at hl 0 rfl) ?_
      refine lv_iconst (v := iI 2) hx hb dX3_dial_34 rfl ?_
      have hHb := hH1
      refine z_go 0 0 (z_runV (As := [.int (iI 2)]) (rest := []) hC hml hl.1 (m_X3_no hE H4 (hO.ext (zS_F hS) hMo) μ σ 0 2 hHb) (lw_V q1520 q1522 qs29 q67 q1523) rfl nd_X3_no rfl (z_rv hC (ci := 2) rfl hHb.2.2.1.1 rfl) rfl (Nat.le_of_ble_eq_true rfl) ⟨Nat.le_of_ble_eq_true rfl, Nat.le_of_ble_eq_true rfl⟩ ⟨zfit (k := 0) (z := 17) rfl rfl (by omega), zfit (k := 0) (z := 272) rfl rfl (by omega)⟩ dX3_dial_35) ⟨zad (k := 0) rfl (by omega), zad (k := 0) rfl (by omega)⟩ hS (fun z hz => Or.inl (hz ▸ FM.in hE hh.sep (domM0 0 (by omega)) (by simp [rAm]))) (fun r H16 locs hp hF hS1 => ?_)
      obtain ⟨_, rfl, rfl, hx9⟩ := hp
      have hP : va_P G.1 zCl [] H16 := va_nil
      have hD : va_D (zA (FM G μ σ) H0) [] := va_nilD
      have hP : va_P G.1 zCl ([]) H16 := hP
      have hD : va_D (zA (FM G μ σ) H0) ([]) := hD
      have hS := hS1
      have hH9 : HM G s0 μ σ ((2 : Nat) : Int) H16 := HM.thr hE hHb hF hx9
      exact z_iret hC hrt hlk hQ hS ⟨zle (z := 17) rfl (by omega), zle (z := 272) rfl (by omega)⟩ ⟨_, rfl, 2, σ, PoM.same hH9, Or.inr ⟨by decide, rfl, by decide, Or.inr (Or.inl ⟨rfl, ⟨by omega, by omega⟩, fun z9 => by have z9 : 0 < z ∧ z < St_p σ := z9; have h9 := hfl2.2.mpr ⟨by omega, by omega⟩; omega⟩)⟩⟩ dX3_dial_38
  · refine lv_aload_n hx hb dX3_dial_13 rfl (lv_at hl 0 rfl) ?_
    refine lv_iconst (v := iI 1) hx hb dX3_dial_14 rfl ?_
    have hHb := hH1
    refine z_go 0 0 (z_runV (As := [.int (iI 1)]) (rest := []) hC hml hl.1 (m_X3_no hE H2 (hO.ext (zS_F hS) hMo) μ σ 0 1 hHb) (lw_V q1520 q1522 qs29 q67 q1523) rfl nd_X3_no rfl (z_rv hC (ci := 2) rfl hHb.2.2.1.1 rfl) rfl (Nat.le_of_ble_eq_true rfl) ⟨Nat.le_of_ble_eq_true rfl, Nat.le_of_ble_eq_true rfl⟩ ⟨zfit (k := 0) (z := 17) rfl rfl (by omega), zfit (k := 0) (z := 272) rfl rfl (by omega)⟩ dX3_dial_15) ⟨zad (k := 0) rfl (by omega), zad (k := 0) rfl (by omega)⟩ hS (fun z hz => Or.inl (hz ▸ FM.in hE hh.sep (domM0 0 (by omega)) (by simp [rAm]))) (fun r H17 locs hp hF hS1 => ?_)
    obtain ⟨_, rfl, rfl, hx9⟩ := hp
    have hP : va_P G.1 zCl [] H17 := va_nil
    have hD : va_D (zA (FM G μ σ) H0) [] := va_nilD
    have hP : va_P G.1 zCl ([]) H17 := hP
    have hD : va_D (zA (FM G μ σ) H0) ([]) := hD
    have hS := hS1
    have hH9 : HM G s0 μ σ ((1 : Nat) : Int) H17 := HM.thr hE hHb hF hx9
    exact z_iret hC hrt hlk hQ hS ⟨zle (z := 17) rfl (by omega), zle (z := 272) rfl (by omega)⟩ ⟨_, rfl, 1, σ, PoM.same hH9, Or.inr ⟨by decide, rfl, by decide, Or.inl ⟨rfl, fun z9 => by have h9 := hfl2.2.mpr z9; omega⟩⟩⟩ dX3_dial_18

abbrev rm_m_X8_init : Room := { frames := 1, cells := 1, slots := 16, locals := 20 }
set_option maxHeartbeats 4000000 in
theorem m_X8_init {l : Launch} {s0 : State} {G : zG} (hE : zE l s0 G) (H0 : Heap) (hO : zO s0 H0) (q n k : Nat) (hq : s0.heap.size ≤ q) (h : zAt G q (zOb 7 [.int (iI 0), .null]) H0) (hn : n ≤ 16) : zM l s0 yX8_init cX8_init 3 (none : Option FieldType) rm_m_X8_init [.ref q, .int (iI ((k : Nat) : Int)), .int (iI ((n : Nat) : Int))] H0 (fun z => z = q) (rv (fun h1 => ∃ r1, zAt G q (zOb 7 [.int (iI (k : Int)), .ref r1]) h1 ∧ NW G H0 h1 [(r1, zI G n (fun _ => 0))])) := by
  refine z_met hE (by decide +kernel) (Nat.le_of_ble_eq_true rfl) ?_
  intro pp ee ss mm args below meth cd Q ls hC hml hrt hlk hnm hH hQ hS hl
  have hx := hC.x
  have hb := hC.b
  have hl : lv_has ls 3 [(0, .ref q), (1, .int (iI ((k : Nat) : Int))), (2, .int (iI ((n : Nat) : Int)))] := hl
  have hP : va_P G.1 zCl [(q, zOb 7 [.int (iI 0), .null])] H0 := zP1 h
  have hD : va_D (zA (fun z => z = q) H0) [(q, zOb 7 [.int (iI 0), .null])] := zD1 (Or.inl rfl)
  have hMo : ∀ z, (fun z => z = q) z → s0.heap.size ≤ z := fun z hz => hz ▸ hq
  refine lv_aload_n hx hb dX8_init_0 rfl (lv_at hl 0 rfl) ?_
  refine W.objInit hx hb hC.o (hC.t _ q1636) (hC.t _ q108) (hC.t _ q109) rfl (by rw [hml]; exact hl.1) rfl dX8_init_1 (Nat.le_of_ble_eq_true rfl) (Nat.le_of_ble_eq_true rfl) ?_
  refine W.eq (g2 := F0 mm 4 ls []) rfl ?_
  refine lv_aload_n hx hb dX8_init_4 rfl (lv_at hl 0 rfl) ?_
  refine lv_iload_n hx hb dX8_init_5 rfl (lv_at hl 1 rfl) ?_
  refine z_putF hC hnm hP hD hS 0 (k := 0) rfl rfl in_X8 tyX8_ok nmX8 (by decide) q1637 (fun _ h => h) rfl rfl rfl rfl rfl (Nat.le_of_ble_eq_true rfl) (ws' := [(q, zOb 7 [.int (iI ((k : Nat) : Int)), .null])]) rfl dX8_init_6 (fun H1 locs hP hD hS => ?_)
  refine lv_aload_n hx hb dX8_init_9 rfl (lv_at hl 0 rfl) ?_
  refine lv_iload_n hx hb dX8_init_10 rfl (lv_at hl 2 rfl) ?_
  refine z_newi hC hP hD hS (N := n) (c1 := 1) (s1 := 16) rfl (by omega) ⟨zle (z := 1) rfl (by omega), zle (z := 16) rfl (by omega)⟩ ⟨by omega, by omega⟩ (ws' := fun q2 => [(q, zOb 7 [.int (iI ((k : Nat) : Int)), .null]), (q2, zI G n (fun _ => 0))]) (fun _ => rfl) dX8_init_11 (fun q2 H3 hq0q2 hq1q2 hP hD hS hF => ?_)
  refine z_put hC hP hD hS 0 (k := 1) rfl rfl in_X8 tyX8_ok nmX8 (by decide) q1639 (fun _ h => h) rfl rfl rfl rfl (Nat.le_of_ble_eq_true rfl) (ws' := [(q, zOb 7 [.int (iI ((k : Nat) : Int)), .ref q2]), (q2, zI G n (fun _ => 0))]) rfl dX8_init_13 (fun H4 locs hP hD hS => ?_)
  exact z_vret hC hrt hlk hQ hS ⟨zle (z := 1) rfl (by omega), zle (z := 16) rfl (by omega)⟩ ⟨rfl, _, hP 0 _ rfl, zP1 (hP 1 _ rfl), zD1 hq0q2⟩ dX8_init_16

abbrev rm_m_X3_element : Room := { frames := 7, cells := 3, slots := 28, locals := 221 }
set_option maxHeartbeats 4000000 in
theorem m_X3_element {l : Launch} {s0 : State} {G : zG} (hE : zE l s0 G) (H0 : Heap) (hO : zO s0 H0) (μ : Ro → Nat) (σ : St) (th : Int) (i : Int) (hh : HM G s0 μ σ th H0) (hi : zi i) : zM l s0 yX3_element cX3_element 2 (some FieldType.int) rm_m_X3_element [.ref (μ (0, 0, 0)), .int (iI i)] H0 (FM G μ σ) (HPM G s0 H0 μ σ [IOB, ISE] ((fun y σ' => ∃ k : Nat, (i = k ∧ k < St_na σ) ∧ St_ne σ < 10 ∧ σ' = stNew σ k ∧ y = (St_ne σ : Nat))) ((XNew σ i))) := by
  refine z_met hE (by decide +kernel) (Nat.le_of_ble_eq_true rfl) ?_
  intro pp ee ss mm args below meth cd Q ls hC hml hrt hlk hnm hH hQ hS hl
  have hx := hC.x
  have hb := hC.b
  have hl : lv_has ls 2 [(0, .ref (μ (0, 0, 0))), (1, .int (iI i))] := hl
  have hP : va_P G.1 zCl [] H0 := va_nil
  have hD : va_D (zA (FM G μ σ) H0) [] := va_nilD
  have hMo : ∀ z, (FM G μ σ) z → s0.heap.size ≤ z := fun z hz => FM.ge hh.sep hz
  have hH1 := hh
  obtain ⟨hp, hna, hal, hne9, hel9, hmr9⟩ := id hh.ok
  have hp7 : 0 < St_p σ ∧ St_p σ ≤ 7 := by rcases hp with h | h | h <;> rw [h] <;> decide
  have hP : va_P G.1 zCl [((μ (0, 0, 0)), zOb 2 [.int (iI th), .int (iI (St_p σ)), .int (iI ((St_kn σ : Nat) : Int)), .ref (μ (1, 0, 0)), .ref (μ (3, 0, 0))])] H0 := zP1 hh.2.2.1.1
  have hD : va_D (zA (FM G μ σ) H0) [((μ (0, 0, 0)), zOb 2 [.int (iI th), .int (iI (St_p σ)), .int (iI ((St_kn σ : Nat) : Int)), .ref (μ (1, 0, 0)), .ref (μ (3, 0, 0))])] := zD1 (Or.inl (FM.in hE hh.sep (domM0 0 (by omega)) (by simp [rAm])))
  refine lv_aload_n hx hb dX3_element_0 rfl (lv_at hl 0 rfl) ?_
  refine lv_iconst (v := iI 0) hx hb dX3_element_1 rfl ?_
  refine z_putO hC hP hD hS 0 (k := 0) rfl rfl in_X3 tyX3_ok nmX3 (by decide) q1495 (fun _ h => h) rfl rfl rfl rfl (Nat.le_of_ble_eq_true rfl) (ws' := [((μ (0, 0, 0)), zOb 2 [.int (iI 0), .int (iI (St_p σ)), .int (iI ((St_kn σ : Nat) : Int)), .ref (μ (1, 0, 0)), .ref (μ (3, 0, 0))])]) rfl dX3_element_2 (fun H1 locs hP hD hS hZ1 hZ2 => ?_)
  have hH1 : HM G s0 μ σ 0 H1 := HM.thr hE hH1 (zF.one hZ1 hZ2) (hP 0 _ rfl)
  have hP : va_P G.1 zCl [] H1 := va_nil
  have hD : va_D (zA (FM G μ σ) H0) [] := va_nilD
  refine lv_aload_n hx hb dX3_element_5 rfl (lv_at hl 0 rfl) ?_
  refine lv_iload_n hx hb dX3_element_6 rfl (lv_at hl 1 rfl) ?_
  refine z_go 0 0 (z_runV (As := [.int (iI i)]) (rest := []) hC hml hl.1 (m_X3_isAlgebra hE H1 (hO.ext (zS_F hS) hMo) μ σ 0 i hH1 hi) (lw_V q1583 q1585 qs30 q67 q1586) rfl nd_X3_isAlgebra rfl (z_rv hC (ci := 2) rfl hH1.2.2.1.1 rfl) rfl (Nat.le_of_ble_eq_true rfl) ⟨Nat.le_of_ble_eq_true rfl, Nat.le_of_ble_eq_true rfl⟩ ⟨zfit (k := 0) (z := 3) rfl rfl (by omega), zfit (k := 0) (z := 28) rfl rfl (by omega)⟩ dX3_element_7) ⟨zad (k := 0) rfl (by omega), zad (k := 0) rfl (by omega)⟩ hS (fun _ z => z.elim) (fun r H2 locs hp hF hS1 => ?_)
  obtain ⟨_, rfl, rfl⟩ := hp
  have hP := zpk hP hF
  have hP : va_P G.1 zCl ([]) H2 := hP
  have hD : va_D (zA (FM G μ σ) H0) ([]) := hD
  have hH1 : HM G s0 μ σ 0 H2 := hH1.ext0 hE hF
  have hS := hS1
  obtain ⟨fl, hfl, hfl2⟩ : ∃ fl : Nat, fl ≤ 1 ∧ (if 0 ≤ i ∧ i < (((St_na σ) : Nat) : Int) then (1 : Int) else 0) = fl ∧ (fl = 1 ↔ 0 ≤ i ∧ i < (((St_na σ) : Nat) : Int)) := by by_cases h : 0 ≤ i ∧ i < (((St_na σ) : Nat) : Int); exact ⟨1, by decide, by rw [if_pos h]; rfl, ⟨fun _ => h, fun _ => rfl⟩⟩; exact ⟨0, by decide, by rw [if_neg h]; rfl, ⟨fun z => absurd z (by decide), fun z => absurd z h⟩⟩
  refine z_top (b := ((fl : Nat) : Int)) (hfl2.1) ?_
  refine z_zne (tgt := 19) hx hb dX3_element_10 (by decide) (by omega) (fun c3 => ?_) (fun c3 => ?_)
  · have hok9 := hfl2.2.mp (by omega)
    obtain ⟨k, rfl⟩ : ∃ k : Nat, i = k := ⟨i.toNat, by omega⟩
    have hk9 : k < St_na σ := by omega
    have hxx := hH1.2.2.1.1
    refine lv_aload_n hx hb dX3_element_19 rfl (lv_at hl 0 rfl) ?_
    refine z_get hC (k := 4) rfl in_X3 hxx (by decide) q1500 (fun _ h => h) rfl dX3_element_20 ?_
    obtain ⟨mde, hLe⟩ := id hH1.2.2.1.2.2
    refine z_go5 0 0 (z_runF (n := 0) (As := []) (rest := []) (ci := 8) hC hml hl.1 (m_J2_size hE H2 (hO.ext (zS_F hS) hMo) (μ (3, 0, 0)) (St_ne σ) (fun j => μ (13, j, 0)) (μ (4, 0, 0)) mde hLe) q232 q1525 q1529 q230 q65 q1527 q1526 q1531 q1530 q1528 ⟨by decide +kernel, by decide +kernel, by decide +kernel⟩ rfl rfl rfl (z_rv hC (ci := 8) rfl hLe.1 rfl) rfl (Nat.le_of_ble_eq_true rfl) ⟨Nat.le_of_ble_eq_true rfl, Nat.le_of_ble_eq_true rfl⟩ ⟨zfit (k := 0) (z := 3) rfl rfl (by omega), zfit (k := 0) (z := 28) rfl rfl (by omega)⟩ dX3_element_23) ⟨zad (k := 0) rfl (by omega), zad (k := 0) rfl (by omega)⟩ hS (fun _ z => z.elim) (fun r H4 locs hp hF hS1 => ?_)
    obtain ⟨_, rfl, rfl⟩ := hp
    have hP := zpk hP hF
    have hP : va_P G.1 zCl ([]) H4 := hP
    have hD : va_D (zA (FM G μ σ) H0) ([]) := hD
    have hH1 : HM G s0 μ σ 0 H4 := hH1.ext0 hE hF
    have hS := hS1
    refine lv_bipush (v := iI 10) hx hb dX3_element_28 (by decide) ?_
    refine z_cne (tgt := 39) hx hb dX3_element_30 (by decide) (by omega) (fun c5 => ?_) (fun c5 => ?_)
    · have hlt9 : St_ne σ < 10 := by omega
      have hxx := hH1.2.2.1.1
      refine lv_aload_n hx hb dX3_element_39 rfl (lv_at hl 0 rfl) ?_
      refine z_get hC (k := 4) rfl in_X3 hxx (by decide) q1500 (fun _ h => h) rfl dX3_element_40 ?_
      refine z_new hC hP hD hS (c1 := 1) (s1 := 2) (fs := [.int (iI 0), .null]) (ci := 7) rfl in_X8 tyX8_ok q1598 q1632 q93 df_X8 ⟨zle (z := 3) rfl (by omega), zle (z := 28) rfl (by omega)⟩ ⟨by omega, by omega⟩ (ws' := fun q6 => [(q6, zOb 7 [.int (iI 0), .null])]) (fun _ => rfl) dX3_element_43 (fun q6 H7 hq0q6 hq1q6 hP hD hS hF => ?_)
      have hH1 : HM G s0 μ σ 0 H7 := hH1.ext0 hE hF
      refine lv_dup hx hb dX3_element_46 rfl ?_
      refine lv_iload_n hx hb dX3_element_47 rfl (lv_at hl 1 rfl) ?_
      have hxx := hH1.2.2.1.1
      refine lv_aload_n hx hb dX3_element_48 rfl (lv_at hl 0 rfl) ?_
      refine z_get hC (k := 3) rfl in_X3 hxx (by decide) q1499 (fun _ h => h) rfl dX3_element_49 ?_
      refine lv_iload_n hx hb dX3_element_52 rfl (lv_at hl 1 rfl) ?_
      obtain ⟨mda, hLa⟩ := id hH1.2.2.1.2.1
      refine z_go5 1 2 (z_runF (n := 1) (As := [.int (iI ((k : Nat) : Int))]) (rest := [.int (iI ((k : Nat) : Int)), .ref q6, .ref q6, .ref (μ (3, 0, 0))]) (ci := 8) hC hml hl.1 (m_J2_get hE H7 (hO.ext (zS_F hS) hMo) (μ (1, 0, 0)) (St_na σ) (fun k => μ (6, k, 0)) (μ (2, 0, 0)) mda k hLa (by omega)) q375 q1588 q1591 q373 q65 q1590 q1589 q1593 q1592 q1528 ⟨by decide +kernel, by decide +kernel, by decide +kernel⟩ rfl rfl rfl (z_rv hC (ci := 8) rfl hLa.1 rfl) rfl (Nat.le_of_ble_eq_true rfl) ⟨Nat.le_of_ble_eq_true rfl, Nat.le_of_ble_eq_true rfl⟩ ⟨zfit (k := 0) (z := 3) rfl rfl (by omega), zfit (k := 0) (z := 28) rfl rfl (by omega)⟩ dX3_element_53) ⟨zad (k := 0) rfl (by omega), zad (k := 0) rfl (by omega)⟩ hS (fun _ z => z.elim) (fun r H8 locs hp hF hS1 => ?_)
      obtain ⟨_, rfl, rfl⟩ := hp
      have hP := zpk hP hF
      have hP : va_P G.1 zCl ([(q6, zOb 7 [.int (iI 0), .null])]) H8 := hP
      have hD : va_D (zA (FM G μ σ) H0) ([(q6, zOb 7 [.int (iI 0), .null])]) := hD
      have hH1 : HM G s0 μ σ 0 H8 := hH1.ext0 hE hF
      have hS := hS1
      have hAk := hH1.al (k := k) (by omega)
      have hn16k := hH1.n (k := k) (by omega)
      refine z_cast hC (ci := 5) rfl hAk.1 rfl q1539 dX3_element_58 ?_
      have hUk := hH1.al (k := k) (by omega)
      refine z_go 1 2 (z_runV (As := []) (rest := [.int (iI ((k : Nat) : Int)), .ref q6, .ref q6, .ref (μ (3, 0, 0))]) hC hml hl.1 (m_X6_units hE H8 (hO.ext (zS_F hS) hMo) (μ (6, k, 0)) (μ (7, k, 0)) (μ (11, k, 0)) (μ (9, k, 0)) (μ (0, 0, 0)) (St_kd σ k) (St_d σ k) hUk.1 (hal k (by omega)).2.1) (lw_V q1627 q1604 q1605 q82 q1606) rfl nd_X6_units rfl (z_rv hC (ci := 5) rfl hUk.1 rfl) rfl (Nat.le_of_ble_eq_true rfl) ⟨Nat.le_of_ble_eq_true rfl, Nat.le_of_ble_eq_true rfl⟩ ⟨zfit (k := 0) (z := 3) rfl rfl (by omega), zfit (k := 0) (z := 28) rfl rfl (by omega)⟩ dX3_element_61) ⟨zad (k := 0) rfl (by omega), zad (k := 0) rfl (by omega)⟩ hS (fun _ z => z.elim) (fun r H9 locs hp hF hS1 => ?_)
      obtain ⟨_, rfl, rfl⟩ := hp
      have hP := zpk hP hF
      have hP : va_P G.1 zCl ([(q6, zOb 7 [.int (iI 0), .null])]) H9 := hP
      have hD : va_D (zA (FM G μ σ) H0) ([(q6, zOb 7 [.int (iI 0), .null])]) := hD
      have hH1 : HM G s0 μ σ 0 H9 := hH1.ext0 hE hF
      have hS := hS1
      have hqn : H0.size ≤ q6 := hq0q6
      have hszb : H0.size ≤ H9.size := hS.1
      refine z_go 2 18 (z_runI (As := [.int (iI ((k : Nat) : Int)), .int (iI ((St_n σ k : Nat) : Int))]) (rest := [.ref q6, .ref (μ (3, 0, 0))]) hC hml hl.1 (m_X8_init hE H9 (hO.ext (zS_F hS) hMo) q6 (St_n σ k) k (Nat.le_trans hO.1 hqn) (hP 0 _ rfl) (by omega)) q1635 q93 q1633 q1634 rfl nd_X8_init rfl rfl (Nat.le_of_ble_eq_true rfl) ⟨Nat.le_of_ble_eq_true rfl, Nat.le_of_ble_eq_true rfl⟩ ⟨zfit (k := 1) (z := 3) rfl rfl (by omega), zfit (k := 16) (z := 28) rfl rfl (by omega)⟩ dX3_element_64) ⟨zad (k := 1) rfl (by omega), zad (k := 16) rfl (by omega)⟩ hS (fun q z => by subst z; exact hD.2 0 _ rfl) (fun r H10 locs hp hF hS1 => ?_)
      obtain ⟨rfl, rn9, hm, hN⟩ := hp
      obtain ⟨hP, hD⟩ := zjmn hP hD hS.1 hF 0 rfl hm hN
      have hP : va_P G.1 zCl ([(q6, zOb 7 [.int (iI ((k : Nat) : Int)), .ref rn9]), (rn9, zI G (St_n σ k) (fun _ => 0))]) H10 := hP
      have hD : va_D (zA (FM G μ σ) H0) ([(q6, zOb 7 [.int (iI ((k : Nat) : Int)), .ref rn9]), (rn9, zI G (St_n σ k) (fun _ => 0))]) := hD
      have hH1 : HM G s0 μ σ 0 H10 := hH1.ext hE hF (fun a9 ha9 _ z => by have := hh.lt hE hO a9 ha9; omega)
      have hS := hS1
      have hrn9 : H0.size ≤ rn9 := Nat.le_trans hszb (hN.2.2 0 _ rfl)
      have hqr9 : q6 ≠ rn9 := z_noArr hE (ci := 7) (t := 0) rfl (hP 0 _ rfl) rfl (hP 1 _ rfl)
      have hDn : va_D (fun z => H0.size ≤ z) [(q6, zOb 7 [.int (iI ((k : Nat) : Int)), .ref rn9]), (rn9, zI G (St_n σ k) (fun _ => 0))] := zD2 hqn hrn9 hqr9
      obtain ⟨mdl, hLb⟩ := id hH1.2.2.1.2.2
      have hHb := hH1
      have hPb := hP
      have hl19 := hh.lt hE hO _ (domM0 3 (by omega))
      have hl29 := hh.lt hE hO _ (domM0 4 (by omega))
      have hxn9 : H0.size ≤ q6 := hDn.2 0 _ rfl
      have hxne : q6 ≠ (μ (3, 0, 0)) := by omega
      have hHbs : H0.size ≤ H10.size := hS.1
      have hsep9 : (μ (4, 0, 0)) ≠ G.2 12 → s0.heap.size ≤ (μ (4, 0, 0)) ∧ (μ (3, 0, 0)) ≠ (μ (4, 0, 0)) := fun w => ⟨(hh.sep.1 _ (domM0 4 (by omega))).resolve_right (fun y => w y.1), hh.sep.ne hE (domM0 3 (by omega)) (domM0 4 (by omega)) (fun y => by cases y) (by simp [rAm])⟩
      have hx8 := hH1.2.2.1.1
      refine z_go5 3 28 (z_runF (n := 1) (As := [.ref q6]) (rest := []) (ci := 8) hC hml hl.1 (m_J2_add hE H10 (hO.ext (zS_F hS) hMo) (μ (3, 0, 0)) (St_ne σ) (fun j => μ (13, j, 0)) (μ (4, 0, 0)) mdl q6 (hh.sep.ge (domM0 3 (by omega)) (by simp [rAm])) hsep9 (by omega) hLb (zAny.of hE (ci := 7) rfl (hPb 0 _ rfl) q1980) hxne) q980 q1573 q1576 q978 q65 q1575 q1574 q1578 q1577 q1528 ⟨by decide +kernel, by decide +kernel, by decide +kernel⟩ rfl rfl rfl (z_rv hC (ci := 8) rfl hLb.1 rfl) rfl (Nat.le_of_ble_eq_true rfl) ⟨Nat.le_of_ble_eq_true rfl, Nat.le_of_ble_eq_true rfl⟩ ⟨zfit (k := 1) (z := 3) rfl rfl (by omega), zfit (k := 10) (z := 28) rfl rfl (by omega)⟩ dX3_element_67) ⟨zad (k := 1) rfl (by omega), zad (k := 10) rfl (by omega)⟩ hS (fun z hz => Or.inl (hz.elim (fun w => w ▸ FM.in hE hh.sep (domM0 3 (by omega)) (by simp [rAm])) (fun w => ⟨by rw [w.1]; exact w.2, (4, 0, 0), domM0 4 (by omega), w.1.symm⟩))) (fun r H11 locs hp hF hS1 => ?_)
      obtain ⟨_, rfl, rfl, arr1, hL1, hor⟩ := hp
      have hP : va_P G.1 zCl [(q6, zOb 7 [.int (iI ((k : Nat) : Int)), .ref rn9]), (rn9, zI G (St_n σ k) (fun _ => 0))] H11 := zkeep hPb hDn hF (fun z hz => by rcases hz with hz | hz <;> omega)
      have hx9 := hx8.ext hF (fun z => z.elim (fun w => by have := hh.sep.ne hE (domM0 0 (by omega)) (domM0 3 (by omega)) (fun y => by cases y) (by simp [rAm]); exact this w) (fun w => by have := hh.sep.ne hE (domM0 0 (by omega)) (domM0 4 (by omega)) (fun y => by cases y) (by simp [rAm]); exact this w.1))
      have hP : va_P G.1 zCl ([(q6, zOb 7 [.int (iI ((k : Nat) : Int)), .ref rn9]), (rn9, zI G (St_n σ k) (fun _ => 0))]) H11 := hP
      have hD : va_D (zA (FM G μ σ) H0) ([(q6, zOb 7 [.int (iI ((k : Nat) : Int)), .ref rn9]), (rn9, zI G (St_n σ k) (fun _ => 0))]) := hD
      have hS := hS1
      have hHPo : PoM G s0 H0 μ σ (stNew σ k) 0 H11 := HM.newel hE hO hh hHb hF (by omega) hlt9 hqn hrn9 (hor.imp id (fun z => Nat.le_trans hHbs z)) hL1 (hP 0 _ rfl) (hP 1 _ rfl)
      refine lv_pop hx hb dX3_element_72 rfl ?_
      refine lv_aload_n hx hb dX3_element_73 rfl (lv_at hl 0 rfl) ?_
      refine z_get hC (k := 4) rfl in_X3 hx9 (by decide) q1500 (fun _ h => h) rfl dX3_element_74 ?_
      refine z_go5 3 28 (z_runF (n := 0) (As := []) (rest := []) (ci := 8) hC hml hl.1 (m_J2_size hE H11 (hO.ext (zS_F hS) hMo) (μ (3, 0, 0)) (St_ne σ + 1) _ arr1 _ hL1) q232 q1525 q1529 q230 q65 q1527 q1526 q1531 q1530 q1528 ⟨by decide +kernel, by decide +kernel, by decide +kernel⟩ rfl rfl rfl (z_rv hC (ci := 8) rfl hL1.1 rfl) rfl (Nat.le_of_ble_eq_true rfl) ⟨Nat.le_of_ble_eq_true rfl, Nat.le_of_ble_eq_true rfl⟩ ⟨zfit (k := 0) (z := 3) rfl rfl (by omega), zfit (k := 0) (z := 28) rfl rfl (by omega)⟩ dX3_element_77) ⟨zad (k := 0) rfl (by omega), zad (k := 0) rfl (by omega)⟩ hS (fun _ z => z.elim) (fun r H12 locs hp hF hS1 => ?_)
      obtain ⟨_, rfl, rfl⟩ := hp
      have hP := zpk hP hF
      have hP : va_P G.1 zCl ([(q6, zOb 7 [.int (iI ((k : Nat) : Int)), .ref rn9]), (rn9, zI G (St_n σ k) (fun _ => 0))]) H12 := hP
      have hD : va_D (zA (FM G μ σ) H0) ([(q6, zOb 7 [.int (iI ((k : Nat) : Int)), .ref rn9]), (rn9, zI G (St_n σ k) (fun _ => 0))]) := hD
      have hHPo : PoM G s0 H0 μ σ (stNew σ k) 0 H12 := hHPo.ext0 hE hF
      have hS := hS1
      refine lv_iconst (v := iI 1) hx hb dX3_element_82 rfl ?_
      refine z_sub hx hb (z := ((St_ne σ + 1 : Nat) : Int) - 1) dX3_element_83 rfl ?_
      refine z_top (b := ((St_ne σ : Nat) : Int)) (by omega) ?_
      exact z_iret hC hrt hlk hQ hS ⟨zle (z := 3) rfl (by omega), zle (z := 28) rfl (by omega)⟩ ⟨_, rfl, 0, stNew σ k, hHPo, Or.inl ⟨rfl, k, ⟨by omega, by omega⟩, hlt9, rfl, rfl⟩⟩ dX3_element_84
    · refine lv_aload_n hx hb dX3_element_33 rfl (lv_at hl 0 rfl) ?_
      refine lv_iconst (v := iI 2) hx hb dX3_element_34 rfl ?_
      have hHb := hH1
      refine z_go 0 0 (z_runV (As := [.int (iI 2)]) (rest := []) hC hml hl.1 (m_X3_no hE H4 (hO.ext (zS_F hS) hMo) μ σ 0 2 hHb) (lw_V q1520 q1522 qs29 q67 q1523) rfl nd_X3_no rfl (z_rv hC (ci := 2) rfl hHb.2.2.1.1 rfl) rfl (Nat.le_of_ble_eq_true rfl) ⟨Nat.le_of_ble_eq_true rfl, Nat.le_of_ble_eq_true rfl⟩ ⟨zfit (k := 0) (z := 3) rfl rfl (by omega), zfit (k := 0) (z := 28) rfl rfl (by omega)⟩ dX3_element_35) ⟨zad (k := 0) rfl (by omega), zad (k := 0) rfl (by omega)⟩ hS (fun z hz => Or.inl (hz ▸ FM.in hE hh.sep (domM0 0 (by omega)) (by simp [rAm]))) (fun r H13 locs hp hF hS1 => ?_)
      obtain ⟨_, rfl, rfl, hx9⟩ := hp
      have hP : va_P G.1 zCl [] H13 := va_nil
      have hD : va_D (zA (FM G μ σ) H0) [] := va_nilD
      have hP : va_P G.1 zCl ([]) H13 := hP
      have hD : va_D (zA (FM G μ σ) H0) ([]) := hD
      have hS := hS1
      have hH9 : HM G s0 μ σ ((2 : Nat) : Int) H13 := HM.thr hE hHb hF hx9
      exact z_iret hC hrt hlk hQ hS ⟨zle (z := 3) rfl (by omega), zle (z := 28) rfl (by omega)⟩ ⟨_, rfl, 2, σ, PoM.same hH9, Or.inr ⟨by decide, rfl, by decide, Or.inr ⟨rfl, ⟨by omega, by omega⟩, by omega⟩⟩⟩ dX3_element_38
  · refine lv_aload_n hx hb dX3_element_13 rfl (lv_at hl 0 rfl) ?_
    refine lv_iconst (v := iI 1) hx hb dX3_element_14 rfl ?_
    have hHb := hH1
    refine z_go 0 0 (z_runV (As := [.int (iI 1)]) (rest := []) hC hml hl.1 (m_X3_no hE H2 (hO.ext (zS_F hS) hMo) μ σ 0 1 hHb) (lw_V q1520 q1522 qs29 q67 q1523) rfl nd_X3_no rfl (z_rv hC (ci := 2) rfl hHb.2.2.1.1 rfl) rfl (Nat.le_of_ble_eq_true rfl) ⟨Nat.le_of_ble_eq_true rfl, Nat.le_of_ble_eq_true rfl⟩ ⟨zfit (k := 0) (z := 3) rfl rfl (by omega), zfit (k := 0) (z := 28) rfl rfl (by omega)⟩ dX3_element_15) ⟨zad (k := 0) rfl (by omega), zad (k := 0) rfl (by omega)⟩ hS (fun z hz => Or.inl (hz ▸ FM.in hE hh.sep (domM0 0 (by omega)) (by simp [rAm]))) (fun r H14 locs hp hF hS1 => ?_)
    obtain ⟨_, rfl, rfl, hx9⟩ := hp
    have hP : va_P G.1 zCl [] H14 := va_nil
    have hD : va_D (zA (FM G μ σ) H0) [] := va_nilD
    have hP : va_P G.1 zCl ([]) H14 := hP
    have hD : va_D (zA (FM G μ σ) H0) ([]) := hD
    have hS := hS1
    have hH9 : HM G s0 μ σ ((1 : Nat) : Int) H14 := HM.thr hE hHb hF hx9
    exact z_iret hC hrt hlk hQ hS ⟨zle (z := 3) rfl (by omega), zle (z := 28) rfl (by omega)⟩ ⟨_, rfl, 1, σ, PoM.same hH9, Or.inr ⟨by decide, rfl, by decide, Or.inl ⟨rfl, fun z9 => by have h9 := hfl2.2.mpr z9; omega⟩⟩⟩ dX3_element_18

abbrev rm_m_X3_set : Room := { frames := 4, cells := 0, slots := 0, locals := 85 }
set_option maxHeartbeats 4000000 in
theorem m_X3_set {l : Launch} {s0 : State} {G : zG} (hE : zE l s0 G) (H0 : Heap) (hO : zO s0 H0) (μ : Ro → Nat) (σ : St) (th : Int) (i u z : Int) (hh : HM G s0 μ σ th H0) (hi : zi i ∧ zi u ∧ zi z) : zM l s0 yX3_set cX3_set 5 (some FieldType.int) rm_m_X3_set [.ref (μ (0, 0, 0)), .int (iI i), .int (iI u), .int (iI z)] H0 (FM G μ σ) (HPM G s0 H0 μ σ [IOB, IAE] ((fun y σ' => ∃ a c : Nat, (i = a ∧ a < St_ne σ) ∧ (u = c ∧ c < St_n σ (St_ea σ a)) ∧ (0 ≤ z ∧ z < St_p σ) ∧ σ' = stEl σ a (va_up (St_ev σ a) c z) ∧ y = St_ev σ a c)) ((XSet σ i u z))) := by
  refine z_met hE (by decide +kernel) (Nat.le_of_ble_eq_true rfl) ?_
  intro pp ee ss mm args below meth cd Q ls hC hml hrt hlk hnm hH hQ hS hl
  have hx := hC.x
  have hb := hC.b
  have hl : lv_has ls 5 [(0, .ref (μ (0, 0, 0))), (1, .int (iI i)), (2, .int (iI u)), (3, .int (iI z))] := hl
  have hP : va_P G.1 zCl [] H0 := va_nil
  have hD : va_D (zA (FM G μ σ) H0) [] := va_nilD
  have hMo : ∀ z, (FM G μ σ) z → s0.heap.size ≤ z := fun z hz => FM.ge hh.sep hz
  have hH1 := hh
  obtain ⟨hp, hna, hal, hne9, hel9, hmr9⟩ := id hh.ok
  have hp7 : 0 < St_p σ ∧ St_p σ ≤ 7 := by rcases hp with h | h | h <;> rw [h] <;> decide
  have hP : va_P G.1 zCl [((μ (0, 0, 0)), zOb 2 [.int (iI th), .int (iI (St_p σ)), .int (iI ((St_kn σ : Nat) : Int)), .ref (μ (1, 0, 0)), .ref (μ (3, 0, 0))])] H0 := zP1 hh.2.2.1.1
  have hD : va_D (zA (FM G μ σ) H0) [((μ (0, 0, 0)), zOb 2 [.int (iI th), .int (iI (St_p σ)), .int (iI ((St_kn σ : Nat) : Int)), .ref (μ (1, 0, 0)), .ref (μ (3, 0, 0))])] := zD1 (Or.inl (FM.in hE hh.sep (domM0 0 (by omega)) (by simp [rAm])))
  refine lv_aload_n hx hb dX3_set_0 rfl (lv_at hl 0 rfl) ?_
  refine lv_iconst (v := iI 0) hx hb dX3_set_1 rfl ?_
  refine z_putO hC hP hD hS 0 (k := 0) rfl rfl in_X3 tyX3_ok nmX3 (by decide) q1495 (fun _ h => h) rfl rfl rfl rfl (Nat.le_of_ble_eq_true rfl) (ws' := [((μ (0, 0, 0)), zOb 2 [.int (iI 0), .int (iI (St_p σ)), .int (iI ((St_kn σ : Nat) : Int)), .ref (μ (1, 0, 0)), .ref (μ (3, 0, 0))])]) rfl dX3_set_2 (fun H1 locs hP hD hS hZ1 hZ2 => ?_)
  have hH1 : HM G s0 μ σ 0 H1 := HM.thr hE hH1 (zF.one hZ1 hZ2) (hP 0 _ rfl)
  have hP : va_P G.1 zCl [] H1 := va_nil
  have hD : va_D (zA (FM G μ σ) H0) [] := va_nilD
  refine lv_aload_n hx hb dX3_set_5 rfl (lv_at hl 0 rfl) ?_
  refine lv_iload_n hx hb dX3_set_6 rfl (lv_at hl 1 rfl) ?_
  refine z_go 0 0 (z_runV (As := [.int (iI i)]) (rest := []) hC hml hl.1 (m_X3_isElement hE H1 (hO.ext (zS_F hS) hMo) μ σ 0 i hH1 hi.1) (lw_V q1650 q1652 qs35 q67 q1653) rfl nd_X3_isElement rfl (z_rv hC (ci := 2) rfl hH1.2.2.1.1 rfl) rfl (Nat.le_of_ble_eq_true rfl) ⟨Nat.le_of_ble_eq_true rfl, Nat.le_of_ble_eq_true rfl⟩ ⟨zfit (k := 0) (z := 0) rfl rfl (by omega), zfit (k := 0) (z := 0) rfl rfl (by omega)⟩ dX3_set_7) ⟨zad (k := 0) rfl (by omega), zad (k := 0) rfl (by omega)⟩ hS (fun _ z => z.elim) (fun r H2 locs hp hF hS1 => ?_)
  obtain ⟨_, rfl, rfl⟩ := hp
  have hP := zpk hP hF
  have hP : va_P G.1 zCl ([]) H2 := hP
  have hD : va_D (zA (FM G μ σ) H0) ([]) := hD
  have hH1 : HM G s0 μ σ 0 H2 := hH1.ext0 hE hF
  have hS := hS1
  obtain ⟨fl, hfl, hfl2⟩ : ∃ fl : Nat, fl ≤ 1 ∧ (if 0 ≤ i ∧ i < (((St_ne σ) : Nat) : Int) then (1 : Int) else 0) = fl ∧ (fl = 1 ↔ 0 ≤ i ∧ i < (((St_ne σ) : Nat) : Int)) := by by_cases h : 0 ≤ i ∧ i < (((St_ne σ) : Nat) : Int); exact ⟨1, by decide, by rw [if_pos h]; rfl, ⟨fun _ => h, fun _ => rfl⟩⟩; exact ⟨0, by decide, by rw [if_neg h]; rfl, ⟨fun z => absurd z (by decide), fun z => absurd z h⟩⟩
  refine z_top (b := ((fl : Nat) : Int)) (hfl2.1) ?_
  refine z_zeq (tgt := 29) hx hb dX3_set_10 (by decide) (by omega) (fun c3 => ?_) (fun c3 => ?_)
  · refine lv_aload_n hx hb dX3_set_29 rfl (lv_at hl 0 rfl) ?_
    refine lv_iconst (v := iI 1) hx hb dX3_set_30 rfl ?_
    have hHb := hH1
    refine z_go 0 0 (z_runV (As := [.int (iI 1)]) (rest := []) hC hml hl.1 (m_X3_no hE H2 (hO.ext (zS_F hS) hMo) μ σ 0 1 hHb) (lw_V q1520 q1522 qs29 q67 q1523) rfl nd_X3_no rfl (z_rv hC (ci := 2) rfl hHb.2.2.1.1 rfl) rfl (Nat.le_of_ble_eq_true rfl) ⟨Nat.le_of_ble_eq_true rfl, Nat.le_of_ble_eq_true rfl⟩ ⟨zfit (k := 0) (z := 0) rfl rfl (by omega), zfit (k := 0) (z := 0) rfl rfl (by omega)⟩ dX3_set_31) ⟨zad (k := 0) rfl (by omega), zad (k := 0) rfl (by omega)⟩ hS (fun z hz => Or.inl (hz ▸ FM.in hE hh.sep (domM0 0 (by omega)) (by simp [rAm]))) (fun r H4 locs hp hF hS1 => ?_)
    obtain ⟨_, rfl, rfl, hx9⟩ := hp
    have hP : va_P G.1 zCl [] H4 := va_nil
    have hD : va_D (zA (FM G μ σ) H0) [] := va_nilD
    have hP : va_P G.1 zCl ([]) H4 := hP
    have hD : va_D (zA (FM G μ σ) H0) ([]) := hD
    have hS := hS1
    have hH9 : HM G s0 μ σ ((1 : Nat) : Int) H4 := HM.thr hE hHb hF hx9
    exact z_iret hC hrt hlk hQ hS ⟨zle (z := 0) rfl (by omega), zle (z := 0) rfl (by omega)⟩ ⟨_, rfl, 1, σ, PoM.same hH9, Or.inr ⟨by decide, rfl, by decide, Or.inl ⟨rfl, fun z9 => by have h9 := hfl2.2.mpr z9; omega⟩⟩⟩ dX3_set_34
  · have hok9 := hfl2.2.mp (by omega)
    obtain ⟨a, rfl⟩ : ∃ a : Nat, i = a := ⟨i.toNat, by omega⟩
    have ha9 : a < St_ne σ := by omega
    have hRa := (hH1.el (j := a) (by omega)).2
    have hVa := hH1.row (j := a) (by omega)
    refine lv_iload_n hx hb dX3_set_13 rfl (lv_at hl 2 rfl) ?_
    refine lv_iconst (v := iI 0) hx hb dX3_set_14 rfl ?_
    refine lv_aload_n hx hb dX3_set_15 rfl (lv_at hl 0 rfl) ?_
    refine lv_iload_n hx hb dX3_set_16 rfl (lv_at hl 1 rfl) ?_
    refine z_go 0 0 (z_runV (As := [.int (iI ((a : Nat) : Int))]) (rest := [.int (iI 0), .int (iI u)]) hC hml hl.1 (m_X3_row hE H2 (hO.ext (zS_F hS) hMo) μ σ 0 a hH1 (by omega)) (lw_V q1654 q1656 qs36 q67 q1657) rfl nd_X3_row rfl (z_rv hC (ci := 2) rfl hH1.2.2.1.1 rfl) rfl (Nat.le_of_ble_eq_true rfl) ⟨Nat.le_of_ble_eq_true rfl, Nat.le_of_ble_eq_true rfl⟩ ⟨zfit (k := 0) (z := 0) rfl rfl (by omega), zfit (k := 0) (z := 0) rfl rfl (by omega)⟩ dX3_set_17) ⟨zad (k := 0) rfl (by omega), zad (k := 0) rfl (by omega)⟩ hS (fun _ z => z.elim) (fun r H5 locs hp hF hS1 => ?_)
    obtain ⟨_, rfl, rfl⟩ := hp
    have hP := zpk hP hF
    have hP : va_P G.1 zCl ([]) H5 := hP
    have hD : va_D (zA (FM G μ σ) H0) ([]) := hD
    have hH1 : HM G s0 μ σ 0 H5 := hH1.ext0 hE hF
    have hS := hS1
    have hRa := (hH1.el (j := a) (by omega)).2
    have hVa := hH1.row (j := a) (by omega)
    have hnn := hH1.n (hH1.ea (j := a) (by omega))
    refine z_alen hC 0 hRa rfl (y := ((St_n σ (St_ea σ a) : Nat) : Int)) rfl dX3_set_20 ?_
    refine lv_iconst (v := iI 1) hx hb dX3_set_21 rfl ?_
    refine z_sub hx hb (z := ((St_n σ (St_ea σ a) : Nat) : Int) - 1) dX3_set_22 rfl ?_
    refine z_go 0 0 (z_runS (As := [.int (iI u), .int (iI 0), .int (iI (((St_n σ (St_ea σ a) : Nat) : Int) - 1))]) (rest := []) hC hml hl.1 (m_X3_in hE H5 (hO.ext (zS_F hS) hMo) (0) ((((St_n σ (St_ea σ a) : Nat) : Int) - 1)) (u) ⟨by omega, by omega, by omega⟩) (lw_S q1536 q1537 q67 q1538) nd_X3_in rfl rfl (Nat.le_of_ble_eq_true rfl) ⟨Nat.le_of_ble_eq_true rfl, Nat.le_of_ble_eq_true rfl⟩ ⟨zfit (k := 0) (z := 0) rfl rfl (by omega), zfit (k := 0) (z := 0) rfl rfl (by omega)⟩ dX3_set_23) ⟨zad (k := 0) rfl (by omega), zad (k := 0) rfl (by omega)⟩ hS (fun _ z => z.elim) (fun r H6 locs hp hF hS1 => ?_)
    obtain ⟨_, rfl, rfl⟩ := hp
    have hP := zpk hP hF
    have hP : va_P G.1 zCl ([]) H6 := hP
    have hD : va_D (zA (FM G μ σ) H0) ([]) := hD
    have hH1 : HM G s0 μ σ 0 H6 := hH1.ext0 hE hF
    have hS := hS1
    obtain ⟨fl, hfl, hfl2⟩ : ∃ fl : Nat, fl ≤ 1 ∧ (if 0 ≤ u ∧ u ≤ (((St_n σ (St_ea σ a) : Nat) : Int) - 1) then (1 : Int) else 0) = fl ∧ (fl = 1 ↔ 0 ≤ u ∧ u ≤ (((St_n σ (St_ea σ a) : Nat) : Int) - 1)) := by by_cases h : 0 ≤ u ∧ u ≤ (((St_n σ (St_ea σ a) : Nat) : Int) - 1); exact ⟨1, by decide, by rw [if_pos h]; rfl, ⟨fun _ => h, fun _ => rfl⟩⟩; exact ⟨0, by decide, by rw [if_neg h]; rfl, ⟨fun z => absurd z (by decide), fun z => absurd z h⟩⟩
    refine z_top (b := ((fl : Nat) : Int)) (hfl2.1) ?_
    refine z_zne (tgt := 35) hx hb dX3_set_26 (by decide) (by omega) (fun c7 => ?_) (fun c7 => ?_)
    · have hrg : 0 ≤ u ∧ u ≤ (((St_n σ (St_ea σ a) : Nat) : Int) - 1) := hfl2.2.mp (by omega)
      obtain ⟨c, rfl⟩ : ∃ c : Nat, u = c := ⟨u.toNat, by omega⟩
      have hxx := hH1.2.2.1.1
      refine lv_iload_n hx hb dX3_set_35 rfl (lv_at hl 3 rfl) ?_
      refine lv_iconst (v := iI 0) hx hb dX3_set_36 rfl ?_
      refine lv_aload_n hx hb dX3_set_37 rfl (lv_at hl 0 rfl) ?_
      refine z_get hC (k := 1) rfl in_X3 hxx (by decide) q1496 (fun _ h => h) rfl dX3_set_38 ?_
      refine lv_iconst (v := iI 1) hx hb dX3_set_41 rfl ?_
      refine z_sub hx hb (z := (St_p σ) - 1) dX3_set_42 rfl ?_
      refine z_go 0 0 (z_runS (As := [.int (iI z), .int (iI 0), .int (iI ((St_p σ) - 1))]) (rest := []) hC hml hl.1 (m_X3_in hE H6 (hO.ext (zS_F hS) hMo) (0) ((St_p σ - 1)) (z) ⟨by omega, by omega, by omega⟩) (lw_S q1536 q1537 q67 q1538) nd_X3_in rfl rfl (Nat.le_of_ble_eq_true rfl) ⟨Nat.le_of_ble_eq_true rfl, Nat.le_of_ble_eq_true rfl⟩ ⟨zfit (k := 0) (z := 0) rfl rfl (by omega), zfit (k := 0) (z := 0) rfl rfl (by omega)⟩ dX3_set_43) ⟨zad (k := 0) rfl (by omega), zad (k := 0) rfl (by omega)⟩ hS (fun _ z => z.elim) (fun r H8 locs hp hF hS1 => ?_)
      obtain ⟨_, rfl, rfl⟩ := hp
      have hP := zpk hP hF
      have hP : va_P G.1 zCl ([]) H8 := hP
      have hD : va_D (zA (FM G μ σ) H0) ([]) := hD
      have hH1 : HM G s0 μ σ 0 H8 := hH1.ext0 hE hF
      have hS := hS1
      obtain ⟨fl, hfl, hfl2⟩ : ∃ fl : Nat, fl ≤ 1 ∧ (if 0 ≤ z ∧ z ≤ (St_p σ - 1) then (1 : Int) else 0) = fl ∧ (fl = 1 ↔ 0 ≤ z ∧ z ≤ (St_p σ - 1)) := by by_cases h : 0 ≤ z ∧ z ≤ (St_p σ - 1); exact ⟨1, by decide, by rw [if_pos h]; rfl, ⟨fun _ => h, fun _ => rfl⟩⟩; exact ⟨0, by decide, by rw [if_neg h]; rfl, ⟨fun z => absurd z (by decide), fun z => absurd z h⟩⟩
      refine z_top (b := ((fl : Nat) : Int)) (hfl2.1) ?_
      refine z_zne (tgt := 55) hx hb dX3_set_46 (by decide) (by omega) (fun c9 => ?_) (fun c9 => ?_)
      · have hrg : 0 ≤ z ∧ z ≤ (St_p σ - 1) := hfl2.2.mp (by omega)
        refine lv_aload_n hx hb dX3_set_55 rfl (lv_at hl 0 rfl) ?_
        refine lv_iload_n hx hb dX3_set_56 rfl (lv_at hl 1 rfl) ?_
        refine z_go 0 0 (z_runV (As := [.int (iI ((a : Nat) : Int))]) (rest := []) hC hml hl.1 (m_X3_row hE H8 (hO.ext (zS_F hS) hMo) μ σ 0 a hH1 (by omega)) (lw_V q1654 q1656 qs36 q67 q1657) rfl nd_X3_row rfl (z_rv hC (ci := 2) rfl hH1.2.2.1.1 rfl) rfl (Nat.le_of_ble_eq_true rfl) ⟨Nat.le_of_ble_eq_true rfl, Nat.le_of_ble_eq_true rfl⟩ ⟨zfit (k := 0) (z := 0) rfl rfl (by omega), zfit (k := 0) (z := 0) rfl rfl (by omega)⟩ dX3_set_57) ⟨zad (k := 0) rfl (by omega), zad (k := 0) rfl (by omega)⟩ hS (fun _ z => z.elim) (fun r H10 locs hp hF hS1 => ?_)
        obtain ⟨_, rfl, rfl⟩ := hp
        have hP := zpk hP hF
        have hP : va_P G.1 zCl ([]) H10 := hP
        have hD : va_D (zA (FM G μ σ) H0) ([]) := hD
        have hH1 : HM G s0 μ σ 0 H10 := hH1.ext0 hE hF
        have hS := hS1
        have hRa := (hH1.el (j := a) (by omega)).2
        have hVa := hH1.row (j := a) (by omega)
        refine lv_iload_n hx hb dX3_set_60 rfl (lv_at hl 2 rfl) ?_
        refine z_iald hC hRa (k := c) rfl (by omega) (y := (St_ev σ a) c) rfl dX3_set_61 ?_
        refine lv_istore (lv' := [(4, .int (iI ((St_ev σ a) c))), (0, .ref (μ (0, 0, 0))), (1, .int (iI ((a : Nat) : Int))), (2, .int (iI ((c : Nat) : Int))), (3, .int (iI z))]) hx hb dX3_set_62 hl (by decide) rfl (fun ls hl => ?_)
        refine lv_aload_n hx hb dX3_set_64 rfl (lv_at hl 1 rfl) ?_
        refine lv_iload_n hx hb dX3_set_65 rfl (lv_at hl 2 rfl) ?_
        refine z_go 0 0 (z_runV (As := [.int (iI ((a : Nat) : Int))]) (rest := []) hC hml hl.1 (m_X3_row hE H10 (hO.ext (zS_F hS) hMo) μ σ 0 a hH1 (by omega)) (lw_V q1654 q1656 qs36 q67 q1657) rfl nd_X3_row rfl (z_rv hC (ci := 2) rfl hH1.2.2.1.1 rfl) rfl (Nat.le_of_ble_eq_true rfl) ⟨Nat.le_of_ble_eq_true rfl, Nat.le_of_ble_eq_true rfl⟩ ⟨zfit (k := 0) (z := 0) rfl rfl (by omega), zfit (k := 0) (z := 0) rfl rfl (by omega)⟩ dX3_set_66) ⟨zad (k := 0) rfl (by omega), zad (k := 0) rfl (by omega)⟩ hS (fun _ z => z.elim) (fun r H11 locs hp hF hS1 => ?_)
        obtain ⟨_, rfl, rfl⟩ := hp
        have hP := zpk hP hF
        have hP : va_P G.1 zCl ([]) H11 := hP
        have hD : va_D (zA (FM G μ σ) H0) ([]) := hD
        have hH1 : HM G s0 μ σ 0 H11 := hH1.ext0 hE hF
        have hS := hS1
        have hRa := (hH1.el (j := a) (by omega)).2
        have hVa := hH1.row (j := a) (by omega)
        have hP : va_P G.1 zCl [((μ (14, a, 0)), zI G (St_n σ (St_ea σ a)) (St_ev σ a))] H11 := zP1 hRa
        have hD : va_D (zA (FM G μ σ) H0) [((μ (14, a, 0)), zI G (St_n σ (St_ea σ a)) (St_ev σ a))] := zD1 (Or.inl (FM.in hE hh.sep (domME 14 a (Or.inr rfl) (by omega)) (by simp [rAm])))
        refine lv_iload_n hx hb dX3_set_69 rfl (lv_at hl 3 rfl) ?_
        refine lv_iload_n hx hb dX3_set_70 rfl (lv_at hl 4 rfl) ?_
        refine z_iastO hC hP hD hS 0 (k := c) rfl rfl (by omega) (ws' := [((μ (14, a, 0)), zI G (St_n σ (St_ea σ a)) (va_up (St_ev σ a) c z))]) rfl dX3_set_71 (fun H12 locs hP hD hS hZ1 hZ2 => ?_)
        have hH9 : HM G s0 μ (stEl σ a (va_up (St_ev σ a) c z)) 0 H12 := HM.setrow hE hH1 (by omega) (zF.one hZ1 hZ2) (hP 0 _ rfl) (fun j hj => by by_cases e : j = c; (rw [e, va_up_self]; exact ⟨hrg.1, by omega⟩); (rw [va_up_ne _ _ e]; exact hVa j hj))
        refine lv_iload hx hb dX3_set_72 (lv_at hl 0 rfl) ?_
        exact z_iret hC hrt hlk hQ hS ⟨zle (z := 0) rfl (by omega), zle (z := 0) rfl (by omega)⟩ ⟨_, rfl, 0, _, ⟨μ, hH9, rfl, fun _ w => Or.inl w⟩, Or.inl ⟨rfl, a, c, ⟨by omega, by omega⟩, ⟨by omega, by omega⟩, ⟨hrg.1, by omega⟩, rfl, rfl⟩⟩ dX3_set_74
      · refine lv_aload_n hx hb dX3_set_49 rfl (lv_at hl 0 rfl) ?_
        refine lv_iconst (v := iI 2) hx hb dX3_set_50 rfl ?_
        have hHb := hH1
        refine z_go 0 0 (z_runV (As := [.int (iI 2)]) (rest := []) hC hml hl.1 (m_X3_no hE H8 (hO.ext (zS_F hS) hMo) μ σ 0 2 hHb) (lw_V q1520 q1522 qs29 q67 q1523) rfl nd_X3_no rfl (z_rv hC (ci := 2) rfl hHb.2.2.1.1 rfl) rfl (Nat.le_of_ble_eq_true rfl) ⟨Nat.le_of_ble_eq_true rfl, Nat.le_of_ble_eq_true rfl⟩ ⟨zfit (k := 0) (z := 0) rfl rfl (by omega), zfit (k := 0) (z := 0) rfl rfl (by omega)⟩ dX3_set_51) ⟨zad (k := 0) rfl (by omega), zad (k := 0) rfl (by omega)⟩ hS (fun z hz => Or.inl (hz ▸ FM.in hE hh.sep (domM0 0 (by omega)) (by simp [rAm]))) (fun r H13 locs hp hF hS1 => ?_)
        obtain ⟨_, rfl, rfl, hx9⟩ := hp
        have hP : va_P G.1 zCl [] H13 := va_nil
        have hD : va_D (zA (FM G μ σ) H0) [] := va_nilD
        have hP : va_P G.1 zCl ([]) H13 := hP
        have hD : va_D (zA (FM G μ σ) H0) ([]) := hD
        have hS := hS1
        have hH9 : HM G s0 μ σ ((2 : Nat) : Int) H13 := HM.thr hE hHb hF hx9
        exact z_iret hC hrt hlk hQ hS ⟨zle (z := 0) rfl (by omega), zle (z := 0) rfl (by omega)⟩ ⟨_, rfl, 2, σ, PoM.same hH9, Or.inr ⟨by decide, rfl, by decide, Or.inr (Or.inr ⟨rfl, ⟨by omega, by omega⟩, ⟨by omega, by show (c : Int) < (St_n σ (St_ea σ a) : Nat); omega⟩, fun z9 => by have h9 := hfl2.2.mpr ⟨z9.1, by have := z9.2; omega⟩; omega⟩)⟩⟩ dX3_set_54
    · refine lv_aload_n hx hb dX3_set_29 rfl (lv_at hl 0 rfl) ?_
      refine lv_iconst (v := iI 1) hx hb dX3_set_30 rfl ?_
      have hHb := hH1
      refine z_go 0 0 (z_runV (As := [.int (iI 1)]) (rest := []) hC hml hl.1 (m_X3_no hE H6 (hO.ext (zS_F hS) hMo) μ σ 0 1 hHb) (lw_V q1520 q1522 qs29 q67 q1523) rfl nd_X3_no rfl (z_rv hC (ci := 2) rfl hHb.2.2.1.1 rfl) rfl (Nat.le_of_ble_eq_true rfl) ⟨Nat.le_of_ble_eq_true rfl, Nat.le_of_ble_eq_true rfl⟩ ⟨zfit (k := 0) (z := 0) rfl rfl (by omega), zfit (k := 0) (z := 0) rfl rfl (by omega)⟩ dX3_set_31) ⟨zad (k := 0) rfl (by omega), zad (k := 0) rfl (by omega)⟩ hS (fun z hz => Or.inl (hz ▸ FM.in hE hh.sep (domM0 0 (by omega)) (by simp [rAm]))) (fun r H14 locs hp hF hS1 => ?_)
      obtain ⟨_, rfl, rfl, hx9⟩ := hp
      have hP : va_P G.1 zCl [] H14 := va_nil
      have hD : va_D (zA (FM G μ σ) H0) [] := va_nilD
      have hP : va_P G.1 zCl ([]) H14 := hP
      have hD : va_D (zA (FM G μ σ) H0) ([]) := hD
      have hS := hS1
      have hH9 : HM G s0 μ σ ((1 : Nat) : Int) H14 := HM.thr hE hHb hF hx9
      exact z_iret hC hrt hlk hQ hS ⟨zle (z := 0) rfl (by omega), zle (z := 0) rfl (by omega)⟩ ⟨_, rfl, 1, σ, PoM.same hH9, Or.inr ⟨by decide, rfl, by decide, Or.inr (Or.inl ⟨rfl, ⟨by omega, by omega⟩, fun z9 => by have z9 : 0 ≤ u ∧ u < (St_n σ (St_ea σ a) : Nat) := z9; have h9 := hfl2.2.mpr ⟨z9.1, by omega⟩; omega⟩)⟩⟩ dX3_set_34

