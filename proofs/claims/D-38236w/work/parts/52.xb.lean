/-! THE HOUSE: the mean of all sizes -/
set_option maxRecDepth 100000
abbrev rm_m_X1_meanSize : Room := { frames := 3, cells := 1, slots := 4, locals := 61 }
set_option maxHeartbeats 4000000 in
theorem m_X1_meanSize {l : Launch} {s0 : State} {G : zG} (hE : zE l s0 G) (H0 : Heap) (hO : zO s0 H0) (ρ : Ro → Nat) (σ : St) (hh : HC G s0 ρ σ H0) : zM l s0 yX1_meanSize cX1_meanSize 4 (some FieldType.double) rm_m_X1_meanSize [.ref (ρ (0, 0, 0))] H0 M0 (rd (fun y _ => y = mnV σ)) := by
  refine z_met hE (by decide +kernel) (Nat.le_of_ble_eq_true rfl) ?_
  intro pp ee ss mm args below meth cd Q ls hC hml hrt hlk hnm hH hQ hS hl
  have hx := hC.x
  have hb := hC.b
  have hl : lv_has ls 4 [(0, .ref (ρ (0, 0, 0)))] := hl
  have hP : va_P G.1 zCl [] H0 := va_nil
  have hD : va_D (zA M0 H0) [] := va_nilD
  have hH1 := hh
  obtain ⟨hp, hna, hal, hne9, hel9, hmr9⟩ := id hh.ok
  have hp7 : 0 < St_p σ ∧ St_p σ ≤ 7 := by rcases hp with h | h | h <;> rw [h] <;> decide
  obtain ⟨sm9, -⟩ := id hh.2.2.1.1
  obtain ⟨sm, hxx⟩ := id hH1.2.2.1.1
  refine lv_iconst (v := iI 0) hx hb dX1_meanSize_0 rfl ?_
  refine lv_istore_n (lv' := [(1, .int (iI 0)), (0, .ref (ρ (0, 0, 0)))]) hx hb dX1_meanSize_1 rfl hl (by decide) rfl (fun ls hl => ?_)
  refine lv_aload_n hx hb dX1_meanSize_2 rfl (lv_at hl 1 rfl) ?_
  refine z_get hC (k := 2) rfl in_X1 hxx (by decide) q153 (fun _ h => h) rfl dX1_meanSize_3 ?_
  obtain ⟨mdl, LL1⟩ := id hH1.2.2.1.2.2.1
  have hszi : H0.size ≤ H0.size := hS.1
  refine z_go 1 4 (z_runV (As := []) (rest := []) hC hml hl.1 (m_J2_iterator hE H0 (hO.ext0 (zS_F hS)) (ρ (3, 0, 0)) (St_ne σ) (fun j => ρ (13, j, 0)) (ρ (4, 0, 0)) mdl LL1) (lw_V q174 q175 q176 q65 q177) rfl nd_J2_iterator rfl (z_rv hC (ci := 8) rfl LL1.1 rfl) rfl (Nat.le_of_ble_eq_true rfl) ⟨Nat.le_of_ble_eq_true rfl, Nat.le_of_ble_eq_true rfl⟩ ⟨zfit (k := 1) (z := 1) rfl rfl (by omega), zfit (k := 4) (z := 4) rfl rfl (by omega)⟩ dX1_meanSize_6) ⟨zad (k := 1) rfl (by omega), zad (k := 4) rfl (by omega)⟩ hS (fun _ z => z.elim) (fun r H2 locs hp hF hS1 => ?_)
  obtain ⟨it1, rfl, hN⟩ := hp
  obtain ⟨hP, hD⟩ := zjn hP hD hS.1 hF hN
  have hP : va_P G.1 zCl ([(it1, zOb 9 [.int (iI 0), .int (iI (-1)), .int (iI mdl), .ref (ρ (3, 0, 0))])]) H2 := hP
  have hD : va_D (zA M0 H0) ([(it1, zOb 9 [.int (iI 0), .int (iI (-1)), .int (iI mdl), .ref (ρ (3, 0, 0))])]) := hD
  have hH1 : HC G s0 ρ σ H2 := hH1.ext0 hE hF
  have LL1 : zLs G (ρ (3, 0, 0)) (St_ne σ) (fun j => ρ (13, j, 0)) (ρ (4, 0, 0)) mdl H2 := LL1.ext0 hF
  have hS := hS1
  have hiq : H0.size ≤ it1 := Nat.le_trans hszi (hN.2.2 0 _ rfl)
  refine lv_astore_n (lv' := [(2, .ref it1), (1, .int (iI 0)), (0, .ref (ρ (0, 0, 0)))]) hx hb dX1_meanSize_9 rfl hl (by decide) rfl (fun ls hl => ?_)
  have lp3 : ∀ (dlp3 : Nat) (i : Nat) (c : Nat) (rl : Int), St_ne σ - i = dlp3 → (i ≤ St_ne σ) → (c = suN (szF σ) i) → ∀ (H4 : Heap) (locs : List Loc) (ls : Array Slot), (HC G s0 ρ σ H4) → (zLs G (ρ (3, 0, 0)) (St_ne σ) (fun j => ρ (13, j, 0)) (ρ (4, 0, 0)) mdl H4) → va_P G.1 zCl ([(it1, zOb 9 [.int (iI ((i : Nat) : Int)), .int (iI rl), .int (iI mdl), .ref (ρ (3, 0, 0))])]) H4 → va_D (zA M0 H0) ([(it1, zOb 9 [.int (iI ((i : Nat) : Int)), .int (iI rl), .int (iI mdl), .ref (ρ (3, 0, 0))])]) → va_S (zA M0 H0) H0 H4 locs → lv_has ls 4 [(1, .int (iI ((c : Nat) : Int))), (2, .ref it1), (0, .ref (ρ (0, 0, 0)))] → W pp l ee rm_m_X1_meanSize ss mm args below meth cd H4 locs 1 4 Q (F0 mm 10 ls []) := by
    intro dlp3
    induction dlp3 using Nat.strongRecOn with
    | ind dlp3 ihlp3 =>
      intro i c rl hdlp3 hi9 hc H4 locs ls hH1 LL1 hP hD hS hl
      refine lv_aload_n hx hb dX1_meanSize_10 rfl (lv_at hl 1 rfl) ?_
      refine z_go5 1 4 (z_runF (n := 0) (As := []) (rest := []) (ci := 9) hC hml hl.1 (m_J17_hasNext hE H4 (hO.ext0 (zS_F hS)) (ρ (3, 0, 0)) (St_ne σ) (fun j => ρ (13, j, 0)) (ρ (4, 0, 0)) mdl it1 i rl LL1 (hP 0 _ rfl) (by omega)) q206 q198 q202 q204 q88 q200 q199 q205 q203 q201 ⟨by decide +kernel, by decide +kernel, by decide +kernel⟩ rfl rfl rfl (z_rv hC (ci := 9) rfl (hP 0 _ rfl) rfl) rfl (Nat.le_of_ble_eq_true rfl) ⟨Nat.le_of_ble_eq_true rfl, Nat.le_of_ble_eq_true rfl⟩ ⟨zfit (k := 0) (z := 1) rfl rfl (by omega), zfit (k := 0) (z := 4) rfl rfl (by omega)⟩ dX1_meanSize_11) ⟨zad (k := 0) rfl (by omega), zad (k := 0) rfl (by omega)⟩ hS (fun _ z => z.elim) (fun r H5 locs hp hF hS1 => ?_)
      obtain ⟨_, rfl, rfl⟩ := hp
      have hP := zpk hP hF
      have hP : va_P G.1 zCl ([(it1, zOb 9 [.int (iI ((i : Nat) : Int)), .int (iI rl), .int (iI mdl), .ref (ρ (3, 0, 0))])]) H5 := hP
      have hD : va_D (zA M0 H0) ([(it1, zOb 9 [.int (iI ((i : Nat) : Int)), .int (iI rl), .int (iI mdl), .ref (ρ (3, 0, 0))])]) := hD
      have hH1 : HC G s0 ρ σ H5 := hH1.ext0 hE hF
      have LL1 : zLs G (ρ (3, 0, 0)) (St_ne σ) (fun j => ρ (13, j, 0)) (ρ (4, 0, 0)) mdl H5 := LL1.ext0 hF
      have hS := hS1
      refine z_zeq (tgt := 39) hx hb dX1_meanSize_16 (by decide) (by split <;> omega) (fun c1 => ?_) (fun c1 => ?_)
      · have ei : i = St_ne σ := by split at c1 <;> omega
        rw [hc, ei] at hl
        obtain ⟨sm, hxx⟩ := id hH1.2.2.1.1
        refine lv_aload_n hx hb dX1_meanSize_39 rfl (lv_at hl 2 rfl) ?_
        refine z_get hC (k := 2) rfl in_X1 hxx (by decide) q153 (fun _ h => h) rfl dX1_meanSize_40 ?_
        obtain ⟨mde, hLe⟩ := id hH1.2.2.1.2.2.1
        refine z_go 1 4 (z_runV (As := []) (rest := []) hC hml hl.1 (m_J2_isEmpty hE H5 (hO.ext0 (zS_F hS)) (ρ (3, 0, 0)) (St_ne σ) (fun j => ρ (13, j, 0)) (ρ (4, 0, 0)) mde hLe) (lw_V q225 q226 q227 q65 q228) rfl nd_J2_isEmpty rfl (z_rv hC (ci := 8) rfl hLe.1 rfl) rfl (Nat.le_of_ble_eq_true rfl) ⟨Nat.le_of_ble_eq_true rfl, Nat.le_of_ble_eq_true rfl⟩ ⟨zfit (k := 0) (z := 1) rfl rfl (by omega), zfit (k := 0) (z := 4) rfl rfl (by omega)⟩ dX1_meanSize_43) ⟨zad (k := 0) rfl (by omega), zad (k := 0) rfl (by omega)⟩ hS (fun _ z => z.elim) (fun r H6 locs hp hF hS1 => ?_)
        obtain ⟨_, rfl, rfl⟩ := hp
        have hP := zpk hP hF
        have hP : va_P G.1 zCl ([(it1, zOb 9 [.int (iI ((i : Nat) : Int)), .int (iI rl), .int (iI mdl), .ref (ρ (3, 0, 0))])]) H6 := hP
        have hD : va_D (zA M0 H0) ([(it1, zOb 9 [.int (iI ((i : Nat) : Int)), .int (iI rl), .int (iI mdl), .ref (ρ (3, 0, 0))])]) := hD
        have hH1 : HC G s0 ρ σ H6 := hH1.ext0 hE hF
        have LL1 : zLs G (ρ (3, 0, 0)) (St_ne σ) (fun j => ρ (13, j, 0)) (ρ (4, 0, 0)) mdl H6 := LL1.ext0 hF
        have hS := hS1
        refine z_zeq (tgt := 53) hx hb dX1_meanSize_46 (by decide) (by split <;> omega) (fun c2 => ?_) (fun c2 => ?_)
        · have e0 : St_ne σ ≠ 0 := by split at c2 <;> omega
          obtain ⟨sm, hxx⟩ := id hH1.2.2.1.1
          refine lv_iload_n hx hb dX1_meanSize_53 rfl (lv_at hl 0 rfl) ?_
          refine lv_i2d hx hb dX1_meanSize_54 ?_
          refine lv_aload_n hx hb dX1_meanSize_55 rfl (lv_at hl 2 rfl) ?_
          refine z_get hC (k := 2) rfl in_X1 hxx (by decide) q153 (fun _ h => h) rfl dX1_meanSize_56 ?_
          obtain ⟨mde, hLe⟩ := id hH1.2.2.1.2.2.1
          have hcl := suN_le (f := szF σ) (B := 16) (n := St_ne σ) (fun j hj => szF_16 ((hH1.ag (hH1.ea (j := j) hj)).n).1.2)
          refine z_go 1 4 (z_runV (As := []) (rest := [.double (FP.i2d (iI ((suN (szF σ) (St_ne σ) : Nat) : Int)))]) hC hml hl.1 (m_J2_size hE H6 (hO.ext0 (zS_F hS)) (ρ (3, 0, 0)) (St_ne σ) (fun j => ρ (13, j, 0)) (ρ (4, 0, 0)) mde hLe) (lw_V q229 q230 q231 q65 q232) rfl nd_J2_size rfl (z_rv hC (ci := 8) rfl hLe.1 rfl) rfl (Nat.le_of_ble_eq_true rfl) ⟨Nat.le_of_ble_eq_true rfl, Nat.le_of_ble_eq_true rfl⟩ ⟨zfit (k := 0) (z := 1) rfl rfl (by omega), zfit (k := 0) (z := 4) rfl rfl (by omega)⟩ dX1_meanSize_59) ⟨zad (k := 0) rfl (by omega), zad (k := 0) rfl (by omega)⟩ hS (fun _ z => z.elim) (fun r H7 locs hp hF hS1 => ?_)
          obtain ⟨_, rfl, rfl⟩ := hp
          have hP := zpk hP hF
          have hP : va_P G.1 zCl ([(it1, zOb 9 [.int (iI ((i : Nat) : Int)), .int (iI rl), .int (iI mdl), .ref (ρ (3, 0, 0))])]) H7 := hP
          have hD : va_D (zA M0 H0) ([(it1, zOb 9 [.int (iI ((i : Nat) : Int)), .int (iI rl), .int (iI mdl), .ref (ρ (3, 0, 0))])]) := hD
          have hH1 : HC G s0 ρ σ H7 := hH1.ext0 hE hF
          have LL1 : zLs G (ρ (3, 0, 0)) (St_ne σ) (fun j => ρ (13, j, 0)) (ρ (4, 0, 0)) mdl H7 := LL1.ext0 hF
          have hS := hS1
          refine lv_i2d hx hb dX1_meanSize_62 ?_
          refine lv_ddiv hx hb dX1_meanSize_63 (dv_n (by omega) (by omega)) ?_
          exact z_dret hC hrt hlk hQ hS ⟨zle (z := 1) rfl (by omega), zle (z := 4) rfl (by omega)⟩ ⟨_, rfl, by unfold mnV; rw [if_neg e0]⟩ dX1_meanSize_64
        · have e0 : St_ne σ = 0 := by split at c2 <;> omega
          refine lv_dconst0 hx hb dX1_meanSize_49 ?_
          refine lv_goto (tgt := 64) hx hb dX1_meanSize_50 (by decide) ?_
          exact z_dret hC hrt hlk hQ hS ⟨zle (z := 1) rfl (by omega), zle (z := 4) rfl (by omega)⟩ ⟨_, rfl, by unfold mnV; rw [if_pos e0]⟩ dX1_meanSize_64
      · have hin : i < St_ne σ := by split at c1; assumption; omega
        refine lv_aload_n hx hb dX1_meanSize_19 rfl (lv_at hl 1 rfl) ?_
        refine z_go5 1 4 (z_runF (n := 0) (As := []) (rest := []) (ci := 9) hC hml hl.1 (m_J17_next hE H5 (hO.ext0 (zS_F hS)) (ρ (3, 0, 0)) (St_ne σ) (fun j => ρ (13, j, 0)) (ρ (4, 0, 0)) mdl it1 i rl (Nat.le_trans hO.1 hiq) ⟨fun z => by have := hh.lt hE hO (3, 0, 0) (dom0 _ (by omega)); omega, fun z => by have := hh.lt hE hO (4, 0, 0) (dom0 _ (by omega)); omega⟩ LL1 (hP 0 _ rfl) (by omega)) q215 q208 q211 q213 q88 q210 q209 q214 q212 q201 ⟨by decide +kernel, by decide +kernel, by decide +kernel⟩ rfl rfl rfl (z_rv hC (ci := 9) rfl (hP 0 _ rfl) rfl) rfl (Nat.le_of_ble_eq_true rfl) ⟨Nat.le_of_ble_eq_true rfl, Nat.le_of_ble_eq_true rfl⟩ ⟨zfit (k := 0) (z := 1) rfl rfl (by omega), zfit (k := 0) (z := 4) rfl rfl (by omega)⟩ dX1_meanSize_20) ⟨zad (k := 0) rfl (by omega), zad (k := 0) rfl (by omega)⟩ hS (fun q z => by subst z; exact hD.2 0 _ rfl) (fun r H8 locs hp hF hS1 => ?_)
        obtain ⟨_, rfl, rfl, hm⟩ := hp
        obtain ⟨hP, hD⟩ := zjm hP hD hF 0 rfl hm
        have hP : va_P G.1 zCl ([(it1, zOb 9 [.int (iI ((i + 1 : Nat) : Int)), .int (iI ((i : Nat) : Int)), .int (iI mdl), .ref (ρ (3, 0, 0))])]) H8 := hP
        have hD : va_D (zA M0 H0) ([(it1, zOb 9 [.int (iI ((i + 1 : Nat) : Int)), .int (iI ((i : Nat) : Int)), .int (iI mdl), .ref (ρ (3, 0, 0))])]) := hD
        have hH1 : HC G s0 ρ σ H8 := hH1.ext hE hF (fun a9 ha9 _ z => by have := hh.lt hE hO a9 ha9; omega)
        have LL1 : zLs G (ρ (3, 0, 0)) (St_ne σ) (fun j => ρ (13, j, 0)) (ρ (4, 0, 0)) mdl H8 := LL1.ext hF (fun z => by have := hh.lt hE hO (3, 0, 0) (dom0 _ (by omega)); omega) (fun _ z => by have := hh.lt hE hO (4, 0, 0) (dom0 _ (by omega)); omega)
        have hS := hS1
        have hvi := hH1.row (j := i) (by omega)
        have hEi := hH1.el (j := i) (by omega)
        have heai := hH1.ea (j := i) (by omega)
        obtain ⟨hn16i, -⟩ := (hH1.ag heai).n
        have hcl := suN_le (f := szF σ) (B := 16) (n := i) (fun j hj => szF_16 ((hH1.ag (hH1.ea (j := j) (by omega))).n).1.2)
        have hsi := szF_16 hn16i.2
        refine z_cast hC (ci := 6) rfl hEi.1 rfl q220 dX1_meanSize_25 ?_
        refine lv_astore_n (lv' := [(3, .ref (ρ (13, i, 0))), (1, .int (iI ((c : Nat) : Int))), (2, .ref it1), (0, .ref (ρ (0, 0, 0)))]) hx hb dX1_meanSize_28 rfl hl (by decide) rfl (fun ls hl => ?_)
        refine lv_iload_n hx hb dX1_meanSize_29 rfl (lv_at hl 1 rfl) ?_
        refine lv_aload_n hx hb dX1_meanSize_30 rfl (lv_at hl 0 rfl) ?_
        refine z_go 1 4 (z_runV (As := []) (rest := [.int (iI ((c : Nat) : Int))]) hC hml hl.1 (m_X7_size hE H8 (hO.ext0 (zS_F hS)) (ρ (0, 0, 0)) (ρ (6, St_ea σ i, 0)) (St_p σ) (St_d σ (St_ea σ i)) (St_n σ (St_ea σ i)) (St_kd σ (St_ea σ i)) (St_dv σ (St_ea σ i)) (St_sg σ (St_ea σ i)) (ρ (13, i, 0)) (ρ (14, i, 0)) (St_ev σ i)  (hH1.ag (hH1.ea (j := i) (by omega))) (hH1.el (j := i) (by omega)) hvi ) (lw_V q221 q222 q223 q92 q224) rfl nd_X7_size rfl (z_rv hC (ci := 6) rfl hEi.1 rfl) rfl (Nat.le_of_ble_eq_true rfl) ⟨Nat.le_of_ble_eq_true rfl, Nat.le_of_ble_eq_true rfl⟩ ⟨zfit (k := 0) (z := 1) rfl rfl (by omega), zfit (k := 0) (z := 4) rfl rfl (by omega)⟩ dX1_meanSize_31) ⟨zad (k := 0) rfl (by omega), zad (k := 0) rfl (by omega)⟩ hS (fun _ z => z.elim) (fun r H9 locs hp hF hS1 => ?_)
        obtain ⟨_, rfl, rfl⟩ := hp
        have hP := zpk hP hF
        have hP : va_P G.1 zCl ([(it1, zOb 9 [.int (iI ((i + 1 : Nat) : Int)), .int (iI ((i : Nat) : Int)), .int (iI mdl), .ref (ρ (3, 0, 0))])]) H9 := hP
        have hD : va_D (zA M0 H0) ([(it1, zOb 9 [.int (iI ((i + 1 : Nat) : Int)), .int (iI ((i : Nat) : Int)), .int (iI mdl), .ref (ρ (3, 0, 0))])]) := hD
        have hH1 : HC G s0 ρ σ H9 := hH1.ext0 hE hF
        have LL1 : zLs G (ρ (3, 0, 0)) (St_ne σ) (fun j => ρ (13, j, 0)) (ρ (4, 0, 0)) mdl H9 := LL1.ext0 hF
        have hS := hS1
        have hsz : szV (St_ev σ i) (St_n σ (St_ea σ i)) = szF σ i := rfl
        refine z_add hx hb (z := ((c : Nat) : Int) + ((szV (St_ev σ i) (St_n σ (St_ea σ i)) : Nat) : Int)) dX1_meanSize_34 rfl ?_
        refine z_top (b := ((c + szF σ i : Nat) : Int)) (by rw [hsz]; omega) ?_
        refine lv_istore_n (lv' := [(1, .int (iI ((c + szF σ i : Nat) : Int))), (3, .ref (ρ (13, i, 0))), (2, .ref it1), (0, .ref (ρ (0, 0, 0)))]) hx hb dX1_meanSize_35 rfl hl (by decide) rfl (fun ls hl => ?_)
        refine lv_goto (tgt := 10) hx hb dX1_meanSize_36 (by decide) ?_
        exact W.widen (by omega) (by omega) (ihlp3 (St_ne σ - (i + 1)) (by omega) (i + 1) (c + szF σ i) (i : Int) rfl (by omega) (by rw [hc]; rfl) _ _ _ hH1 LL1 hP hD hS (lv_sub hl [0, 2, 3] rfl))
  exact W.widen (by omega) (by omega) (lp3 _ 0 0 (-1) rfl (Nat.zero_le _) rfl _ _ _ hH1 LL1 hP hD hS (lv_sub hl [1, 0, 2] rfl))

