/-! THE HOUSE: what the mirrors do -/
set_option maxRecDepth 100000
def X1s (σ : St) (i : Int) (st : Nat → Prop) (E : String) : Prop := (E = IOB ∧ ¬ inE σ i) ∨ (E = ISE ∧ inE σ i ∧ st i.toNat)
/-- what i mirrors of an algebra make of a row -/
def tuV (σ : St) (k : Nat) (v : Nat → Int) : Nat → Nat → Int
  | 0 => v
  | i + 1 => mirV (St_p σ) (St_n σ k) (St_kd σ k) (St_sg σ k) (St_mv σ k i) (tuV σ k v i)
def veV (σ : St) (k : Nat) : Nat → Nat → Int
  | 0 => oneV
  | i + 1 => tmV (St_p σ) (St_n σ k) (St_sg σ k) (St_mv σ k i) (veV σ k i)
theorem tuV_ok {σ : St} {k : Nat} {v : Nat → Int} (hp : pr357 (St_p σ)) (h : rw_ok (St_p σ) (St_n σ k) v) : ∀ i, rw_ok (St_p σ) (St_n σ k) (tuV σ k v i)
  | 0 => h
  | _ + 1 => scV_ok hp _ _ _
theorem veV_ok {σ : St} {k : Nat} (hp : pr357 (St_p σ)) : ∀ i, rw_ok (St_p σ) (St_n σ k) (veV σ k i)
  | 0 => oneV_ok hp _
  | _ + 1 => tmV_ok hp _ _ _ _
abbrev rm_m_X1_turn : Room := { frames := 8, cells := 100, slots := 1000, locals := 132 }
set_option maxHeartbeats 4000000 in
theorem m_X1_turn {l : Launch} {s0 : State} {G : zG} (hE : zE l s0 G) (H0 : Heap) (hO : zO s0 H0) (ρ : Ro → Nat) (σ : St) (i j : Int) (hh : HC G s0 ρ σ H0) (hi : zi i ∧ zi j) : zMX l s0 yX1_turn cX1_turn 8 (some FieldType.int) rm_m_X1_turn [.ref (ρ (0, 0, 0)), .int (iI i), .int (iI j)] H0 (FC G ρ σ) (HP G s0 H0 ρ σ (fun y σ' => ∃ a b : Nat, (i = a ∧ a < St_ne σ) ∧ (j = b ∧ b < St_ne σ) ∧ St_ea σ a = St_ea σ b ∧ St_kd σ (St_ea σ a) = 1 ∧ σ' = stEl σ a (tuV σ (St_ea σ a) (St_ev σ b) (St_nm σ (St_ea σ a))) ∧ y = (szV (tuV σ (St_ea σ a) (St_ev σ b) (St_nm σ (St_ea σ a))) (St_n σ (St_ea σ a)) : Nat))) (HX G s0 ρ σ (X2s σ i j (fun _ b => St_kd σ (St_ea σ b) ≠ 1))) := by
  refine z_metX hE (by decide +kernel) (Nat.le_of_ble_eq_true rfl) ?_
  intro pp ee ss mm args below meth cd Q ls hC hml hrt hlk hnm hH hQ hno hX hS hl
  have hx := hC.x
  have hb := hC.b
  have hl : lv_has ls 8 [(0, .ref (ρ (0, 0, 0))), (1, .int (iI i)), (2, .int (iI j))] := hl
  have hP : va_P G.1 zCl [] H0 := va_nil
  have hD : va_D (zA (FC G ρ σ) H0) [] := va_nilD
  have hMo : ∀ z, FC G ρ σ z → s0.heap.size ≤ z := fun z hz => FC.ge hh.sep hz
  have hH1 := hh
  obtain ⟨hp, hna, hal, hne9, hel9, hmr9⟩ := id hh.ok
  have hp7 : 0 < St_p σ ∧ St_p σ ≤ 7 := by rcases hp with h | h | h <;> rw [h] <;> decide
  obtain ⟨sm9, -⟩ := id hh.2.2.1.1
  refine lv_aload_n hx hb dX1_turn_0 rfl (lv_at hl 0 rfl) ?_
  refine lv_iload_n hx hb dX1_turn_1 rfl (lv_at hl 1 rfl) ?_
  obtain ⟨sm, hxx⟩ := id hH1.2.2.1.1
  refine z_goX 1 6 (z_runVx (As := [.int (iI i)]) (rest := []) hC hml hl.1 (m_X1_elementAt hE H0 (hO.ext (zS_F hS) hMo) ρ σ i hH1 hi.1) (lw_V q1139 q1141 qs25 q62 q1142) rfl nd_X1_elementAt rfl (z_rv hC (ci := 0) rfl hxx rfl) rfl (Nat.le_of_ble_eq_true rfl) ⟨Nat.le_of_ble_eq_true rfl, Nat.le_of_ble_eq_true rfl⟩ ⟨zfit (k := 1) (z := 100) rfl rfl (by omega), zfit (k := 6) (z := 1000) rfl rfl (by omega)⟩ dX1_turn_2) ⟨zad (k := 1) rfl (by omega), zad (k := 6) rfl (by omega)⟩ hS (fun _ z => z.elim) (fun E ce q9 Hx1 locs hp hF hS1 hce hcv hcl => ?_) (fun r H2 locs hp hF hS1 => ?_)
  · exact z_out hno hlk hX hS1 ⟨zle (z := 100) rfl (by omega), zle (z := 1000) rfl (by omega)⟩ hce hcv hcl (⟨Or.inl (Or.inl ⟨hp.1, fun z => hp.2 z.1⟩), hH1.ext0 hE hF⟩)
  obtain ⟨_, rfl, a, ea9, ha9, rfl⟩ := hp
  have hP := zpk hP hF
  have hP : va_P G.1 zCl ([]) H2 := hP
  have hD : va_D (zA (FC G ρ σ) H0) ([]) := hD
  have hH1 : HC G s0 ρ σ H2 := hH1.ext0 hE hF
  have hS := hS1
  refine lv_astore_n (lv' := [(3, .ref (ρ (13, a, 0))), (0, .ref (ρ (0, 0, 0))), (1, .int (iI i)), (2, .int (iI j))]) hx hb dX1_turn_5 rfl hl (by decide) rfl (fun ls hl => ?_)
  refine lv_aload_n hx hb dX1_turn_6 rfl (lv_at hl 1 rfl) ?_
  refine lv_iload_n hx hb dX1_turn_7 rfl (lv_at hl 3 rfl) ?_
  obtain ⟨sm, hxx⟩ := id hH1.2.2.1.1
  refine z_goX 2 12 (z_runVx (As := [.int (iI j)]) (rest := []) hC hml hl.1 (m_X1_elementAt hE H2 (hO.ext (zS_F hS) hMo) ρ σ j hH1 hi.2) (lw_V q1139 q1141 qs25 q62 q1142) rfl nd_X1_elementAt rfl (z_rv hC (ci := 0) rfl hxx rfl) rfl (Nat.le_of_ble_eq_true rfl) ⟨Nat.le_of_ble_eq_true rfl, Nat.le_of_ble_eq_true rfl⟩ ⟨zfit (k := 1) (z := 100) rfl rfl (by omega), zfit (k := 6) (z := 1000) rfl rfl (by omega)⟩ dX1_turn_8) ⟨zad (k := 1) rfl (by omega), zad (k := 6) rfl (by omega)⟩ hS (fun _ z => z.elim) (fun E ce q9 Hx3 locs hp hF hS1 hce hcv hcl => ?_) (fun r H4 locs hp hF hS1 => ?_)
  · exact z_out hno hlk hX hS1 ⟨zle (z := 100) rfl (by omega), zle (z := 1000) rfl (by omega)⟩ hce hcv hcl (⟨Or.inl (Or.inl ⟨hp.1, fun z => hp.2 z.2⟩), hH1.ext0 hE hF⟩)
  obtain ⟨_, rfl, b, eb9, hb9, rfl⟩ := hp
  have hP := zpk hP hF
  have hP : va_P G.1 zCl ([]) H4 := hP
  have hD : va_D (zA (FC G ρ σ) H0) ([]) := hD
  have hH1 : HC G s0 ρ σ H4 := hH1.ext0 hE hF
  have hS := hS1
  refine lv_astore (lv' := [(4, .ref (ρ (13, b, 0))), (3, .ref (ρ (13, a, 0))), (0, .ref (ρ (0, 0, 0))), (1, .int (iI i)), (2, .int (iI j))]) hx hb dX1_turn_11 hl (by decide) rfl (fun ls hl => ?_)
  refine lv_aload_n hx hb dX1_turn_13 rfl (lv_at hl 2 rfl) ?_
  refine lv_aload_n hx hb dX1_turn_14 rfl (lv_at hl 1 rfl) ?_
  refine lv_aload hx hb dX1_turn_15 (lv_at hl 0 rfl) ?_
  obtain ⟨sm, hxx⟩ := id hH1.2.2.1.1
  have ea9 : i.toNat = a := by omega
  have eb9 : j.toNat = b := by omega
  have iE : inE σ i := by unfold inE; omega
  have jE : inE σ j := by unfold inE; omega
  refine z_goX 3 18 (z_runVx (As := [.ref (ρ (13, a, 0)), .ref (ρ (13, b, 0))]) (rest := []) hC hml hl.1 (m_X1_requireOne hE H4 (hO.ext (zS_F hS) hMo) ρ σ a b hH1 ⟨by omega, by omega⟩) (lw_V q1150 q1152 qs26 q62 q1153) rfl nd_X1_requireOne rfl (z_rv hC (ci := 0) rfl hxx rfl) rfl (Nat.le_of_ble_eq_true rfl) ⟨Nat.le_of_ble_eq_true rfl, Nat.le_of_ble_eq_true rfl⟩ ⟨zfit (k := 1) (z := 100) rfl rfl (by omega), zfit (k := 6) (z := 1000) rfl rfl (by omega)⟩ dX1_turn_17) ⟨zad (k := 1) rfl (by omega), zad (k := 6) rfl (by omega)⟩ hS (fun _ z => z.elim) (fun E ce q9 Hx5 locs hp hF hS1 hce hcv hcl => ?_) (fun r H6 locs hp hF hS1 => ?_)
  · exact z_out hno hlk hX hS1 ⟨zle (z := 100) rfl (by omega), zle (z := 1000) rfl (by omega)⟩ hce hcv hcl (⟨Or.inl (Or.inr ⟨hp.1, iE, jE, fun z => hp.2 (by rw [ea9, eb9] at z; exact z.1)⟩), hH1.ext0 hE hF⟩)
  obtain ⟨rfl, hone⟩ := hp
  have hP := zpk hP hF
  have hP : va_P G.1 zCl ([]) H6 := hP
  have hD : va_D (zA (FC G ρ σ) H0) ([]) := hD
  have hH1 : HC G s0 ρ σ H6 := hH1.ext0 hE hF
  have hS := hS1
  have hea0 := hh.ea (j := a) (by omega)
  have hnm9 := (hmr9 _ hea0).1
  have hvb := hH1.row (j := b) (by omega)
  have hEb := hH1.el (j := b) (by omega)
  rw [← hone] at hvb hEb
  have hea := hH1.ea (j := a) (by omega)
  refine lv_aload hx hb dX1_turn_20 (lv_at hl 0 rfl) ?_
  refine z_getn hC (k := 0) rfl in_X7 hEb.1 (by decide) q323 (fun _ h => h) rfl dX1_turn_22 ?_
  have hea := hH1.ea (j := a) (by omega)
  have hkK := hH1.2.2.2.1 (St_ea σ a) hea
  have halK := hal (St_ea σ a) hea
  obtain ⟨hn16K, -⟩ := (hH1.ag hea).n
  refine z_go 3 18 (z_runV (As := []) (rest := []) hC hml hl.1 (m_X5_isBlades hE H6 (hO.ext (zS_F hS) hMo) (ρ (0, 0, 0)) (ρ (6, St_ea σ a, 0)) (St_p σ) (St_d σ (St_ea σ a)) (St_n σ (St_ea σ a)) (St_kd σ (St_ea σ a)) (St_dv σ (St_ea σ a)) (St_sg σ (St_ea σ a)) (hH1.ag hea)) (lw_V q434 q435 q436 q74 q437) rfl nd_X5_isBlades rfl (z_rv hC (ci := 4) rfl hkK.1 rfl) rfl (Nat.le_of_ble_eq_true rfl) ⟨Nat.le_of_ble_eq_true rfl, Nat.le_of_ble_eq_true rfl⟩ ⟨zfit (k := 0) (z := 100) rfl rfl (by omega), zfit (k := 0) (z := 1000) rfl rfl (by omega)⟩ dX1_turn_25) ⟨zad (k := 0) rfl (by omega), zad (k := 0) rfl (by omega)⟩ hS (fun _ z => z.elim) (fun r H7 locs hp hF hS1 => ?_)
  obtain ⟨_, rfl, rfl⟩ := hp
  have hP := zpk hP hF
  have hP : va_P G.1 zCl ([]) H7 := hP
  have hD : va_D (zA (FC G ρ σ) H0) ([]) := hD
  have hH1 : HC G s0 ρ σ H7 := hH1.ext0 hE hF
  have hS := hS1
  obtain ⟨fl, hfl, hfl2⟩ : ∃ fl : Nat, fl ≤ 1 ∧ (if St_kd σ (St_ea σ a) = 1 then (1 : Int) else 0) = fl ∧ (fl = 1 ↔ St_kd σ (St_ea σ a) = 1) := by by_cases h : St_kd σ (St_ea σ a) = 1; exact ⟨1, by decide, by rw [if_pos h]; rfl, by simp [h]⟩; exact ⟨0, by decide, by rw [if_neg h]; rfl, by simp [h]⟩
  refine z_top (b := ((fl : Nat) : Int)) (hfl2.1) ?_
  refine z_goX 4 24 (z_runSx (As := [.int (iI ((fl : Nat) : Int))]) (rest := []) hC hml hl.1 (m_X1_requireState hE H7 (hO.ext (zS_F hS) hMo) fl hfl) (lw_S q919 q920 q62 q921) nd_X1_requireState rfl rfl (Nat.le_of_ble_eq_true rfl) ⟨Nat.le_of_ble_eq_true rfl, Nat.le_of_ble_eq_true rfl⟩ ⟨zfit (k := 1) (z := 100) rfl rfl (by omega), zfit (k := 6) (z := 1000) rfl rfl (by omega)⟩ dX1_turn_28) ⟨zad (k := 1) rfl (by omega), zad (k := 6) rfl (by omega)⟩ hS (fun _ z => z.elim) (fun E ce q9 Hx8 locs hp hF hS1 hce hcv hcl => ?_) (fun r H9 locs hp hF hS1 => ?_)
  · exact z_out hno hlk hX hS1 ⟨zle (z := 100) rfl (by omega), zle (z := 1000) rfl (by omega)⟩ hce hcv hcl (⟨Or.inr ⟨hp.1, iE, jE, by rw [ea9, eb9]; exact hone, fun (z : St_kd σ (St_ea σ j.toNat) = 1) => by rw [eb9, ← hone] at z; have h9 := hfl2.2.mpr z; have h8 := hp.2; omega⟩, hH1.ext0 hE hF⟩)
  obtain ⟨rfl, hfl1⟩ := hp
  have hP := zpk hP hF
  have hP : va_P G.1 zCl ([]) H9 := hP
  have hD : va_D (zA (FC G ρ σ) H0) ([]) := hD
  have hH1 : HC G s0 ρ σ H9 := hH1.ext0 hE hF
  have hS := hS1
  have hkd1 := hfl2.2.mp hfl1
  refine lv_aload hx hb dX1_turn_31 (lv_at hl 0 rfl) ?_
  have hvb := hH1.row (j := b) (by omega)
  have hEb := hH1.el (j := b) (by omega)
  rw [← hone] at hvb hEb
  have hea := hH1.ea (j := a) (by omega)
  have hsz9 : H0.size ≤ H9.size := hS.1
  refine z_go 6 43 (z_runV (As := []) (rest := []) hC hml hl.1 (m_X7_copy hE H9 (hO.ext (zS_F hS) hMo) (ρ (0, 0, 0)) (ρ (6, St_ea σ a, 0)) (St_p σ) (St_d σ (St_ea σ a)) (St_n σ (St_ea σ a)) (St_kd σ (St_ea σ a)) (St_dv σ (St_ea σ a)) (St_sg σ (St_ea σ a)) (ρ (13, b, 0)) (ρ (14, b, 0)) (St_ev σ b)  (hH1.ag (k := St_ea σ a) (by omega)) hEb hvb ) (lw_V q1273 q1274 q1275 q92 q1276) rfl nd_X7_copy rfl (z_rv hC (ci := 6) rfl hEb.1 rfl) rfl (Nat.le_of_ble_eq_true rfl) ⟨Nat.le_of_ble_eq_true rfl, Nat.le_of_ble_eq_true rfl⟩ ⟨zfit (k := 2) (z := 100) rfl rfl (by omega), zfit (k := 19) (z := 1000) rfl rfl (by omega)⟩ dX1_turn_33) ⟨zad (k := 2) rfl (by omega), zad (k := 19) rfl (by omega)⟩ hS (fun _ z => z.elim) (fun r H12 locs hp hF hS1 => ?_)
  obtain ⟨qe10, rfl, re11, hN⟩ := hp
  obtain ⟨hP, hD⟩ := zjn hP hD hS.1 hF hN
  have hP : va_P G.1 zCl ([(qe10, zOb 6 [.ref (ρ (6, St_ea σ a, 0)), .ref re11, .ref (ρ (0, 0, 0))]), (re11, zI G (St_n σ (St_ea σ a)) (St_ev σ b))]) H12 := hP
  have hD : va_D (zA (FC G ρ σ) H0) ([(qe10, zOb 6 [.ref (ρ (6, St_ea σ a, 0)), .ref re11, .ref (ρ (0, 0, 0))]), (re11, zI G (St_n σ (St_ea σ a)) (St_ev σ b))]) := hD
  have hH1 : HC G s0 ρ σ H12 := hH1.ext0 hE hF
  have hS := hS1
  have hqq9 : H0.size ≤ qe10 := Nat.le_trans hsz9 (hN.2.2 0 _ rfl)
  have hrr9 : H0.size ≤ re11 := Nat.le_trans hsz9 (hN.2.2 1 _ rfl)
  have hvb := hH1.row (j := b) (by omega)
  have hEb := hH1.el (j := b) (by omega)
  rw [← hone] at hvb hEb
  have hea := hH1.ea (j := a) (by omega)
  have hea := hH1.ea (j := a) (by omega)
  have hkK := hH1.2.2.2.1 (St_ea σ a) hea
  have halK := hal (St_ea σ a) hea
  obtain ⟨hn16K, -⟩ := (hH1.ag hea).n
  refine lv_astore (lv' := [(5, .ref qe10), (4, .ref (ρ (13, b, 0))), (3, .ref (ρ (13, a, 0))), (0, .ref (ρ (0, 0, 0))), (1, .int (iI i)), (2, .int (iI j))]) hx hb dX1_turn_36 hl (by decide) rfl (fun ls hl => ?_)
  refine lv_aload hx hb dX1_turn_38 (lv_at hl 1 rfl) ?_
  refine z_getn hC (k := 0) rfl in_X7 hEb.1 (by decide) q323 (fun _ h => h) rfl dX1_turn_40 ?_
  refine z_getn hC (k := 2) rfl in_X5 hkK.1 (by decide) q961 (fun _ h => h) rfl dX1_turn_43 ?_
  obtain ⟨mdl, LL1⟩ := id (hH1.2.2.2.1 (St_ea σ a) hea).2.2.1
  have hszi : H0.size ≤ H12.size := hS.1
  refine z_go 7 47 (z_runV (As := []) (rest := []) hC hml hl.1 (m_J2_iterator hE H12 (hO.ext (zS_F hS) hMo) (ρ (9, St_ea σ a, 0)) (St_nm σ (St_ea σ a)) (fun i => ρ (15, St_ea σ a, i)) (ρ (10, St_ea σ a, 0)) mdl LL1) (lw_V q174 q175 q176 q65 q177) rfl nd_J2_iterator rfl (z_rv hC (ci := 8) rfl LL1.1 rfl) rfl (Nat.le_of_ble_eq_true rfl) ⟨Nat.le_of_ble_eq_true rfl, Nat.le_of_ble_eq_true rfl⟩ ⟨zfit (k := 1) (z := 100) rfl rfl (by omega), zfit (k := 4) (z := 1000) rfl rfl (by omega)⟩ dX1_turn_46) ⟨zad (k := 1) rfl (by omega), zad (k := 4) rfl (by omega)⟩ hS (fun _ z => z.elim) (fun r H14 locs hp hF hS1 => ?_)
  obtain ⟨it13, rfl, hN⟩ := hp
  obtain ⟨hP, hD⟩ := zjn hP hD hS.1 hF hN
  have hP : va_P G.1 zCl ([(qe10, zOb 6 [.ref (ρ (6, St_ea σ a, 0)), .ref re11, .ref (ρ (0, 0, 0))]), (re11, zI G (St_n σ (St_ea σ a)) (St_ev σ b)), (it13, zOb 9 [.int (iI 0), .int (iI (-1)), .int (iI mdl), .ref (ρ (9, St_ea σ a, 0))])]) H14 := hP
  have hD : va_D (zA (FC G ρ σ) H0) ([(qe10, zOb 6 [.ref (ρ (6, St_ea σ a, 0)), .ref re11, .ref (ρ (0, 0, 0))]), (re11, zI G (St_n σ (St_ea σ a)) (St_ev σ b)), (it13, zOb 9 [.int (iI 0), .int (iI (-1)), .int (iI mdl), .ref (ρ (9, St_ea σ a, 0))])]) := hD
  have hH1 : HC G s0 ρ σ H14 := hH1.ext0 hE hF
  have LL1 : zLs G (ρ (9, St_ea σ a, 0)) (St_nm σ (St_ea σ a)) (fun i => ρ (15, St_ea σ a, i)) (ρ (10, St_ea σ a, 0)) mdl H14 := LL1.ext0 hF
  have hS := hS1
  have hiq : H0.size ≤ it13 := Nat.le_trans hszi (hN.2.2 0 _ rfl)
  refine lv_astore (lv' := [(6, .ref it13), (5, .ref qe10), (4, .ref (ρ (13, b, 0))), (3, .ref (ρ (13, a, 0))), (0, .ref (ρ (0, 0, 0))), (1, .int (iI i)), (2, .int (iI j))]) hx hb dX1_turn_49 hl (by decide) rfl (fun ls hl => ?_)
  have hvb0 := hvb
  have lp15 : ∀ (dlp15 : Nat) (i9 : Nat) (rl : Int) (q9 : Nat) (r9 : Nat), St_nm σ (St_ea σ a) - i9 = dlp15 → (i9 ≤ St_nm σ (St_ea σ a)) → (H0.size ≤ q9 ∧ H0.size ≤ r9) → ∀ (H16 : Heap) (locs : List Loc) (ls : Array Slot), (HC G s0 ρ σ H16) → (zLs G (ρ (9, St_ea σ a, 0)) (St_nm σ (St_ea σ a)) (fun i => ρ (15, St_ea σ a, i)) (ρ (10, St_ea σ a, 0)) mdl H16) → va_P G.1 zCl ([(q9, zOb 6 [.ref (ρ (6, St_ea σ a, 0)), .ref r9, .ref (ρ (0, 0, 0))]), (r9, zI G (St_n σ (St_ea σ a)) (tuV σ (St_ea σ a) (St_ev σ b) (i9))), (it13, zOb 9 [.int (iI ((i9 : Nat) : Int)), .int (iI rl), .int (iI mdl), .ref (ρ (9, St_ea σ a, 0))])]) H16 → va_D (zA (FC G ρ σ) H0) ([(q9, zOb 6 [.ref (ρ (6, St_ea σ a, 0)), .ref r9, .ref (ρ (0, 0, 0))]), (r9, zI G (St_n σ (St_ea σ a)) (tuV σ (St_ea σ a) (St_ev σ b) (i9))), (it13, zOb 9 [.int (iI ((i9 : Nat) : Int)), .int (iI rl), .int (iI mdl), .ref (ρ (9, St_ea σ a, 0))])]) → va_S (zA (FC G ρ σ) H0) H0 H16 locs → lv_has ls 8 [(6, .ref it13), (5, .ref q9), (4, .ref (ρ (13, b, 0))), (3, .ref (ρ (13, a, 0))), (0, .ref (ρ (0, 0, 0))), (1, .int (iI i)), (2, .int (iI j))] → W pp l ee rm_m_X1_turn ss mm args below meth cd H16 locs (7 + 12 * i9) (47 + 120 * i9) Q (F0 mm 51 ls []) := by
    intro dlp15
    induction dlp15 using Nat.strongRecOn with
    | ind dlp15 ihlp15 =>
      intro i9 rl q9 r9 hdlp15 hi9 hqr H16 locs ls hH1 LL1 hP hD hS hl
      refine lv_aload hx hb dX1_turn_51 (lv_at hl 0 rfl) ?_
      refine z_go5 (7 + 12 * i9) (47 + 120 * i9) (z_runF (n := 0) (As := []) (rest := []) (ci := 9) hC hml hl.1 (m_J17_hasNext hE H16 (hO.ext (zS_F hS) hMo) (ρ (9, St_ea σ a, 0)) (St_nm σ (St_ea σ a)) (fun i => ρ (15, St_ea σ a, i)) (ρ (10, St_ea σ a, 0)) mdl it13 i9 rl LL1 (hP 2 _ rfl) (by omega)) q206 q198 q202 q204 q88 q200 q199 q205 q203 q201 ⟨by decide +kernel, by decide +kernel, by decide +kernel⟩ rfl rfl rfl (z_rv hC (ci := 9) rfl (hP 2 _ rfl) rfl) rfl (Nat.le_of_ble_eq_true rfl) ⟨Nat.le_of_ble_eq_true rfl, Nat.le_of_ble_eq_true rfl⟩ ⟨zfit (k := 0) (z := 100) rfl rfl (by omega), zfit (k := 0) (z := 1000) rfl rfl (by omega)⟩ dX1_turn_53) ⟨zad (k := 0) rfl (by omega), zad (k := 0) rfl (by omega)⟩ hS (fun _ z => z.elim) (fun r H17 locs hp hF hS1 => ?_)
      obtain ⟨_, rfl, rfl⟩ := hp
      have hP := zpk hP hF
      have hP : va_P G.1 zCl ([(q9, zOb 6 [.ref (ρ (6, St_ea σ a, 0)), .ref r9, .ref (ρ (0, 0, 0))]), (r9, zI G (St_n σ (St_ea σ a)) (tuV σ (St_ea σ a) (St_ev σ b) (i9))), (it13, zOb 9 [.int (iI ((i9 : Nat) : Int)), .int (iI rl), .int (iI mdl), .ref (ρ (9, St_ea σ a, 0))])]) H17 := hP
      have hD : va_D (zA (FC G ρ σ) H0) ([(q9, zOb 6 [.ref (ρ (6, St_ea σ a, 0)), .ref r9, .ref (ρ (0, 0, 0))]), (r9, zI G (St_n σ (St_ea σ a)) (tuV σ (St_ea σ a) (St_ev σ b) (i9))), (it13, zOb 9 [.int (iI ((i9 : Nat) : Int)), .int (iI rl), .int (iI mdl), .ref (ρ (9, St_ea σ a, 0))])]) := hD
      have hH1 : HC G s0 ρ σ H17 := hH1.ext0 hE hF
      have LL1 : zLs G (ρ (9, St_ea σ a, 0)) (St_nm σ (St_ea σ a)) (fun i => ρ (15, St_ea σ a, i)) (ρ (10, St_ea σ a, 0)) mdl H17 := LL1.ext0 hF
      have hS := hS1
      refine z_zeq (tgt := 85) hx hb dX1_turn_58 (by decide) (by split <;> omega) (fun c1 => ?_) (fun c1 => ?_)
      · have ei : i9 = St_nm σ (St_ea σ a) := by split at c1 <;> omega
        obtain ⟨hq9, hr9⟩ := id hqr
        refine lv_aload_n hx hb dX1_turn_85 rfl (lv_at hl 3 rfl) ?_
        refine lv_aload hx hb dX1_turn_86 (lv_at hl 1 rfl) ?_
        have hlt9 := hh.lt hE hO _ (domE 13 a (Or.inl rfl) (by omega))
        have hqn : q9 ≠ ρ (13, a, 0) := by omega
        have hH2 := hH1
        have hR2 := hP 1 _ rfl
        refine z_go (7 + 12 * i9) (47 + 120 * i9) (z_runS (As := [.ref (ρ (13, a, 0)), .ref q9]) (rest := []) hC hml hl.1 (m_X1_keep hE H17 (hO.ext (zS_F hS) hMo) ρ σ a q9 r9 (tuV σ (St_ea σ a) (St_ev σ b) (i9)) hH2 (by omega) ⟨hP 0 _ rfl, hP 1 _ rfl⟩ (tuV_ok hp hvb0 _) hqn) (lw_S q1155 q1156 q62 q1157) nd_X1_keep rfl rfl (Nat.le_of_ble_eq_true rfl) ⟨Nat.le_of_ble_eq_true rfl, Nat.le_of_ble_eq_true rfl⟩ ⟨zfit (k := 0) (z := 100) rfl rfl (by omega), zfit (k := 0) (z := 1000) rfl rfl (by omega)⟩ dX1_turn_88) ⟨zad (k := 0) rfl (by omega), zad (k := 0) rfl (by omega)⟩ hS (fun z hz => Or.inl (hz ▸ FC.in hE hh.sep (domE 13 a (Or.inl rfl) (by omega)) (by simp))) (fun r H18 locs hp hF hS1 => ?_)
        obtain ⟨_, rfl, rfl, hm9⟩ := hp
        have hP : va_P G.1 zCl [] H18 := va_nil
        have hD : va_D (zA (FC G ρ σ) H0) [] := va_nilD
        have hpo := hH2.keepP hE (show a < St_ne σ by omega) hF hm9 (zAt.ext hR2 hF (Ne.symm (z_noArr hE (ci := 6) (t := 0) rfl (hH2.el (j := a) (by omega)).1 rfl hR2))) hO hh hr9 (tuV_ok hp hvb0 _)
        have hP : va_P G.1 zCl ([]) H18 := hP
        have hD : va_D (zA (FC G ρ σ) H0) ([]) := hD
        have hS := hS1
        exact z_iret hC hrt hlk hQ hS ⟨zle (z := 100) rfl (by omega), zle (z := 1000) rfl (by omega)⟩ ⟨_, rfl, stEl σ a (tuV σ (St_ea σ a) (St_ev σ b) (i9)), ⟨a, b, ⟨by omega, by omega⟩, ⟨by omega, by omega⟩, hone, hkd1, by rw [ei], by rw [ei]⟩, hpo⟩ dX1_turn_91
      · have hin : i9 < St_nm σ (St_ea σ a) := by split at c1; assumption; omega
        refine lv_aload hx hb dX1_turn_61 (lv_at hl 0 rfl) ?_
        refine z_go5 (7 + 12 * i9) (47 + 120 * i9) (z_runF (n := 0) (As := []) (rest := []) (ci := 9) hC hml hl.1 (m_J17_next hE H17 (hO.ext (zS_F hS) hMo) (ρ (9, St_ea σ a, 0)) (St_nm σ (St_ea σ a)) (fun i => ρ (15, St_ea σ a, i)) (ρ (10, St_ea σ a, 0)) mdl it13 i9 rl (Nat.le_trans hO.1 hiq) ⟨(fun z => by have := hh.lt hE hO (9, St_ea σ a, 0) (domA 9 _ (by omega) hea0); omega), (fun z => by have := hh.lt hE hO (10, St_ea σ a, 0) (domA 10 _ (by omega) hea0); omega)⟩ LL1 (hP 2 _ rfl) (by omega)) q215 q208 q211 q213 q88 q210 q209 q214 q212 q201 ⟨by decide +kernel, by decide +kernel, by decide +kernel⟩ rfl rfl rfl (z_rv hC (ci := 9) rfl (hP 2 _ rfl) rfl) rfl (Nat.le_of_ble_eq_true rfl) ⟨Nat.le_of_ble_eq_true rfl, Nat.le_of_ble_eq_true rfl⟩ ⟨zfit (k := 0) (z := 100) rfl rfl (by omega), zfit (k := 0) (z := 1000) rfl rfl (by omega)⟩ dX1_turn_63) ⟨zad (k := 0) rfl (by omega), zad (k := 0) rfl (by omega)⟩ hS (fun q z => by subst z; exact hD.2 2 _ rfl) (fun r H19 locs hp hF hS1 => ?_)
        obtain ⟨_, rfl, rfl, hm⟩ := hp
        obtain ⟨hP, hD⟩ := zjm hP hD hF 2 rfl hm
        have hP : va_P G.1 zCl ([(q9, zOb 6 [.ref (ρ (6, St_ea σ a, 0)), .ref r9, .ref (ρ (0, 0, 0))]), (r9, zI G (St_n σ (St_ea σ a)) (tuV σ (St_ea σ a) (St_ev σ b) (i9))), (it13, zOb 9 [.int (iI ((i9 + 1 : Nat) : Int)), .int (iI ((i9 : Nat) : Int)), .int (iI mdl), .ref (ρ (9, St_ea σ a, 0))])]) H19 := hP
        have hD : va_D (zA (FC G ρ σ) H0) ([(q9, zOb 6 [.ref (ρ (6, St_ea σ a, 0)), .ref r9, .ref (ρ (0, 0, 0))]), (r9, zI G (St_n σ (St_ea σ a)) (tuV σ (St_ea σ a) (St_ev σ b) (i9))), (it13, zOb 9 [.int (iI ((i9 + 1 : Nat) : Int)), .int (iI ((i9 : Nat) : Int)), .int (iI mdl), .ref (ρ (9, St_ea σ a, 0))])]) := hD
        have hH1 : HC G s0 ρ σ H19 := hH1.ext hE hF (fun a9 ha9 _ z => by have := hh.lt hE hO a9 ha9; omega)
        have LL1 : zLs G (ρ (9, St_ea σ a, 0)) (St_nm σ (St_ea σ a)) (fun i => ρ (15, St_ea σ a, i)) (ρ (10, St_ea σ a, 0)) mdl H19 := LL1.ext hF (fun z => by have := hh.lt hE hO (9, St_ea σ a, 0) (domA 9 _ (by omega) hea0); omega) (fun _ z => by have := hh.lt hE hO (10, St_ea σ a, 0) (domA 10 _ (by omega) hea0); omega)
        have hS := hS1
        have hM9 := (hH1.2.2.2.1 (St_ea σ a) hea).2.2.2.2.2 i9 (by omega)
        have hmq9 := (hmr9 (St_ea σ a) hea).2.2 i9 (by omega)
        refine z_cast hC (ci := 6) rfl hM9.1 rfl q220 dX1_turn_68 ?_
        refine lv_astore (lv' := [(7, .ref (ρ (15, St_ea σ a, i9))), (6, .ref it13), (5, .ref q9), (4, .ref (ρ (13, b, 0))), (3, .ref (ρ (13, a, 0))), (0, .ref (ρ (0, 0, 0))), (1, .int (iI i)), (2, .int (iI j))]) hx hb dX1_turn_71 hl (by decide) rfl (fun ls hl => ?_)
        refine lv_aload hx hb dX1_turn_73 (lv_at hl 0 rfl) ?_
        refine lv_aload hx hb dX1_turn_75 (lv_at hl 2 rfl) ?_
        have hsz9 : H0.size ≤ H19.size := hS.1
        have hsz9 : H0.size ≤ H19.size := hS.1
        refine z_go ((7 + 12 * i9) + 8) ((47 + 120 * i9) + 76) (z_runV (As := [.ref q9]) (rest := []) hC hml hl.1 (m_X7_mirrored hE H19 (hO.ext (zS_F hS) hMo) (ρ (0, 0, 0)) (ρ (6, St_ea σ a, 0)) (St_p σ) (St_d σ (St_ea σ a)) (St_n σ (St_ea σ a)) (St_kd σ (St_ea σ a)) (St_dv σ (St_ea σ a)) (St_sg σ (St_ea σ a)) (ρ (15, St_ea σ a, i9)) (ρ (16, St_ea σ a, i9)) (St_mv σ (St_ea σ a) i9) q9 r9 (tuV σ (St_ea σ a) (St_ev σ b) (i9))  (hH1.ag (k := St_ea σ a) (by omega)) hM9 hmq9.1 ⟨hP 0 _ rfl, hP 1 _ rfl⟩ (tuV_ok hp hvb0 i9) hmq9.2) (lw_V q1360 q1361 q1362 q92 q1363) rfl nd_X7_mirrored rfl (z_rv hC (ci := 6) rfl hM9.1 rfl) rfl (Nat.le_of_ble_eq_true rfl) ⟨Nat.le_of_ble_eq_true rfl, Nat.le_of_ble_eq_true rfl⟩ ⟨zfit (k := 8) (z := 100) rfl rfl (by omega), zfit (k := 76) (z := 1000) rfl rfl (by omega)⟩ dX1_turn_77) ⟨zad (k := 8) rfl (by omega), zad (k := 76) rfl (by omega)⟩ hS (fun _ z => z.elim) (fun r H22 locs hp hF hS1 => ?_)
        obtain ⟨qe20, rfl, re21, hN⟩ := hp
        obtain ⟨hP, hD⟩ := zjn hP hD hS.1 hF hN
        have hP : va_P G.1 zCl ([(q9, zOb 6 [.ref (ρ (6, St_ea σ a, 0)), .ref r9, .ref (ρ (0, 0, 0))]), (r9, zI G (St_n σ (St_ea σ a)) (tuV σ (St_ea σ a) (St_ev σ b) (i9))), (it13, zOb 9 [.int (iI ((i9 + 1 : Nat) : Int)), .int (iI ((i9 : Nat) : Int)), .int (iI mdl), .ref (ρ (9, St_ea σ a, 0))]), (qe20, zOb 6 [.ref (ρ (6, St_ea σ a, 0)), .ref re21, .ref (ρ (0, 0, 0))]), (re21, zI G (St_n σ (St_ea σ a)) (tuV σ (St_ea σ a) (St_ev σ b) (i9 + 1)))]) H22 := hP
        have hD : va_D (zA (FC G ρ σ) H0) ([(q9, zOb 6 [.ref (ρ (6, St_ea σ a, 0)), .ref r9, .ref (ρ (0, 0, 0))]), (r9, zI G (St_n σ (St_ea σ a)) (tuV σ (St_ea σ a) (St_ev σ b) (i9))), (it13, zOb 9 [.int (iI ((i9 + 1 : Nat) : Int)), .int (iI ((i9 : Nat) : Int)), .int (iI mdl), .ref (ρ (9, St_ea σ a, 0))]), (qe20, zOb 6 [.ref (ρ (6, St_ea σ a, 0)), .ref re21, .ref (ρ (0, 0, 0))]), (re21, zI G (St_n σ (St_ea σ a)) (tuV σ (St_ea σ a) (St_ev σ b) (i9 + 1)))]) := hD
        have hH1 : HC G s0 ρ σ H22 := hH1.ext0 hE hF
        have LL1 : zLs G (ρ (9, St_ea σ a, 0)) (St_nm σ (St_ea σ a)) (fun i => ρ (15, St_ea σ a, i)) (ρ (10, St_ea σ a, 0)) mdl H22 := LL1.ext0 hF
        have hS := hS1
        refine lv_astore (lv' := [(5, .ref qe20), (7, .ref (ρ (15, St_ea σ a, i9))), (6, .ref it13), (4, .ref (ρ (13, b, 0))), (3, .ref (ρ (13, a, 0))), (0, .ref (ρ (0, 0, 0))), (1, .int (iI i)), (2, .int (iI j))]) hx hb dX1_turn_80 hl (by decide) rfl (fun ls hl => ?_)
        refine lv_goto (tgt := 51) hx hb dX1_turn_82 (by decide) ?_
        exact W.widen (by omega) (by omega) (ihlp15 (St_nm σ (St_ea σ a) - (i9 + 1)) (by omega) (i9 + 1) (i9 : Int) qe20 re21 rfl (by omega) (⟨Nat.le_trans hsz9 (hN.2.2 0 _ rfl), Nat.le_trans hsz9 (hN.2.2 1 _ rfl)⟩) _ _ _ hH1 LL1 (hP.sub [3, 4, 2] rfl) (hD.sub [3, 4, 2] (by decide) rfl) hS (lv_sub hl [2, 0, 3, 4, 5, 6, 7] rfl))
  exact W.widen (by omega) (by omega) (lp15 _ 0 (-1) qe10 re11 rfl (Nat.zero_le _) (⟨hqq9, hrr9⟩) _ _ _ hH1 LL1 hP hD hS hl)

abbrev rm_m_X1_versor : Room := { frames := 8, cells := 100, slots := 1000, locals := 132 }
set_option maxHeartbeats 4000000 in
theorem m_X1_versor {l : Launch} {s0 : State} {G : zG} (hE : zE l s0 G) (H0 : Heap) (hO : zO s0 H0) (ρ : Ro → Nat) (σ : St) (i : Int) (hh : HC G s0 ρ σ H0) (hi : zi i) : zMX l s0 yX1_versor cX1_versor 6 (some FieldType.int) rm_m_X1_versor [.ref (ρ (0, 0, 0)), .int (iI i)] H0 (FC G ρ σ) (HP G s0 H0 ρ σ (fun y σ' => ∃ a : Nat, (i = a ∧ a < St_ne σ) ∧ St_kd σ (St_ea σ a) = 1 ∧ σ' = stEl σ a (veV σ (St_ea σ a) (St_nm σ (St_ea σ a))) ∧ y = (szV (veV σ (St_ea σ a) (St_nm σ (St_ea σ a))) (St_n σ (St_ea σ a)) : Nat))) (HX G s0 ρ σ (X1s σ i (fun a => St_kd σ (St_ea σ a) ≠ 1))) := by
  refine z_metX hE (by decide +kernel) (Nat.le_of_ble_eq_true rfl) ?_
  intro pp ee ss mm args below meth cd Q ls hC hml hrt hlk hnm hH hQ hno hX hS hl
  have hx := hC.x
  have hb := hC.b
  have hl : lv_has ls 6 [(0, .ref (ρ (0, 0, 0))), (1, .int (iI i))] := hl
  have hP : va_P G.1 zCl [] H0 := va_nil
  have hD : va_D (zA (FC G ρ σ) H0) [] := va_nilD
  have hMo : ∀ z, FC G ρ σ z → s0.heap.size ≤ z := fun z hz => FC.ge hh.sep hz
  have hH1 := hh
  obtain ⟨hp, hna, hal, hne9, hel9, hmr9⟩ := id hh.ok
  have hp7 : 0 < St_p σ ∧ St_p σ ≤ 7 := by rcases hp with h | h | h <;> rw [h] <;> decide
  obtain ⟨sm9, -⟩ := id hh.2.2.1.1
  refine lv_aload_n hx hb dX1_versor_0 rfl (lv_at hl 0 rfl) ?_
  refine lv_iload_n hx hb dX1_versor_1 rfl (lv_at hl 1 rfl) ?_
  obtain ⟨sm, hxx⟩ := id hH1.2.2.1.1
  refine z_goX 1 6 (z_runVx (As := [.int (iI i)]) (rest := []) hC hml hl.1 (m_X1_elementAt hE H0 (hO.ext (zS_F hS) hMo) ρ σ i hH1 hi) (lw_V q1139 q1141 qs25 q62 q1142) rfl nd_X1_elementAt rfl (z_rv hC (ci := 0) rfl hxx rfl) rfl (Nat.le_of_ble_eq_true rfl) ⟨Nat.le_of_ble_eq_true rfl, Nat.le_of_ble_eq_true rfl⟩ ⟨zfit (k := 1) (z := 100) rfl rfl (by omega), zfit (k := 6) (z := 1000) rfl rfl (by omega)⟩ dX1_versor_2) ⟨zad (k := 1) rfl (by omega), zad (k := 6) rfl (by omega)⟩ hS (fun _ z => z.elim) (fun E ce q9 Hx1 locs hp hF hS1 hce hcv hcl => ?_) (fun r H2 locs hp hF hS1 => ?_)
  · exact z_out hno hlk hX hS1 ⟨zle (z := 100) rfl (by omega), zle (z := 1000) rfl (by omega)⟩ hce hcv hcl (⟨Or.inl ⟨hp.1, hp.2⟩, hH1.ext0 hE hF⟩)
  obtain ⟨_, rfl, a, ea9, ha9, rfl⟩ := hp
  have hP := zpk hP hF
  have hP : va_P G.1 zCl ([]) H2 := hP
  have hD : va_D (zA (FC G ρ σ) H0) ([]) := hD
  have hH1 : HC G s0 ρ σ H2 := hH1.ext0 hE hF
  have hS := hS1
  have ea9 : i.toNat = a := by omega
  have iE : inE σ i := by unfold inE; omega
  have hea0 := hh.ea (j := a) (by omega)
  have hnm9 := (hmr9 _ hea0).1
  have hva := hH1.row (j := a) (by omega)
  have hEa := hH1.el (j := a) (by omega)
  have heaa := hH1.ea (j := a) (by omega)
  obtain ⟨hn16a, -⟩ := (hH1.ag heaa).n
  refine lv_astore_n (lv' := [(2, .ref (ρ (13, a, 0))), (0, .ref (ρ (0, 0, 0))), (1, .int (iI i))]) hx hb dX1_versor_5 rfl hl (by decide) rfl (fun ls hl => ?_)
  refine lv_aload_n hx hb dX1_versor_6 rfl (lv_at hl 0 rfl) ?_
  refine z_getn hC (k := 0) rfl in_X7 hEa.1 (by decide) q323 (fun _ h => h) rfl dX1_versor_7 ?_
  have hea := hH1.ea (j := a) (by omega)
  have hkK := hH1.2.2.2.1 (St_ea σ a) hea
  have halK := hal (St_ea σ a) hea
  obtain ⟨hn16K, -⟩ := (hH1.ag hea).n
  refine z_go 1 6 (z_runV (As := []) (rest := []) hC hml hl.1 (m_X5_isBlades hE H2 (hO.ext (zS_F hS) hMo) (ρ (0, 0, 0)) (ρ (6, St_ea σ a, 0)) (St_p σ) (St_d σ (St_ea σ a)) (St_n σ (St_ea σ a)) (St_kd σ (St_ea σ a)) (St_dv σ (St_ea σ a)) (St_sg σ (St_ea σ a)) (hH1.ag hea)) (lw_V q434 q435 q436 q74 q437) rfl nd_X5_isBlades rfl (z_rv hC (ci := 4) rfl hkK.1 rfl) rfl (Nat.le_of_ble_eq_true rfl) ⟨Nat.le_of_ble_eq_true rfl, Nat.le_of_ble_eq_true rfl⟩ ⟨zfit (k := 0) (z := 100) rfl rfl (by omega), zfit (k := 0) (z := 1000) rfl rfl (by omega)⟩ dX1_versor_10) ⟨zad (k := 0) rfl (by omega), zad (k := 0) rfl (by omega)⟩ hS (fun _ z => z.elim) (fun r H3 locs hp hF hS1 => ?_)
  obtain ⟨_, rfl, rfl⟩ := hp
  have hP := zpk hP hF
  have hP : va_P G.1 zCl ([]) H3 := hP
  have hD : va_D (zA (FC G ρ σ) H0) ([]) := hD
  have hH1 : HC G s0 ρ σ H3 := hH1.ext0 hE hF
  have hS := hS1
  obtain ⟨fl, hfl, hfl2⟩ : ∃ fl : Nat, fl ≤ 1 ∧ (if St_kd σ (St_ea σ a) = 1 then (1 : Int) else 0) = fl ∧ (fl = 1 ↔ St_kd σ (St_ea σ a) = 1) := by by_cases h : St_kd σ (St_ea σ a) = 1; exact ⟨1, by decide, by rw [if_pos h]; rfl, by simp [h]⟩; exact ⟨0, by decide, by rw [if_neg h]; rfl, by simp [h]⟩
  refine z_top (b := ((fl : Nat) : Int)) (hfl2.1) ?_
  refine z_goX 2 12 (z_runSx (As := [.int (iI ((fl : Nat) : Int))]) (rest := []) hC hml hl.1 (m_X1_requireState hE H3 (hO.ext (zS_F hS) hMo) fl hfl) (lw_S q919 q920 q62 q921) nd_X1_requireState rfl rfl (Nat.le_of_ble_eq_true rfl) ⟨Nat.le_of_ble_eq_true rfl, Nat.le_of_ble_eq_true rfl⟩ ⟨zfit (k := 1) (z := 100) rfl rfl (by omega), zfit (k := 6) (z := 1000) rfl rfl (by omega)⟩ dX1_versor_13) ⟨zad (k := 1) rfl (by omega), zad (k := 6) rfl (by omega)⟩ hS (fun _ z => z.elim) (fun E ce q9 Hx4 locs hp hF hS1 hce hcv hcl => ?_) (fun r H5 locs hp hF hS1 => ?_)
  · exact z_out hno hlk hX hS1 ⟨zle (z := 100) rfl (by omega), zle (z := 1000) rfl (by omega)⟩ hce hcv hcl (⟨Or.inr ⟨hp.1, iE, by rw [ea9]; exact fun z => by have h9 := hfl2.2.mpr z; have h8 := hp.2; omega⟩, hH1.ext0 hE hF⟩)
  obtain ⟨rfl, hfl1⟩ := hp
  have hP := zpk hP hF
  have hP : va_P G.1 zCl ([]) H5 := hP
  have hD : va_D (zA (FC G ρ σ) H0) ([]) := hD
  have hH1 : HC G s0 ρ σ H5 := hH1.ext0 hE hF
  have hS := hS1
  have hkd1 := hfl2.2.mp hfl1
  have hva := hH1.row (j := a) (by omega)
  have hEa := hH1.el (j := a) (by omega)
  have heaa := hH1.ea (j := a) (by omega)
  obtain ⟨hn16a, -⟩ := (hH1.ag heaa).n
  refine lv_aload_n hx hb dX1_versor_16 rfl (lv_at hl 0 rfl) ?_
  have hsz9 : H0.size ≤ H5.size := hS.1
  refine z_go 4 31 (z_runVN (As := []) (rest := []) hC hml hl.1 (m_X7_one hE H5 (hO.ext (zS_F hS) hMo) (ρ (0, 0, 0)) (ρ (6, St_ea σ a, 0)) (St_p σ) (St_d σ (St_ea σ a)) (St_n σ (St_ea σ a)) (St_kd σ (St_ea σ a)) (St_dv σ (St_ea σ a)) (St_sg σ (St_ea σ a)) (ρ (13, a, 0)) (ρ (14, a, 0)) (St_ev σ a)  (hH1.ag (k := St_ea σ a) (by omega)) hEa hva ) q507 q92 q1379 q506 qs15 nd_X7_one rfl (z_rv hC (ci := 6) rfl hEa.1 rfl) rfl (Nat.le_of_ble_eq_true rfl) ⟨Nat.le_of_ble_eq_true rfl, Nat.le_of_ble_eq_true rfl⟩ ⟨zfit (k := 2) (z := 100) rfl rfl (by omega), zfit (k := 19) (z := 1000) rfl rfl (by omega)⟩ dX1_versor_17) ⟨zad (k := 2) rfl (by omega), zad (k := 19) rfl (by omega)⟩ hS (fun _ z => z.elim) (fun r H8 locs hp hF hS1 => ?_)
  obtain ⟨qe6, rfl, re7, hN⟩ := hp
  obtain ⟨hP, hD⟩ := zjn hP hD hS.1 hF hN
  have hP : va_P G.1 zCl ([(qe6, zOb 6 [.ref (ρ (6, St_ea σ a, 0)), .ref re7, .ref (ρ (0, 0, 0))]), (re7, zI G (St_n σ (St_ea σ a)) oneV)]) H8 := hP
  have hD : va_D (zA (FC G ρ σ) H0) ([(qe6, zOb 6 [.ref (ρ (6, St_ea σ a, 0)), .ref re7, .ref (ρ (0, 0, 0))]), (re7, zI G (St_n σ (St_ea σ a)) oneV)]) := hD
  have hH1 : HC G s0 ρ σ H8 := hH1.ext0 hE hF
  have hS := hS1
  have hqq9 : H0.size ≤ qe6 := Nat.le_trans hsz9 (hN.2.2 0 _ rfl)
  have hrr9 : H0.size ≤ re7 := Nat.le_trans hsz9 (hN.2.2 1 _ rfl)
  have hva := hH1.row (j := a) (by omega)
  have hEa := hH1.el (j := a) (by omega)
  have heaa := hH1.ea (j := a) (by omega)
  obtain ⟨hn16a, -⟩ := (hH1.ag heaa).n
  refine lv_astore_n (lv' := [(3, .ref qe6), (2, .ref (ρ (13, a, 0))), (0, .ref (ρ (0, 0, 0))), (1, .int (iI i))]) hx hb dX1_versor_20 rfl hl (by decide) rfl (fun ls hl => ?_)
  have hva := hH1.row (j := a) (by omega)
  have hEa := hH1.el (j := a) (by omega)
  have heaa := hH1.ea (j := a) (by omega)
  obtain ⟨hn16a, -⟩ := (hH1.ag heaa).n
  have hea := hH1.ea (j := a) (by omega)
  have hkK := hH1.2.2.2.1 (St_ea σ a) hea
  have halK := hal (St_ea σ a) hea
  obtain ⟨hn16K, -⟩ := (hH1.ag hea).n
  refine lv_aload_n hx hb dX1_versor_21 rfl (lv_at hl 1 rfl) ?_
  refine z_getn hC (k := 0) rfl in_X7 hEa.1 (by decide) q323 (fun _ h => h) rfl dX1_versor_22 ?_
  refine z_getn hC (k := 2) rfl in_X5 hkK.1 (by decide) q961 (fun _ h => h) rfl dX1_versor_25 ?_
  obtain ⟨mdl, LL1⟩ := id (hH1.2.2.2.1 (St_ea σ a) hea).2.2.1
  have hszi : H0.size ≤ H8.size := hS.1
  refine z_go 5 35 (z_runV (As := []) (rest := []) hC hml hl.1 (m_J2_iterator hE H8 (hO.ext (zS_F hS) hMo) (ρ (9, St_ea σ a, 0)) (St_nm σ (St_ea σ a)) (fun i => ρ (15, St_ea σ a, i)) (ρ (10, St_ea σ a, 0)) mdl LL1) (lw_V q174 q175 q176 q65 q177) rfl nd_J2_iterator rfl (z_rv hC (ci := 8) rfl LL1.1 rfl) rfl (Nat.le_of_ble_eq_true rfl) ⟨Nat.le_of_ble_eq_true rfl, Nat.le_of_ble_eq_true rfl⟩ ⟨zfit (k := 1) (z := 100) rfl rfl (by omega), zfit (k := 4) (z := 1000) rfl rfl (by omega)⟩ dX1_versor_28) ⟨zad (k := 1) rfl (by omega), zad (k := 4) rfl (by omega)⟩ hS (fun _ z => z.elim) (fun r H10 locs hp hF hS1 => ?_)
  obtain ⟨it9, rfl, hN⟩ := hp
  obtain ⟨hP, hD⟩ := zjn hP hD hS.1 hF hN
  have hP : va_P G.1 zCl ([(qe6, zOb 6 [.ref (ρ (6, St_ea σ a, 0)), .ref re7, .ref (ρ (0, 0, 0))]), (re7, zI G (St_n σ (St_ea σ a)) oneV), (it9, zOb 9 [.int (iI 0), .int (iI (-1)), .int (iI mdl), .ref (ρ (9, St_ea σ a, 0))])]) H10 := hP
  have hD : va_D (zA (FC G ρ σ) H0) ([(qe6, zOb 6 [.ref (ρ (6, St_ea σ a, 0)), .ref re7, .ref (ρ (0, 0, 0))]), (re7, zI G (St_n σ (St_ea σ a)) oneV), (it9, zOb 9 [.int (iI 0), .int (iI (-1)), .int (iI mdl), .ref (ρ (9, St_ea σ a, 0))])]) := hD
  have hH1 : HC G s0 ρ σ H10 := hH1.ext0 hE hF
  have LL1 : zLs G (ρ (9, St_ea σ a, 0)) (St_nm σ (St_ea σ a)) (fun i => ρ (15, St_ea σ a, i)) (ρ (10, St_ea σ a, 0)) mdl H10 := LL1.ext0 hF
  have hS := hS1
  have hiq : H0.size ≤ it9 := Nat.le_trans hszi (hN.2.2 0 _ rfl)
  refine lv_astore (lv' := [(4, .ref it9), (3, .ref qe6), (2, .ref (ρ (13, a, 0))), (0, .ref (ρ (0, 0, 0))), (1, .int (iI i))]) hx hb dX1_versor_31 hl (by decide) rfl (fun ls hl => ?_)
  have lp11 : ∀ (dlp11 : Nat) (i9 : Nat) (rl : Int) (q9 : Nat) (r9 : Nat), St_nm σ (St_ea σ a) - i9 = dlp11 → (i9 ≤ St_nm σ (St_ea σ a)) → (H0.size ≤ q9 ∧ H0.size ≤ r9) → ∀ (H12 : Heap) (locs : List Loc) (ls : Array Slot), (HC G s0 ρ σ H12) → (zLs G (ρ (9, St_ea σ a, 0)) (St_nm σ (St_ea σ a)) (fun i => ρ (15, St_ea σ a, i)) (ρ (10, St_ea σ a, 0)) mdl H12) → va_P G.1 zCl ([(q9, zOb 6 [.ref (ρ (6, St_ea σ a, 0)), .ref r9, .ref (ρ (0, 0, 0))]), (r9, zI G (St_n σ (St_ea σ a)) (veV σ (St_ea σ a) (i9))), (it9, zOb 9 [.int (iI ((i9 : Nat) : Int)), .int (iI rl), .int (iI mdl), .ref (ρ (9, St_ea σ a, 0))])]) H12 → va_D (zA (FC G ρ σ) H0) ([(q9, zOb 6 [.ref (ρ (6, St_ea σ a, 0)), .ref r9, .ref (ρ (0, 0, 0))]), (r9, zI G (St_n σ (St_ea σ a)) (veV σ (St_ea σ a) (i9))), (it9, zOb 9 [.int (iI ((i9 : Nat) : Int)), .int (iI rl), .int (iI mdl), .ref (ρ (9, St_ea σ a, 0))])]) → va_S (zA (FC G ρ σ) H0) H0 H12 locs → lv_has ls 6 [(4, .ref it9), (3, .ref q9), (2, .ref (ρ (13, a, 0))), (0, .ref (ρ (0, 0, 0))), (1, .int (iI i))] → W pp l ee rm_m_X1_versor ss mm args below meth cd H12 locs (5 + 12 * i9) (35 + 120 * i9) Q (F0 mm 33 ls []) := by
    intro dlp11
    induction dlp11 using Nat.strongRecOn with
    | ind dlp11 ihlp11 =>
      intro i9 rl q9 r9 hdlp11 hi9 hqr H12 locs ls hH1 LL1 hP hD hS hl
      refine lv_aload hx hb dX1_versor_33 (lv_at hl 0 rfl) ?_
      refine z_go5 (5 + 12 * i9) (35 + 120 * i9) (z_runF (n := 0) (As := []) (rest := []) (ci := 9) hC hml hl.1 (m_J17_hasNext hE H12 (hO.ext (zS_F hS) hMo) (ρ (9, St_ea σ a, 0)) (St_nm σ (St_ea σ a)) (fun i => ρ (15, St_ea σ a, i)) (ρ (10, St_ea σ a, 0)) mdl it9 i9 rl LL1 (hP 2 _ rfl) (by omega)) q206 q198 q202 q204 q88 q200 q199 q205 q203 q201 ⟨by decide +kernel, by decide +kernel, by decide +kernel⟩ rfl rfl rfl (z_rv hC (ci := 9) rfl (hP 2 _ rfl) rfl) rfl (Nat.le_of_ble_eq_true rfl) ⟨Nat.le_of_ble_eq_true rfl, Nat.le_of_ble_eq_true rfl⟩ ⟨zfit (k := 0) (z := 100) rfl rfl (by omega), zfit (k := 0) (z := 1000) rfl rfl (by omega)⟩ dX1_versor_35) ⟨zad (k := 0) rfl (by omega), zad (k := 0) rfl (by omega)⟩ hS (fun _ z => z.elim) (fun r H13 locs hp hF hS1 => ?_)
      obtain ⟨_, rfl, rfl⟩ := hp
      have hP := zpk hP hF
      have hP : va_P G.1 zCl ([(q9, zOb 6 [.ref (ρ (6, St_ea σ a, 0)), .ref r9, .ref (ρ (0, 0, 0))]), (r9, zI G (St_n σ (St_ea σ a)) (veV σ (St_ea σ a) (i9))), (it9, zOb 9 [.int (iI ((i9 : Nat) : Int)), .int (iI rl), .int (iI mdl), .ref (ρ (9, St_ea σ a, 0))])]) H13 := hP
      have hD : va_D (zA (FC G ρ σ) H0) ([(q9, zOb 6 [.ref (ρ (6, St_ea σ a, 0)), .ref r9, .ref (ρ (0, 0, 0))]), (r9, zI G (St_n σ (St_ea σ a)) (veV σ (St_ea σ a) (i9))), (it9, zOb 9 [.int (iI ((i9 : Nat) : Int)), .int (iI rl), .int (iI mdl), .ref (ρ (9, St_ea σ a, 0))])]) := hD
      have hH1 : HC G s0 ρ σ H13 := hH1.ext0 hE hF
      have LL1 : zLs G (ρ (9, St_ea σ a, 0)) (St_nm σ (St_ea σ a)) (fun i => ρ (15, St_ea σ a, i)) (ρ (10, St_ea σ a, 0)) mdl H13 := LL1.ext0 hF
      have hS := hS1
      refine z_zeq (tgt := 65) hx hb dX1_versor_40 (by decide) (by split <;> omega) (fun c1 => ?_) (fun c1 => ?_)
      · have ei : i9 = St_nm σ (St_ea σ a) := by split at c1 <;> omega
        obtain ⟨hq9, hr9⟩ := id hqr
        refine lv_aload_n hx hb dX1_versor_65 rfl (lv_at hl 2 rfl) ?_
        refine lv_aload_n hx hb dX1_versor_66 rfl (lv_at hl 1 rfl) ?_
        have hlt9 := hh.lt hE hO _ (domE 13 a (Or.inl rfl) (by omega))
        have hqn : q9 ≠ ρ (13, a, 0) := by omega
        have hH2 := hH1
        have hR2 := hP 1 _ rfl
        refine z_go (5 + 12 * i9) (35 + 120 * i9) (z_runS (As := [.ref (ρ (13, a, 0)), .ref q9]) (rest := []) hC hml hl.1 (m_X1_keep hE H13 (hO.ext (zS_F hS) hMo) ρ σ a q9 r9 (veV σ (St_ea σ a) (i9)) hH2 (by omega) ⟨hP 0 _ rfl, hP 1 _ rfl⟩ (veV_ok hp _) hqn) (lw_S q1155 q1156 q62 q1157) nd_X1_keep rfl rfl (Nat.le_of_ble_eq_true rfl) ⟨Nat.le_of_ble_eq_true rfl, Nat.le_of_ble_eq_true rfl⟩ ⟨zfit (k := 0) (z := 100) rfl rfl (by omega), zfit (k := 0) (z := 1000) rfl rfl (by omega)⟩ dX1_versor_67) ⟨zad (k := 0) rfl (by omega), zad (k := 0) rfl (by omega)⟩ hS (fun z hz => Or.inl (hz ▸ FC.in hE hh.sep (domE 13 a (Or.inl rfl) (by omega)) (by simp))) (fun r H14 locs hp hF hS1 => ?_)
        obtain ⟨_, rfl, rfl, hm9⟩ := hp
        have hP : va_P G.1 zCl [] H14 := va_nil
        have hD : va_D (zA (FC G ρ σ) H0) [] := va_nilD
        have hpo := hH2.keepP hE (show a < St_ne σ by omega) hF hm9 (zAt.ext hR2 hF (Ne.symm (z_noArr hE (ci := 6) (t := 0) rfl (hH2.el (j := a) (by omega)).1 rfl hR2))) hO hh hr9 (veV_ok hp _)
        have hP : va_P G.1 zCl ([]) H14 := hP
        have hD : va_D (zA (FC G ρ σ) H0) ([]) := hD
        have hS := hS1
        exact z_iret hC hrt hlk hQ hS ⟨zle (z := 100) rfl (by omega), zle (z := 1000) rfl (by omega)⟩ ⟨_, rfl, stEl σ a (veV σ (St_ea σ a) (i9)), ⟨a, ⟨by omega, by omega⟩, hkd1, by rw [ei], by rw [ei]⟩, hpo⟩ dX1_versor_70
      · have hin : i9 < St_nm σ (St_ea σ a) := by split at c1; assumption; omega
        refine lv_aload hx hb dX1_versor_43 (lv_at hl 0 rfl) ?_
        refine z_go5 (5 + 12 * i9) (35 + 120 * i9) (z_runF (n := 0) (As := []) (rest := []) (ci := 9) hC hml hl.1 (m_J17_next hE H13 (hO.ext (zS_F hS) hMo) (ρ (9, St_ea σ a, 0)) (St_nm σ (St_ea σ a)) (fun i => ρ (15, St_ea σ a, i)) (ρ (10, St_ea σ a, 0)) mdl it9 i9 rl (Nat.le_trans hO.1 hiq) ⟨(fun z => by have := hh.lt hE hO (9, St_ea σ a, 0) (domA 9 _ (by omega) hea0); omega), (fun z => by have := hh.lt hE hO (10, St_ea σ a, 0) (domA 10 _ (by omega) hea0); omega)⟩ LL1 (hP 2 _ rfl) (by omega)) q215 q208 q211 q213 q88 q210 q209 q214 q212 q201 ⟨by decide +kernel, by decide +kernel, by decide +kernel⟩ rfl rfl rfl (z_rv hC (ci := 9) rfl (hP 2 _ rfl) rfl) rfl (Nat.le_of_ble_eq_true rfl) ⟨Nat.le_of_ble_eq_true rfl, Nat.le_of_ble_eq_true rfl⟩ ⟨zfit (k := 0) (z := 100) rfl rfl (by omega), zfit (k := 0) (z := 1000) rfl rfl (by omega)⟩ dX1_versor_45) ⟨zad (k := 0) rfl (by omega), zad (k := 0) rfl (by omega)⟩ hS (fun q z => by subst z; exact hD.2 2 _ rfl) (fun r H15 locs hp hF hS1 => ?_)
        obtain ⟨_, rfl, rfl, hm⟩ := hp
        obtain ⟨hP, hD⟩ := zjm hP hD hF 2 rfl hm
        have hP : va_P G.1 zCl ([(q9, zOb 6 [.ref (ρ (6, St_ea σ a, 0)), .ref r9, .ref (ρ (0, 0, 0))]), (r9, zI G (St_n σ (St_ea σ a)) (veV σ (St_ea σ a) (i9))), (it9, zOb 9 [.int (iI ((i9 + 1 : Nat) : Int)), .int (iI ((i9 : Nat) : Int)), .int (iI mdl), .ref (ρ (9, St_ea σ a, 0))])]) H15 := hP
        have hD : va_D (zA (FC G ρ σ) H0) ([(q9, zOb 6 [.ref (ρ (6, St_ea σ a, 0)), .ref r9, .ref (ρ (0, 0, 0))]), (r9, zI G (St_n σ (St_ea σ a)) (veV σ (St_ea σ a) (i9))), (it9, zOb 9 [.int (iI ((i9 + 1 : Nat) : Int)), .int (iI ((i9 : Nat) : Int)), .int (iI mdl), .ref (ρ (9, St_ea σ a, 0))])]) := hD
        have hH1 : HC G s0 ρ σ H15 := hH1.ext hE hF (fun a9 ha9 _ z => by have := hh.lt hE hO a9 ha9; omega)
        have LL1 : zLs G (ρ (9, St_ea σ a, 0)) (St_nm σ (St_ea σ a)) (fun i => ρ (15, St_ea σ a, i)) (ρ (10, St_ea σ a, 0)) mdl H15 := LL1.ext hF (fun z => by have := hh.lt hE hO (9, St_ea σ a, 0) (domA 9 _ (by omega) hea0); omega) (fun _ z => by have := hh.lt hE hO (10, St_ea σ a, 0) (domA 10 _ (by omega) hea0); omega)
        have hS := hS1
        have hM9 := (hH1.2.2.2.1 (St_ea σ a) hea).2.2.2.2.2 i9 (by omega)
        have hmq9 := (hmr9 (St_ea σ a) hea).2.2 i9 (by omega)
        refine z_cast hC (ci := 6) rfl hM9.1 rfl q220 dX1_versor_50 ?_
        refine lv_astore (lv' := [(5, .ref (ρ (15, St_ea σ a, i9))), (4, .ref it9), (3, .ref q9), (2, .ref (ρ (13, a, 0))), (0, .ref (ρ (0, 0, 0))), (1, .int (iI i))]) hx hb dX1_versor_53 hl (by decide) rfl (fun ls hl => ?_)
        refine lv_aload hx hb dX1_versor_55 (lv_at hl 0 rfl) ?_
        refine lv_aload_n hx hb dX1_versor_57 rfl (lv_at hl 2 rfl) ?_
        have hsz9 : H0.size ≤ H15.size := hS.1
        have hsz9 : H0.size ≤ H15.size := hS.1
        refine z_go ((5 + 12 * i9) + 2) ((35 + 120 * i9) + 19) (z_runV (As := [.ref q9]) (rest := []) hC hml hl.1 (m_X7_times hE H15 (hO.ext (zS_F hS) hMo) (ρ (0, 0, 0)) (ρ (6, St_ea σ a, 0)) (St_p σ) (St_d σ (St_ea σ a)) (St_n σ (St_ea σ a)) (St_kd σ (St_ea σ a)) (St_dv σ (St_ea σ a)) (St_sg σ (St_ea σ a)) (ρ (15, St_ea σ a, i9)) (ρ (16, St_ea σ a, i9)) (St_mv σ (St_ea σ a) i9) q9 r9 (veV σ (St_ea σ a) (i9))  (hH1.ag (k := St_ea σ a) (by omega)) hM9 hmq9.1 ⟨hP 0 _ rfl, hP 1 _ rfl⟩ (veV_ok hp i9) ) (lw_V q512 q360 q361 q92 q362) rfl nd_X7_times rfl (z_rv hC (ci := 6) rfl hM9.1 rfl) rfl (Nat.le_of_ble_eq_true rfl) ⟨Nat.le_of_ble_eq_true rfl, Nat.le_of_ble_eq_true rfl⟩ ⟨zfit (k := 2) (z := 100) rfl rfl (by omega), zfit (k := 19) (z := 1000) rfl rfl (by omega)⟩ dX1_versor_58) ⟨zad (k := 2) rfl (by omega), zad (k := 19) rfl (by omega)⟩ hS (fun _ z => z.elim) (fun r H18 locs hp hF hS1 => ?_)
        obtain ⟨qe16, rfl, re17, hN⟩ := hp
        obtain ⟨hP, hD⟩ := zjn hP hD hS.1 hF hN
        have hP : va_P G.1 zCl ([(q9, zOb 6 [.ref (ρ (6, St_ea σ a, 0)), .ref r9, .ref (ρ (0, 0, 0))]), (r9, zI G (St_n σ (St_ea σ a)) (veV σ (St_ea σ a) (i9))), (it9, zOb 9 [.int (iI ((i9 + 1 : Nat) : Int)), .int (iI ((i9 : Nat) : Int)), .int (iI mdl), .ref (ρ (9, St_ea σ a, 0))]), (qe16, zOb 6 [.ref (ρ (6, St_ea σ a, 0)), .ref re17, .ref (ρ (0, 0, 0))]), (re17, zI G (St_n σ (St_ea σ a)) (veV σ (St_ea σ a) (i9 + 1)))]) H18 := hP
        have hD : va_D (zA (FC G ρ σ) H0) ([(q9, zOb 6 [.ref (ρ (6, St_ea σ a, 0)), .ref r9, .ref (ρ (0, 0, 0))]), (r9, zI G (St_n σ (St_ea σ a)) (veV σ (St_ea σ a) (i9))), (it9, zOb 9 [.int (iI ((i9 + 1 : Nat) : Int)), .int (iI ((i9 : Nat) : Int)), .int (iI mdl), .ref (ρ (9, St_ea σ a, 0))]), (qe16, zOb 6 [.ref (ρ (6, St_ea σ a, 0)), .ref re17, .ref (ρ (0, 0, 0))]), (re17, zI G (St_n σ (St_ea σ a)) (veV σ (St_ea σ a) (i9 + 1)))]) := hD
        have hH1 : HC G s0 ρ σ H18 := hH1.ext0 hE hF
        have LL1 : zLs G (ρ (9, St_ea σ a, 0)) (St_nm σ (St_ea σ a)) (fun i => ρ (15, St_ea σ a, i)) (ρ (10, St_ea σ a, 0)) mdl H18 := LL1.ext0 hF
        have hS := hS1
        refine lv_astore_n (lv' := [(3, .ref qe16), (5, .ref (ρ (15, St_ea σ a, i9))), (4, .ref it9), (2, .ref (ρ (13, a, 0))), (0, .ref (ρ (0, 0, 0))), (1, .int (iI i))]) hx hb dX1_versor_61 rfl hl (by decide) rfl (fun ls hl => ?_)
        refine lv_goto (tgt := 33) hx hb dX1_versor_62 (by decide) ?_
        exact W.widen (by omega) (by omega) (ihlp11 (St_nm σ (St_ea σ a) - (i9 + 1)) (by omega) (i9 + 1) (i9 : Int) qe16 re17 rfl (by omega) (⟨Nat.le_trans hsz9 (hN.2.2 0 _ rfl), Nat.le_trans hsz9 (hN.2.2 1 _ rfl)⟩) _ _ _ hH1 LL1 (hP.sub [3, 4, 2] rfl) (hD.sub [3, 4, 2] (by decide) rfl) hS (lv_sub hl [2, 0, 3, 4, 5] rfl))
  exact W.widen (by omega) (by omega) (lp11 _ 0 (-1) qe6 re7 rfl (Nat.zero_le _) (⟨hqq9, hrr9⟩) _ _ _ hH1 LL1 hP hD hS hl)

