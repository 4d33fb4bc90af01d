/-! THE HOUSE: elements are told what they hold -/
set_option maxRecDepth 100000
abbrev rm_m_X1_keep : Room := { frames := 1, cells := 0, slots := 0, locals := 25 }
set_option maxHeartbeats 4000000 in
theorem m_X1_keep {l : Launch} {s0 : State} {G : zG} (hE : zE l s0 G) (H0 : Heap) (hO : zO s0 H0) (ρ : Ro → Nat) (σ : St) (e b rb : Nat) (w : Nat → Int) (hh : HC G s0 ρ σ H0) (he : e < St_ne σ) (hb1 : zEl G (ρ (0, 0, 0)) (ρ (6, St_ea σ e, 0)) b rb (St_n σ (St_ea σ e)) w H0) (hw : rw_ok (St_p σ) (St_n σ (St_ea σ e)) w) (hbn : b ≠ ρ (13, e, 0)) : zM l s0 yX1_keep cX1_keep 2 (some FieldType.int) rm_m_X1_keep [.ref (ρ (13, e, 0)), .ref b] H0 (fun z => z = ρ (13, e, 0)) (ri (fun y h1 => y = (szV w (St_n σ (St_ea σ e)) : Nat) ∧ zAt G (ρ (13, e, 0)) (zOb 6 [.ref (ρ (6, St_ea σ e, 0)), .ref rb, .ref (ρ (0, 0, 0))]) h1)) := by
  refine z_met hE (by decide +kernel) (Nat.le_of_ble_eq_true rfl) ?_
  intro pp ee ss mm args below meth cd Q ls hC hml hrt hlk hnm hH hQ hS hl
  have hx := hC.x
  have hb := hC.b
  have hl : lv_has ls 2 [(0, .ref (ρ (13, e, 0))), (1, .ref b)] := hl
  have hP : va_P G.1 zCl [((ρ (13, e, 0)), zOb 6 [.ref (ρ (6, St_ea σ e, 0)), .ref (ρ (14, e, 0)), .ref (ρ (0, 0, 0))])] H0 := zP1 (hh.el he).1
  have hD : va_D (zA (fun z => z = ρ (13, e, 0)) H0) [((ρ (13, e, 0)), zOb 6 [.ref (ρ (6, St_ea σ e, 0)), .ref (ρ (14, e, 0)), .ref (ρ (0, 0, 0))])] := zD1 (Or.inl rfl)
  have hMo : ∀ z, (fun z => z = ρ (13, e, 0)) z → s0.heap.size ≤ z := fun z hz => hz ▸ hh.sep.ge (domE 13 e (Or.inl rfl) he) (by simp)
  have hrn : rb ≠ ρ (13, e, 0) := Ne.symm (z_noArr hE (ci := 6) (t := 0) rfl (hh.el he).1 rfl hb1.2)
  have hA := hh.ag (hh.ea he)
  have hsz9 := szV_le w (St_n σ (St_ea σ e))
  obtain ⟨hn16, hp7⟩ := hA.n
  refine lv_aload_n hx hb dX1_keep_0 rfl (lv_at hl 0 rfl) ?_
  refine lv_aload_n hx hb dX1_keep_1 rfl (lv_at hl 1 rfl) ?_
  refine z_getn hC (k := 1) rfl in_X7 (zo hS hb1.1 hbn) (by decide) q325 (fun _ h => h) rfl dX1_keep_2 ?_
  refine z_putn hC hP hD hS 0 (k := 1) rfl rfl in_X7 tyX7_ok nmX7 (by decide) q325 (fun _ h => h) rfl rfl rfl rfl (Nat.le_of_ble_eq_true rfl) (ws' := [((ρ (13, e, 0)), zOb 6 [.ref (ρ (6, St_ea σ e, 0)), .ref rb, .ref (ρ (0, 0, 0))])]) rfl dX1_keep_5 (fun H1 locs hP hD hS => ?_)
  refine lv_aload_n hx hb dX1_keep_8 rfl (lv_at hl 0 rfl) ?_
  refine z_go 0 0 (z_runV (As := []) (rest := []) hC hml hl.1 (m_X7_size hE H1 (hO.ext (zS_F hS) hMo) (ρ (0, 0, 0)) (ρ (6, St_ea σ e, 0)) (St_p σ) (St_d σ (St_ea σ e)) (St_n σ (St_ea σ e)) (St_kd σ (St_ea σ e)) (St_dv σ (St_ea σ e)) (St_sg σ (St_ea σ e)) (ρ (13, e, 0)) rb w (hA.extq hE (hh.el he).1 (zS_F hS)) ⟨hP 0 _ rfl, zo hS hb1.2 hrn⟩ hw) (lw_V q221 q222 q223 q92 q224) rfl nd_X7_size rfl (z_rv hC (ci := 6) rfl (hP 0 _ rfl) rfl) rfl (Nat.le_of_ble_eq_true rfl) ⟨Nat.le_of_ble_eq_true rfl, Nat.le_of_ble_eq_true rfl⟩ ⟨zfit (k := 0) (z := 0) rfl rfl (by omega), zfit (k := 0) (z := 0) rfl rfl (by omega)⟩ dX1_keep_9) ⟨zad (k := 0) rfl (by omega), zad (k := 0) rfl (by omega)⟩ hS (fun _ z => z.elim) (fun r H2 locs hp hF hS1 => ?_)
  obtain ⟨_, rfl, rfl⟩ := hp
  have hP := zpk hP hF
  have hP : va_P G.1 zCl ([((ρ (13, e, 0)), zOb 6 [.ref (ρ (6, St_ea σ e, 0)), .ref rb, .ref (ρ (0, 0, 0))])]) H2 := hP
  have hD : va_D (zA (fun z => z = ρ (13, e, 0)) H0) ([((ρ (13, e, 0)), zOb 6 [.ref (ρ (6, St_ea σ e, 0)), .ref rb, .ref (ρ (0, 0, 0))])]) := hD
  have hS := hS1
  exact z_iret hC hrt hlk hQ hS ⟨zle (z := 0) rfl (by omega), zle (z := 0) rfl (by omega)⟩ ⟨_, rfl, rfl, hP 0 _ rfl⟩ dX1_keep_12

def IOB : String := "java/lang/IndexOutOfBoundsException"
def IAE : String := "java/lang/IllegalArgumentException"
def ISE : String := "java/lang/IllegalStateException"
def inE (σ : St) (i : Int) : Prop := 0 ≤ i ∧ i < (St_ne σ : Nat)
def inA (σ : St) (i : Int) : Prop := 0 ≤ i ∧ i < (St_na σ : Nat)
/-- what an operation of the house does: it answers y and the house is σ'; or it throws E and the house is as it was -/
def HP (G : zG) (s0 : State) (H0 : Heap) (ρ : Ro → Nat) (σ : St) (R : Int → St → Prop) : Option Value → Heap → Prop := ri (fun y h1 => ∃ σ', R y σ' ∧ PoC G s0 H0 ρ σ σ' h1)
def HX (G : zG) (s0 : State) (ρ : Ro → Nat) (σ : St) (X : String → Prop) : String → Heap → Prop := fun E h1 => X E ∧ HC G s0 ρ σ h1
/-- two-place operations on elements: the places, one algebra -/
def X3e (σ : St) (i j k : Int) (E : String) : Prop := (E = IOB ∧ ¬ (inE σ i ∧ inE σ j ∧ inE σ k)) ∨ (E = IAE ∧ inE σ i ∧ inE σ j ∧ inE σ k ∧ ¬ (St_ea σ i.toNat = St_ea σ j.toNat ∧ St_ea σ i.toNat = St_ea σ k.toNat))
abbrev rm_m_X1_sum : Room := { frames := 8, cells := 7, slots := 49, locals := 132 }
set_option maxHeartbeats 4000000 in
theorem m_X1_sum {l : Launch} {s0 : State} {G : zG} (hE : zE l s0 G) (H0 : Heap) (hO : zO s0 H0) (ρ : Ro → Nat) (σ : St) (i j k : Int) (hh : HC G s0 ρ σ H0) (hi : zi i ∧ zi j ∧ zi k) : zMX l s0 yX1_sum cX1_sum 7 (some FieldType.int) rm_m_X1_sum [.ref (ρ (0, 0, 0)), .int (iI i), .int (iI j), .int (iI k)] H0 (FC G ρ σ) (HP G s0 H0 ρ σ (fun y σ' => ∃ a b c : Nat, (i = a ∧ a < St_ne σ) ∧ (j = b ∧ b < St_ne σ) ∧ (k = c ∧ c < St_ne σ) ∧ (St_ea σ a = St_ea σ b ∧ St_ea σ a = St_ea σ c) ∧ σ' = stEl σ a (plV (St_p σ) 1 (St_ev σ b) (St_ev σ c)) ∧ y = (szV (plV (St_p σ) 1 (St_ev σ b) (St_ev σ c)) (St_n σ (St_ea σ a)) : Nat))) (HX G s0 ρ σ (X3e σ i j k)) := by
  refine z_metX hE (by decide +kernel) (Nat.le_of_ble_eq_true rfl) ?_
  intro pp ee ss mm args below meth cd Q ls hC hml hrt hlk hnm hH hQ hno hX hS hl
  have hx := hC.x
  have hb := hC.b
  have hl : lv_has ls 7 [(0, .ref (ρ (0, 0, 0))), (1, .int (iI i)), (2, .int (iI j)), (3, .int (iI k))] := hl
  have hP : va_P G.1 zCl [] H0 := va_nil
  have hD : va_D (zA (FC G ρ σ) H0) [] := va_nilD
  have hMo : ∀ z, FC G ρ σ z → s0.heap.size ≤ z := fun z hz => FC.ge hh.sep hz
  have hH1 := hh
  obtain ⟨hp, hna, hal, hne9, hel9, hmr9⟩ := id hh.ok
  have hp7 : 0 < St_p σ ∧ St_p σ ≤ 7 := by rcases hp with h | h | h <;> rw [h] <;> decide
  obtain ⟨sm9, -⟩ := id hh.2.2.1.1
  refine lv_aload_n hx hb dX1_sum_0 rfl (lv_at hl 0 rfl) ?_
  refine lv_iload_n hx hb dX1_sum_1 rfl (lv_at hl 1 rfl) ?_
  obtain ⟨sm, hxx⟩ := id hH1.2.2.1.1
  refine z_goX 1 6 (z_runVx (As := [.int (iI i)]) (rest := []) hC hml hl.1 (m_X1_elementAt hE H0 (hO.ext (zS_F hS) hMo) ρ σ i hH1 hi.1) (lw_V q1139 q1141 qs25 q62 q1142) rfl nd_X1_elementAt rfl (z_rv hC (ci := 0) rfl hxx rfl) rfl (Nat.le_of_ble_eq_true rfl) ⟨Nat.le_of_ble_eq_true rfl, Nat.le_of_ble_eq_true rfl⟩ ⟨zfit (k := 1) (z := 7) rfl rfl (by omega), zfit (k := 6) (z := 49) rfl rfl (by omega)⟩ dX1_sum_2) ⟨zad (k := 1) rfl (by omega), zad (k := 6) rfl (by omega)⟩ hS (fun _ z => z.elim) (fun E ce q9 Hx1 locs hp hF hS1 hce hcv hcl => ?_) (fun r H2 locs hp hF hS1 => ?_)
  · exact z_out hno hlk hX hS1 ⟨zle (z := 7) rfl (by omega), zle (z := 49) rfl (by omega)⟩ hce hcv hcl (⟨Or.inl ⟨hp.1, fun z => hp.2 z.1⟩, hH1.ext0 hE hF⟩)
  obtain ⟨_, rfl, a, ea9, ha9, rfl⟩ := hp
  have hP := zpk hP hF
  have hP : va_P G.1 zCl ([]) H2 := hP
  have hD : va_D (zA (FC G ρ σ) H0) ([]) := hD
  have hH1 : HC G s0 ρ σ H2 := hH1.ext0 hE hF
  have hS := hS1
  refine lv_astore (lv' := [(4, .ref (ρ (13, a, 0))), (0, .ref (ρ (0, 0, 0))), (1, .int (iI i)), (2, .int (iI j)), (3, .int (iI k))]) hx hb dX1_sum_5 hl (by decide) rfl (fun ls hl => ?_)
  refine lv_aload_n hx hb dX1_sum_7 rfl (lv_at hl 1 rfl) ?_
  refine lv_iload_n hx hb dX1_sum_8 rfl (lv_at hl 3 rfl) ?_
  obtain ⟨sm, hxx⟩ := id hH1.2.2.1.1
  refine z_goX 2 12 (z_runVx (As := [.int (iI j)]) (rest := []) hC hml hl.1 (m_X1_elementAt hE H2 (hO.ext (zS_F hS) hMo) ρ σ j hH1 hi.2.1) (lw_V q1139 q1141 qs25 q62 q1142) rfl nd_X1_elementAt rfl (z_rv hC (ci := 0) rfl hxx rfl) rfl (Nat.le_of_ble_eq_true rfl) ⟨Nat.le_of_ble_eq_true rfl, Nat.le_of_ble_eq_true rfl⟩ ⟨zfit (k := 1) (z := 7) rfl rfl (by omega), zfit (k := 6) (z := 49) rfl rfl (by omega)⟩ dX1_sum_9) ⟨zad (k := 1) rfl (by omega), zad (k := 6) rfl (by omega)⟩ hS (fun _ z => z.elim) (fun E ce q9 Hx3 locs hp hF hS1 hce hcv hcl => ?_) (fun r H4 locs hp hF hS1 => ?_)
  · exact z_out hno hlk hX hS1 ⟨zle (z := 7) rfl (by omega), zle (z := 49) rfl (by omega)⟩ hce hcv hcl (⟨Or.inl ⟨hp.1, fun z => hp.2 z.2.1⟩, hH1.ext0 hE hF⟩)
  obtain ⟨_, rfl, b, eb9, hb9, rfl⟩ := hp
  have hP := zpk hP hF
  have hP : va_P G.1 zCl ([]) H4 := hP
  have hD : va_D (zA (FC G ρ σ) H0) ([]) := hD
  have hH1 : HC G s0 ρ σ H4 := hH1.ext0 hE hF
  have hS := hS1
  refine lv_astore (lv' := [(5, .ref (ρ (13, b, 0))), (4, .ref (ρ (13, a, 0))), (0, .ref (ρ (0, 0, 0))), (1, .int (iI i)), (2, .int (iI j)), (3, .int (iI k))]) hx hb dX1_sum_12 hl (by decide) rfl (fun ls hl => ?_)
  refine lv_aload_n hx hb dX1_sum_14 rfl (lv_at hl 2 rfl) ?_
  refine lv_iload_n hx hb dX1_sum_15 rfl (lv_at hl 5 rfl) ?_
  obtain ⟨sm, hxx⟩ := id hH1.2.2.1.1
  refine z_goX 3 18 (z_runVx (As := [.int (iI k)]) (rest := []) hC hml hl.1 (m_X1_elementAt hE H4 (hO.ext (zS_F hS) hMo) ρ σ k hH1 hi.2.2) (lw_V q1139 q1141 qs25 q62 q1142) rfl nd_X1_elementAt rfl (z_rv hC (ci := 0) rfl hxx rfl) rfl (Nat.le_of_ble_eq_true rfl) ⟨Nat.le_of_ble_eq_true rfl, Nat.le_of_ble_eq_true rfl⟩ ⟨zfit (k := 1) (z := 7) rfl rfl (by omega), zfit (k := 6) (z := 49) rfl rfl (by omega)⟩ dX1_sum_16) ⟨zad (k := 1) rfl (by omega), zad (k := 6) rfl (by omega)⟩ hS (fun _ z => z.elim) (fun E ce q9 Hx5 locs hp hF hS1 hce hcv hcl => ?_) (fun r H6 locs hp hF hS1 => ?_)
  · exact z_out hno hlk hX hS1 ⟨zle (z := 7) rfl (by omega), zle (z := 49) rfl (by omega)⟩ hce hcv hcl (⟨Or.inl ⟨hp.1, fun z => hp.2 z.2.2⟩, hH1.ext0 hE hF⟩)
  obtain ⟨_, rfl, c, ec9, hc9, rfl⟩ := hp
  have hP := zpk hP hF
  have hP : va_P G.1 zCl ([]) H6 := hP
  have hD : va_D (zA (FC G ρ σ) H0) ([]) := hD
  have hH1 : HC G s0 ρ σ H6 := hH1.ext0 hE hF
  have hS := hS1
  refine lv_astore (lv' := [(6, .ref (ρ (13, c, 0))), (5, .ref (ρ (13, b, 0))), (4, .ref (ρ (13, a, 0))), (0, .ref (ρ (0, 0, 0))), (1, .int (iI i)), (2, .int (iI j)), (3, .int (iI k))]) hx hb dX1_sum_19 hl (by decide) rfl (fun ls hl => ?_)
  refine lv_aload_n hx hb dX1_sum_21 rfl (lv_at hl 3 rfl) ?_
  refine lv_aload hx hb dX1_sum_22 (lv_at hl 2 rfl) ?_
  refine lv_aload hx hb dX1_sum_24 (lv_at hl 1 rfl) ?_
  obtain ⟨sm, hxx⟩ := id hH1.2.2.1.1
  have ea9 : i.toNat = a := by omega
  have eb9 : j.toNat = b := by omega
  have ec9 : k.toNat = c := by omega
  refine z_goX 4 24 (z_runVx (As := [.ref (ρ (13, a, 0)), .ref (ρ (13, b, 0))]) (rest := []) hC hml hl.1 (m_X1_requireOne hE H6 (hO.ext (zS_F hS) hMo) ρ σ a b hH1 ⟨by omega, by omega⟩) (lw_V q1150 q1152 qs26 q62 q1153) rfl nd_X1_requireOne rfl (z_rv hC (ci := 0) rfl hxx rfl) rfl (Nat.le_of_ble_eq_true rfl) ⟨Nat.le_of_ble_eq_true rfl, Nat.le_of_ble_eq_true rfl⟩ ⟨zfit (k := 1) (z := 7) rfl rfl (by omega), zfit (k := 6) (z := 49) rfl rfl (by omega)⟩ dX1_sum_26) ⟨zad (k := 1) rfl (by omega), zad (k := 6) rfl (by omega)⟩ hS (fun _ z => z.elim) (fun E ce q9 Hx7 locs hp hF hS1 hce hcv hcl => ?_) (fun r H8 locs hp hF hS1 => ?_)
  · exact z_out hno hlk hX hS1 ⟨zle (z := 7) rfl (by omega), zle (z := 49) rfl (by omega)⟩ hce hcv hcl (⟨Or.inr ⟨hp.1, by unfold inE; omega, by unfold inE; omega, by unfold inE; omega, fun z => hp.2 (by rw [ea9, eb9] at z; exact z.1)⟩, hH1.ext0 hE hF⟩)
  obtain ⟨rfl, hone⟩ := hp
  have hP := zpk hP hF
  have hP : va_P G.1 zCl ([]) H8 := hP
  have hD : va_D (zA (FC G ρ σ) H0) ([]) := hD
  have hH1 : HC G s0 ρ σ H8 := hH1.ext0 hE hF
  have hS := hS1
  have hone1 := hone
  refine lv_aload_n hx hb dX1_sum_29 rfl (lv_at hl 3 rfl) ?_
  refine lv_aload hx hb dX1_sum_30 (lv_at hl 2 rfl) ?_
  refine lv_aload hx hb dX1_sum_32 (lv_at hl 0 rfl) ?_
  obtain ⟨sm, hxx⟩ := id hH1.2.2.1.1
  refine z_goX 5 30 (z_runVx (As := [.ref (ρ (13, a, 0)), .ref (ρ (13, c, 0))]) (rest := []) hC hml hl.1 (m_X1_requireOne hE H8 (hO.ext (zS_F hS) hMo) ρ σ a c hH1 ⟨by omega, by omega⟩) (lw_V q1150 q1152 qs26 q62 q1153) rfl nd_X1_requireOne rfl (z_rv hC (ci := 0) rfl hxx rfl) rfl (Nat.le_of_ble_eq_true rfl) ⟨Nat.le_of_ble_eq_true rfl, Nat.le_of_ble_eq_true rfl⟩ ⟨zfit (k := 1) (z := 7) rfl rfl (by omega), zfit (k := 6) (z := 49) rfl rfl (by omega)⟩ dX1_sum_34) ⟨zad (k := 1) rfl (by omega), zad (k := 6) rfl (by omega)⟩ hS (fun _ z => z.elim) (fun E ce q9 Hx9 locs hp hF hS1 hce hcv hcl => ?_) (fun r H10 locs hp hF hS1 => ?_)
  · exact z_out hno hlk hX hS1 ⟨zle (z := 7) rfl (by omega), zle (z := 49) rfl (by omega)⟩ hce hcv hcl (⟨Or.inr ⟨hp.1, by unfold inE; omega, by unfold inE; omega, by unfold inE; omega, fun z => hp.2 (by rw [ea9, ec9] at z; exact z.2)⟩, hH1.ext0 hE hF⟩)
  obtain ⟨rfl, hone⟩ := hp
  have hP := zpk hP hF
  have hP : va_P G.1 zCl ([]) H10 := hP
  have hD : va_D (zA (FC G ρ σ) H0) ([]) := hD
  have hH1 : HC G s0 ρ σ H10 := hH1.ext0 hE hF
  have hS := hS1
  have hone2 := hone
  refine lv_aload hx hb dX1_sum_37 (lv_at hl 2 rfl) ?_
  refine lv_aload hx hb dX1_sum_39 (lv_at hl 1 rfl) ?_
  refine lv_aload hx hb dX1_sum_41 (lv_at hl 0 rfl) ?_
  refine lv_iconst (v := iI 1) hx hb dX1_sum_43 rfl ?_
  have hvb := hH1.row (j := b) (by omega)
  have hvc := hH1.row (j := c) (by omega)
  have hEb := hH1.el (j := b) (by omega)
  have hEc := hH1.el (j := c) (by omega)
  rw [← hone1] at hvb hEb
  rw [← hone2] at hvc hEc
  have hea := hH1.ea (j := a) (by omega)
  have hsz9 : H0.size ≤ H10.size := hS.1
  refine z_go 7 49 (z_runV (As := [.ref (ρ (13, c, 0)), .int (iI 1)]) (rest := [.ref (ρ (13, a, 0))]) hC hml hl.1 (m_X7_plus hE H10 (hO.ext (zS_F hS) hMo) (ρ (0, 0, 0)) (ρ (6, St_ea σ a, 0)) (St_p σ) (St_d σ (St_ea σ a)) (St_n σ (St_ea σ a)) (St_kd σ (St_ea σ a)) (St_dv σ (St_ea σ a)) (St_sg σ (St_ea σ a)) (ρ (13, b, 0)) (ρ (14, b, 0)) (St_ev σ b) (ρ (13, c, 0)) (ρ (14, c, 0)) (St_ev σ c) 1 (hH1.ag (k := St_ea σ a) (by omega)) hEb hvb hEc hvc (by decide)) (lw_V q1154 q518 q519 q92 q520) rfl nd_X7_plus rfl (z_rv hC (ci := 6) rfl hEb.1 rfl) rfl (Nat.le_of_ble_eq_true rfl) ⟨Nat.le_of_ble_eq_true rfl, Nat.le_of_ble_eq_true rfl⟩ ⟨zfit (k := 2) (z := 7) rfl rfl (by omega), zfit (k := 19) (z := 49) rfl rfl (by omega)⟩ dX1_sum_44) ⟨zad (k := 2) rfl (by omega), zad (k := 19) rfl (by omega)⟩ hS (fun _ z => z.elim) (fun r H13 locs hp hF hS1 => ?_)
  obtain ⟨qe11, rfl, re12, hN⟩ := hp
  obtain ⟨hP, hD⟩ := zjn hP hD hS.1 hF hN
  have hP : va_P G.1 zCl ([(qe11, zOb 6 [.ref (ρ (6, St_ea σ a, 0)), .ref re12, .ref (ρ (0, 0, 0))]), (re12, zI G (St_n σ (St_ea σ a)) (plV (St_p σ) 1 (St_ev σ b) (St_ev σ c)))]) H13 := hP
  have hD : va_D (zA (FC G ρ σ) H0) ([(qe11, zOb 6 [.ref (ρ (6, St_ea σ a, 0)), .ref re12, .ref (ρ (0, 0, 0))]), (re12, zI G (St_n σ (St_ea σ a)) (plV (St_p σ) 1 (St_ev σ b) (St_ev σ c)))]) := hD
  have hH1 : HC G s0 ρ σ H13 := hH1.ext0 hE hF
  have hS := hS1
  have hDn : va_D (fun z => H0.size ≤ z) _ := va_D.weaken hN.2 (fun _ _ _ z => Nat.le_trans hsz9 z)
  have hq9 : H0.size ≤ qe11 := hDn.2 0 _ rfl
  have hr9 : H0.size ≤ re12 := hDn.2 1 _ rfl
  have hlt9 := hh.lt hE hO _ (domE 13 a (Or.inl rfl) (by omega))
  have hqn : qe11 ≠ ρ (13, a, 0) := by omega
  have hH2 := hH1
  have hR2 := hP 1 _ rfl
  refine z_go 7 49 (z_runS (As := [.ref (ρ (13, a, 0)), .ref qe11]) (rest := []) hC hml hl.1 (m_X1_keep hE H13 (hO.ext (zS_F hS) hMo) ρ σ a qe11 re12 (plV (St_p σ) 1 (St_ev σ b) (St_ev σ c)) hH2 (by omega) ⟨hP 0 _ rfl, hP 1 _ rfl⟩ (plV_ok hp _ _ _ _) hqn) (lw_S q1155 q1156 q62 q1157) nd_X1_keep rfl rfl (Nat.le_of_ble_eq_true rfl) ⟨Nat.le_of_ble_eq_true rfl, Nat.le_of_ble_eq_true rfl⟩ ⟨zfit (k := 0) (z := 7) rfl rfl (by omega), zfit (k := 0) (z := 49) rfl rfl (by omega)⟩ dX1_sum_47) ⟨zad (k := 0) rfl (by omega), zad (k := 0) rfl (by omega)⟩ hS (fun z hz => Or.inl (hz ▸ FC.in hE hh.sep (domE 13 a (Or.inl rfl) (by omega)) (by simp))) (fun r H14 locs hp hF hS1 => ?_)
  obtain ⟨_, rfl, rfl, hm9⟩ := hp
  have hP : va_P G.1 zCl [] H14 := va_nil
  have hD : va_D (zA (FC G ρ σ) H0) [] := va_nilD
  have hpo := hH2.keepP hE (show a < St_ne σ by omega) hF hm9 (zAt.ext hR2 hF (Ne.symm (z_noArr hE (ci := 6) (t := 0) rfl (hH2.el (j := a) (by omega)).1 rfl hR2))) hO hh hr9 (plV_ok hp _ _ _ _)
  have hP : va_P G.1 zCl ([]) H14 := hP
  have hD : va_D (zA (FC G ρ σ) H0) ([]) := hD
  have hS := hS1
  exact z_iret hC hrt hlk hQ hS ⟨zle (z := 7) rfl (by omega), zle (z := 49) rfl (by omega)⟩ ⟨_, rfl, stEl σ a (plV (St_p σ) 1 (St_ev σ b) (St_ev σ c)), ⟨a, b, c, ⟨by omega, by omega⟩, ⟨by omega, by omega⟩, ⟨by omega, by omega⟩, ⟨hone1, hone2⟩, rfl, rfl⟩, hpo⟩ dX1_sum_50

