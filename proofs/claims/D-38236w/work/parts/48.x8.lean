/-! THE HOUSE: through its lists -/
set_option maxRecDepth 100000
def ecV (σ : St) (k : Nat) : Nat → Nat
  | 0 => 0
  | j + 1 => ecV σ k j + if St_ea σ j = k then 1 else 0
theorem ecV_le (σ : St) (k : Nat) : ∀ j, ecV σ k j ≤ j
  | 0 => Nat.le_refl _
  | j + 1 => by have := ecV_le σ k j; simp only [ecV]; split <;> omega
def suN (f : Nat → Nat) : Nat → Nat
  | 0 => 0
  | j + 1 => suN f j + f j
theorem suN_le {f : Nat → Nat} {B : Nat} : ∀ {n : Nat}, (∀ j, j < n → f j ≤ B) → suN f n ≤ B * n
  | 0, _ => Nat.zero_le _
  | n + 1, h => by
    have h1 := suN_le (n := n) (fun j hj => h j (by omega))
    have h2 := h n (by omega)
    simp only [suN]
    rw [Nat.mul_succ]
    omega
abbrev rm_m_X1_elementsOf : Room := { frames := 3, cells := 1, slots := 4, locals := 61 }
set_option maxHeartbeats 4000000 in
theorem m_X1_elementsOf {l : Launch} {s0 : State} {G : zG} (hE : zE l s0 G) (H0 : Heap) (hO : zO s0 H0) (ρ : Ro → Nat) (σ : St) (k : Nat) (hh : HC G s0 ρ σ H0) (hk : k < St_na σ) : zM l s0 yX1_elementsOf cX1_elementsOf 5 (some FieldType.int) rm_m_X1_elementsOf [.ref (ρ (0, 0, 0)), .ref (ρ (6, k, 0))] H0 M0 (ri (fun y _ => y = (ecV σ k (St_ne σ) : Nat))) := by
  refine z_met hE (by decide +kernel) (Nat.le_of_ble_eq_true rfl) ?_
  intro pp ee ss mm args below meth cd Q ls hC hml hrt hlk hnm hH hQ hS hl
  have hx := hC.x
  have hb := hC.b
  have hl : lv_has ls 5 [(0, .ref (ρ (0, 0, 0))), (1, .ref (ρ (6, k, 0)))] := hl
  have hP : va_P G.1 zCl [] H0 := va_nil
  have hD : va_D (zA M0 H0) [] := va_nilD
  have hH1 := hh
  obtain ⟨hp, hna, hal, hne9, hel9, hmr9⟩ := id hh.ok
  have hp7 : 0 < St_p σ ∧ St_p σ ≤ 7 := by rcases hp with h | h | h <;> rw [h] <;> decide
  obtain ⟨sm9, -⟩ := id hh.2.2.1.1
  obtain ⟨sm, hxx⟩ := id hH1.2.2.1.1
  refine lv_iconst (v := iI 0) hx hb dX1_elementsOf_0 rfl ?_
  refine lv_istore_n (lv' := [(2, .int (iI 0)), (0, .ref (ρ (0, 0, 0))), (1, .ref (ρ (6, k, 0)))]) hx hb dX1_elementsOf_1 rfl hl (by decide) rfl (fun ls hl => ?_)
  refine lv_aload_n hx hb dX1_elementsOf_2 rfl (lv_at hl 1 rfl) ?_
  refine z_get hC (k := 2) rfl in_X1 hxx (by decide) q153 (fun _ h => h) rfl dX1_elementsOf_3 ?_
  obtain ⟨mdl, LL1⟩ := id hH1.2.2.1.2.2.1
  have hszi : H0.size ≤ H0.size := hS.1
  refine z_go 1 4 (z_runV (As := []) (rest := []) hC hml hl.1 (m_J2_iterator hE H0 (hO.ext0 (zS_F hS)) (ρ (3, 0, 0)) (St_ne σ) (fun j => ρ (13, j, 0)) (ρ (4, 0, 0)) mdl LL1) (lw_V q174 q175 q176 q65 q177) rfl nd_J2_iterator rfl (z_rv hC (ci := 8) rfl LL1.1 rfl) rfl (Nat.le_of_ble_eq_true rfl) ⟨Nat.le_of_ble_eq_true rfl, Nat.le_of_ble_eq_true rfl⟩ ⟨zfit (k := 1) (z := 1) rfl rfl (by omega), zfit (k := 4) (z := 4) rfl rfl (by omega)⟩ dX1_elementsOf_6) ⟨zad (k := 1) rfl (by omega), zad (k := 4) rfl (by omega)⟩ hS (fun _ z => z.elim) (fun r H2 locs hp hF hS1 => ?_)
  obtain ⟨it1, rfl, hN⟩ := hp
  obtain ⟨hP, hD⟩ := zjn hP hD hS.1 hF hN
  have hP : va_P G.1 zCl ([(it1, zOb 9 [.int (iI 0), .int (iI (-1)), .int (iI mdl), .ref (ρ (3, 0, 0))])]) H2 := hP
  have hD : va_D (zA M0 H0) ([(it1, zOb 9 [.int (iI 0), .int (iI (-1)), .int (iI mdl), .ref (ρ (3, 0, 0))])]) := hD
  have hH1 : HC G s0 ρ σ H2 := hH1.ext0 hE hF
  have LL1 : zLs G (ρ (3, 0, 0)) (St_ne σ) (fun j => ρ (13, j, 0)) (ρ (4, 0, 0)) mdl H2 := LL1.ext0 hF
  have hS := hS1
  have hiq : H0.size ≤ it1 := Nat.le_trans hszi (hN.2.2 0 _ rfl)
  refine lv_astore_n (lv' := [(3, .ref it1), (2, .int (iI 0)), (0, .ref (ρ (0, 0, 0))), (1, .ref (ρ (6, k, 0)))]) hx hb dX1_elementsOf_9 rfl hl (by decide) rfl (fun ls hl => ?_)
  have lp3 : ∀ (dlp3 : Nat) (i : Nat) (c : Nat) (rl : Int), St_ne σ - i = dlp3 → (i ≤ St_ne σ) → (c = ecV σ k i) → ∀ (H4 : Heap) (locs : List Loc) (ls : Array Slot), (HC G s0 ρ σ H4) → (zLs G (ρ (3, 0, 0)) (St_ne σ) (fun j => ρ (13, j, 0)) (ρ (4, 0, 0)) mdl H4) → va_P G.1 zCl ([(it1, zOb 9 [.int (iI ((i : Nat) : Int)), .int (iI rl), .int (iI mdl), .ref (ρ (3, 0, 0))])]) H4 → va_D (zA M0 H0) ([(it1, zOb 9 [.int (iI ((i : Nat) : Int)), .int (iI rl), .int (iI mdl), .ref (ρ (3, 0, 0))])]) → va_S (zA M0 H0) H0 H4 locs → lv_has ls 5 [(2, .int (iI ((c : Nat) : Int))), (3, .ref it1), (0, .ref (ρ (0, 0, 0))), (1, .ref (ρ (6, k, 0)))] → W pp l ee rm_m_X1_elementsOf ss mm args below meth cd H4 locs 1 4 Q (F0 mm 10 ls []) := by
    intro dlp3
    induction dlp3 using Nat.strongRecOn with
    | ind dlp3 ihlp3 =>
      intro i c rl hdlp3 hi9 hc H4 locs ls hH1 LL1 hP hD hS hl
      refine lv_aload_n hx hb dX1_elementsOf_10 rfl (lv_at hl 1 rfl) ?_
      refine z_go5 1 4 (z_runF (n := 0) (As := []) (rest := []) (ci := 9) hC hml hl.1 (m_J17_hasNext hE H4 (hO.ext0 (zS_F hS)) (ρ (3, 0, 0)) (St_ne σ) (fun j => ρ (13, j, 0)) (ρ (4, 0, 0)) mdl it1 i rl LL1 (hP 0 _ rfl) (by omega)) q206 q198 q202 q204 q88 q200 q199 q205 q203 q201 ⟨by decide +kernel, by decide +kernel, by decide +kernel⟩ rfl rfl rfl (z_rv hC (ci := 9) rfl (hP 0 _ rfl) rfl) rfl (Nat.le_of_ble_eq_true rfl) ⟨Nat.le_of_ble_eq_true rfl, Nat.le_of_ble_eq_true rfl⟩ ⟨zfit (k := 0) (z := 1) rfl rfl (by omega), zfit (k := 0) (z := 4) rfl rfl (by omega)⟩ dX1_elementsOf_11) ⟨zad (k := 0) rfl (by omega), zad (k := 0) rfl (by omega)⟩ hS (fun _ z => z.elim) (fun r H5 locs hp hF hS1 => ?_)
      obtain ⟨_, rfl, rfl⟩ := hp
      have hP := zpk hP hF
      have hP : va_P G.1 zCl ([(it1, zOb 9 [.int (iI ((i : Nat) : Int)), .int (iI rl), .int (iI mdl), .ref (ρ (3, 0, 0))])]) H5 := hP
      have hD : va_D (zA M0 H0) ([(it1, zOb 9 [.int (iI ((i : Nat) : Int)), .int (iI rl), .int (iI mdl), .ref (ρ (3, 0, 0))])]) := hD
      have hH1 : HC G s0 ρ σ H5 := hH1.ext0 hE hF
      have LL1 : zLs G (ρ (3, 0, 0)) (St_ne σ) (fun j => ρ (13, j, 0)) (ρ (4, 0, 0)) mdl H5 := LL1.ext0 hF
      have hS := hS1
      refine z_zeq (tgt := 50) hx hb dX1_elementsOf_16 (by decide) (by split <;> omega) (fun c1 => ?_) (fun c1 => ?_)
      · have ei : i = St_ne σ := by split at c1 <;> omega
        refine lv_iload_n hx hb dX1_elementsOf_50 rfl (lv_at hl 0 rfl) ?_
        exact z_iret hC hrt hlk hQ hS ⟨zle (z := 1) rfl (by omega), zle (z := 4) rfl (by omega)⟩ ⟨_, rfl, by rw [hc, ei]⟩ dX1_elementsOf_51
      · have hin : i < St_ne σ := by split at c1; assumption; omega
        refine lv_aload_n hx hb dX1_elementsOf_19 rfl (lv_at hl 1 rfl) ?_
        refine z_go5 1 4 (z_runF (n := 0) (As := []) (rest := []) (ci := 9) hC hml hl.1 (m_J17_next hE H5 (hO.ext0 (zS_F hS)) (ρ (3, 0, 0)) (St_ne σ) (fun j => ρ (13, j, 0)) (ρ (4, 0, 0)) mdl it1 i rl (Nat.le_trans hO.1 hiq) ⟨fun z => by have := hh.lt hE hO (3, 0, 0) (dom0 _ (by omega)); omega, fun z => by have := hh.lt hE hO (4, 0, 0) (dom0 _ (by omega)); omega⟩ LL1 (hP 0 _ rfl) (by omega)) q215 q208 q211 q213 q88 q210 q209 q214 q212 q201 ⟨by decide +kernel, by decide +kernel, by decide +kernel⟩ rfl rfl rfl (z_rv hC (ci := 9) rfl (hP 0 _ rfl) rfl) rfl (Nat.le_of_ble_eq_true rfl) ⟨Nat.le_of_ble_eq_true rfl, Nat.le_of_ble_eq_true rfl⟩ ⟨zfit (k := 0) (z := 1) rfl rfl (by omega), zfit (k := 0) (z := 4) rfl rfl (by omega)⟩ dX1_elementsOf_20) ⟨zad (k := 0) rfl (by omega), zad (k := 0) rfl (by omega)⟩ hS (fun q z => by subst z; exact hD.2 0 _ rfl) (fun r H6 locs hp hF hS1 => ?_)
        obtain ⟨_, rfl, rfl, hm⟩ := hp
        obtain ⟨hP, hD⟩ := zjm hP hD hF 0 rfl hm
        have hP : va_P G.1 zCl ([(it1, zOb 9 [.int (iI ((i + 1 : Nat) : Int)), .int (iI ((i : Nat) : Int)), .int (iI mdl), .ref (ρ (3, 0, 0))])]) H6 := hP
        have hD : va_D (zA M0 H0) ([(it1, zOb 9 [.int (iI ((i + 1 : Nat) : Int)), .int (iI ((i : Nat) : Int)), .int (iI mdl), .ref (ρ (3, 0, 0))])]) := hD
        have hH1 : HC G s0 ρ σ H6 := hH1.ext hE hF (fun a9 ha9 _ z => by have := hh.lt hE hO a9 ha9; omega)
        have LL1 : zLs G (ρ (3, 0, 0)) (St_ne σ) (fun j => ρ (13, j, 0)) (ρ (4, 0, 0)) mdl H6 := LL1.ext hF (fun z => by have := hh.lt hE hO (3, 0, 0) (dom0 _ (by omega)); omega) (fun _ z => by have := hh.lt hE hO (4, 0, 0) (dom0 _ (by omega)); omega)
        have hS := hS1
        have hel9 := hH1.el hin
        have hcl := ecV_le σ k i
        refine z_cast hC (ci := 6) rfl hel9.1 rfl q220 dX1_elementsOf_25 ?_
        refine lv_astore (lv' := [(4, .ref (ρ (13, i, 0))), (2, .int (iI ((c : Nat) : Int))), (3, .ref it1), (0, .ref (ρ (0, 0, 0))), (1, .ref (ρ (6, k, 0)))]) hx hb dX1_elementsOf_28 hl (by decide) rfl (fun ls hl => ?_)
        refine lv_iload_n hx hb dX1_elementsOf_30 rfl (lv_at hl 1 rfl) ?_
        refine lv_aload hx hb dX1_elementsOf_31 (lv_at hl 0 rfl) ?_
        refine z_getn hC (k := 0) rfl in_X7 hel9.1 (by decide) q323 (fun _ h => h) rfl dX1_elementsOf_33 ?_
        refine lv_aload_n hx hb dX1_elementsOf_36 rfl (lv_at hl 4 rfl) ?_
        refine z_ane (tgt := 44) hx hb dX1_elementsOf_37 (by decide)   (fun c2 => ?_) (fun c2 => ?_)
        · refine lv_iconst (v := iI 0) hx hb dX1_elementsOf_44 rfl ?_
          refine z_add hx hb (z := ((c : Nat) : Int) + 0) dX1_elementsOf_45 rfl ?_
          refine z_top (b := ((c + 0 : Nat) : Int)) (by omega) ?_
          refine lv_istore_n (lv' := [(2, .int (iI ((c + 0 : Nat) : Int))), (4, .ref (ρ (13, i, 0))), (3, .ref it1), (0, .ref (ρ (0, 0, 0))), (1, .ref (ρ (6, k, 0)))]) hx hb dX1_elementsOf_46 rfl hl (by decide) rfl (fun ls hl => ?_)
          refine lv_goto (tgt := 10) hx hb dX1_elementsOf_47 (by decide) ?_
          exact W.widen (by omega) (by omega) (ihlp3 (St_ne σ - (i + 1)) (by omega) (i + 1) (c + 0) (i : Int) rfl (by omega) (by simp only [ecV]; rw [if_neg (fun e => c2 (by rw [e]))]; omega) _ _ _ hH1 LL1 hP hD hS (lv_sub hl [0, 2, 3, 4] rfl))
        · refine lv_iconst (v := iI 1) hx hb dX1_elementsOf_40 rfl ?_
          refine lv_goto (tgt := 45) hx hb dX1_elementsOf_41 (by decide) ?_
          refine z_add hx hb (z := ((c : Nat) : Int) + 1) dX1_elementsOf_45 rfl ?_
          refine z_top (b := ((c + 1 : Nat) : Int)) (by omega) ?_
          refine lv_istore_n (lv' := [(2, .int (iI ((c + 1 : Nat) : Int))), (4, .ref (ρ (13, i, 0))), (3, .ref it1), (0, .ref (ρ (0, 0, 0))), (1, .ref (ρ (6, k, 0)))]) hx hb dX1_elementsOf_46 rfl hl (by decide) rfl (fun ls hl => ?_)
          refine lv_goto (tgt := 10) hx hb dX1_elementsOf_47 (by decide) ?_
          exact W.widen (by omega) (by omega) (ihlp3 (St_ne σ - (i + 1)) (by omega) (i + 1) (c + 1) (i : Int) rfl (by omega) (by simp only [ecV]; rw [if_pos (by have := hh.sep.2 _ _ (domA 6 _ (by omega) (hh.ea hin)) (domA 6 k (by omega) hk) c2 (hh.sep.n12 hE (domA 6 _ (by omega) (hh.ea hin)) (by simp)); simpa using this)]; omega) _ _ _ hH1 LL1 hP hD hS (lv_sub hl [0, 2, 3, 4] rfl))
  exact W.widen (by omega) (by omega) (lp3 _ 0 0 (-1) rfl (Nat.zero_le _) rfl _ _ _ hH1 LL1 hP hD hS (lv_sub hl [1, 0, 2, 3] rfl))

def oaV (σ : St) (k : Nat) : Nat → Int
  | 0 => (St_kd σ k : Nat)
  | 1 => (St_d σ k : Nat)
  | 2 => (St_n σ k : Nat)
  | 3 => (ecV σ k (St_ne σ) : Nat)
  | 4 => (ceV (St_sg σ k) (St_n σ k) (St_n σ k) : Nat)
  | _ => (St_nm σ k : Nat)
abbrev rm_m_X1_ofAlgebraNow_1 : Room := { frames := 3, cells := 0, slots := 0, locals := 64 }
set_option maxHeartbeats 4000000 in
theorem m_X1_ofAlgebraNow_1 {l : Launch} {s0 : State} {G : zG} (hE : zE l s0 G) (H0 : Heap) (hO : zO s0 H0) (ρ : Ro → Nat) (σ : St) (k : Nat) (hh : HC G s0 ρ σ H0) (hk : k < St_na σ) : zM l s0 yX1_ofAlgebraNow cX1_ofAlgebraNow 4 (some FieldType.int) rm_m_X1_ofAlgebraNow_1 [.ref (ρ (0, 0, 0)), .int (iI ((k : Nat) : Int)), .int (iI 1)] H0 M0 (ri (fun y _ => y = oaV σ k 1)) := by
  refine z_met hE (by decide +kernel) (Nat.le_of_ble_eq_true rfl) ?_
  intro pp ee ss mm args below meth cd Q ls hC hml hrt hlk hnm hH hQ hS hl
  have hx := hC.x
  have hb := hC.b
  have hl : lv_has ls 4 [(0, .ref (ρ (0, 0, 0))), (1, .int (iI ((k : Nat) : Int))), (2, .int (iI 1))] := hl
  have hP : va_P G.1 zCl [] H0 := va_nil
  have hD : va_D (zA M0 H0) [] := va_nilD
  have hH1 := hh
  obtain ⟨hp, hna, hal, hne9, hel9, hmr9⟩ := id hh.ok
  have hp7 : 0 < St_p σ ∧ St_p σ ≤ 7 := by rcases hp with h | h | h <;> rw [h] <;> decide
  obtain ⟨sm9, -⟩ := id hh.2.2.1.1
  obtain ⟨sm, hxx⟩ := id hH1.2.2.1.1
  refine lv_aload_n hx hb dX1_ofAlgebraNow_0 rfl (lv_at hl 0 rfl) ?_
  refine z_get hC (k := 1) rfl in_X1 hxx (by decide) q152 (fun _ h => h) rfl dX1_ofAlgebraNow_1 ?_
  refine lv_iload_n hx hb dX1_ofAlgebraNow_4 rfl (lv_at hl 1 rfl) ?_
  obtain ⟨mda, hLa⟩ := id hH1.2.2.1.2.1
  refine z_go 0 0 (z_runV (As := [.int (iI ((k : Nat) : Int))]) (rest := []) hC hml hl.1 (m_J2_get hE H0 (hO.ext0 (zS_F hS)) (ρ (1, 0, 0)) (St_na σ) (fun k => ρ (6, k, 0)) (ρ (2, 0, 0)) mda k hLa hk) (lw_V q372 q373 q374 q65 q375) rfl nd_J2_get rfl (z_rv hC (ci := 8) rfl hLa.1 rfl) rfl (Nat.le_of_ble_eq_true rfl) ⟨Nat.le_of_ble_eq_true rfl, Nat.le_of_ble_eq_true rfl⟩ ⟨zfit (k := 0) (z := 0) rfl rfl (by omega), zfit (k := 0) (z := 0) rfl rfl (by omega)⟩ dX1_ofAlgebraNow_5) ⟨zad (k := 0) rfl (by omega), zad (k := 0) rfl (by omega)⟩ hS (fun _ z => z.elim) (fun r H1 locs hp hF hS1 => ?_)
  obtain ⟨_, rfl, rfl⟩ := hp
  have hP := zpk hP hF
  have hP : va_P G.1 zCl ([]) H1 := hP
  have hD : va_D (zA M0 H0) ([]) := hD
  have hH1 : HC G s0 ρ σ H1 := hH1.ext0 hE hF
  have hS := hS1
  obtain ⟨sm, hxx⟩ := id hH1.2.2.1.1
  have hkk := hH1.2.2.2.1 k (by omega)
  have hAk := hH1.ag (k := k) (by omega)
  obtain ⟨hn16k, -⟩ := hAk.n
  have halk := hal k (by omega)
  refine z_cast hC (ci := 4) rfl hkk.1 rfl q296 dX1_ofAlgebraNow_8 ?_
  refine lv_astore_n (lv' := [(3, .ref (ρ (6, k, 0))), (0, .ref (ρ (0, 0, 0))), (1, .int (iI ((k : Nat) : Int))), (2, .int (iI 1))]) hx hb dX1_ofAlgebraNow_11 rfl hl (by decide) rfl (fun ls hl => ?_)
  refine lv_iload_n hx hb dX1_ofAlgebraNow_12 rfl (lv_at hl 3 rfl) ?_
  refine lv_tableIn (off := 43) (tgt := 56) hx hb dX1_ofAlgebraNow_13 (by decide) (by decide) rfl (by decide) ?_
  refine lv_aload_n hx hb dX1_ofAlgebraNow_56 rfl (lv_at hl 0 rfl) ?_
  refine z_getn hC (k := 1) rfl in_X5 hkk.1 (by decide) q959 (fun _ h => h) rfl dX1_ofAlgebraNow_57 ?_
  obtain ⟨mdd, hLd⟩ := hkk.2.1
  refine z_go 0 0 (z_runV (As := []) (rest := []) hC hml hl.1 (m_J2_size hE H1 (hO.ext0 (zS_F hS)) (ρ (7, k, 0)) (St_d σ k) _ (ρ (8, k, 0)) mdd hLd) (lw_V q229 q230 q231 q65 q232) rfl nd_J2_size rfl (z_rv hC (ci := 8) rfl hLd.1 rfl) rfl (Nat.le_of_ble_eq_true rfl) ⟨Nat.le_of_ble_eq_true rfl, Nat.le_of_ble_eq_true rfl⟩ ⟨zfit (k := 0) (z := 0) rfl rfl (by omega), zfit (k := 0) (z := 0) rfl rfl (by omega)⟩ dX1_ofAlgebraNow_60) ⟨zad (k := 0) rfl (by omega), zad (k := 0) rfl (by omega)⟩ hS (fun _ z => z.elim) (fun r H2 locs hp hF hS1 => ?_)
  obtain ⟨_, rfl, rfl⟩ := hp
  have hP := zpk hP hF
  have hP : va_P G.1 zCl ([]) H2 := hP
  have hD : va_D (zA M0 H0) ([]) := hD
  have hH1 : HC G s0 ρ σ H2 := hH1.ext0 hE hF
  have hS := hS1
  exact z_iret hC hrt hlk hQ hS ⟨zle (z := 0) rfl (by omega), zle (z := 0) rfl (by omega)⟩ ⟨_, rfl, rfl⟩ dX1_ofAlgebraNow_63

abbrev rm_m_X1_ofAlgebraNow_2 : Room := { frames := 3, cells := 0, slots := 0, locals := 64 }
set_option maxHeartbeats 4000000 in
theorem m_X1_ofAlgebraNow_2 {l : Launch} {s0 : State} {G : zG} (hE : zE l s0 G) (H0 : Heap) (hO : zO s0 H0) (ρ : Ro → Nat) (σ : St) (k : Nat) (hh : HC G s0 ρ σ H0) (hk : k < St_na σ) : zM l s0 yX1_ofAlgebraNow cX1_ofAlgebraNow 4 (some FieldType.int) rm_m_X1_ofAlgebraNow_2 [.ref (ρ (0, 0, 0)), .int (iI ((k : Nat) : Int)), .int (iI 2)] H0 M0 (ri (fun y _ => y = oaV σ k 2)) := by
  refine z_met hE (by decide +kernel) (Nat.le_of_ble_eq_true rfl) ?_
  intro pp ee ss mm args below meth cd Q ls hC hml hrt hlk hnm hH hQ hS hl
  have hx := hC.x
  have hb := hC.b
  have hl : lv_has ls 4 [(0, .ref (ρ (0, 0, 0))), (1, .int (iI ((k : Nat) : Int))), (2, .int (iI 2))] := hl
  have hP : va_P G.1 zCl [] H0 := va_nil
  have hD : va_D (zA M0 H0) [] := va_nilD
  have hH1 := hh
  obtain ⟨hp, hna, hal, hne9, hel9, hmr9⟩ := id hh.ok
  have hp7 : 0 < St_p σ ∧ St_p σ ≤ 7 := by rcases hp with h | h | h <;> rw [h] <;> decide
  obtain ⟨sm9, -⟩ := id hh.2.2.1.1
  obtain ⟨sm, hxx⟩ := id hH1.2.2.1.1
  refine lv_aload_n hx hb dX1_ofAlgebraNow_0 rfl (lv_at hl 0 rfl) ?_
  refine z_get hC (k := 1) rfl in_X1 hxx (by decide) q152 (fun _ h => h) rfl dX1_ofAlgebraNow_1 ?_
  refine lv_iload_n hx hb dX1_ofAlgebraNow_4 rfl (lv_at hl 1 rfl) ?_
  obtain ⟨mda, hLa⟩ := id hH1.2.2.1.2.1
  refine z_go 0 0 (z_runV (As := [.int (iI ((k : Nat) : Int))]) (rest := []) hC hml hl.1 (m_J2_get hE H0 (hO.ext0 (zS_F hS)) (ρ (1, 0, 0)) (St_na σ) (fun k => ρ (6, k, 0)) (ρ (2, 0, 0)) mda k hLa hk) (lw_V q372 q373 q374 q65 q375) rfl nd_J2_get rfl (z_rv hC (ci := 8) rfl hLa.1 rfl) rfl (Nat.le_of_ble_eq_true rfl) ⟨Nat.le_of_ble_eq_true rfl, Nat.le_of_ble_eq_true rfl⟩ ⟨zfit (k := 0) (z := 0) rfl rfl (by omega), zfit (k := 0) (z := 0) rfl rfl (by omega)⟩ dX1_ofAlgebraNow_5) ⟨zad (k := 0) rfl (by omega), zad (k := 0) rfl (by omega)⟩ hS (fun _ z => z.elim) (fun r H1 locs hp hF hS1 => ?_)
  obtain ⟨_, rfl, rfl⟩ := hp
  have hP := zpk hP hF
  have hP : va_P G.1 zCl ([]) H1 := hP
  have hD : va_D (zA M0 H0) ([]) := hD
  have hH1 : HC G s0 ρ σ H1 := hH1.ext0 hE hF
  have hS := hS1
  obtain ⟨sm, hxx⟩ := id hH1.2.2.1.1
  have hkk := hH1.2.2.2.1 k (by omega)
  have hAk := hH1.ag (k := k) (by omega)
  obtain ⟨hn16k, -⟩ := hAk.n
  have halk := hal k (by omega)
  refine z_cast hC (ci := 4) rfl hkk.1 rfl q296 dX1_ofAlgebraNow_8 ?_
  refine lv_astore_n (lv' := [(3, .ref (ρ (6, k, 0))), (0, .ref (ρ (0, 0, 0))), (1, .int (iI ((k : Nat) : Int))), (2, .int (iI 2))]) hx hb dX1_ofAlgebraNow_11 rfl hl (by decide) rfl (fun ls hl => ?_)
  refine lv_iload_n hx hb dX1_ofAlgebraNow_12 rfl (lv_at hl 3 rfl) ?_
  refine lv_tableIn (off := 51) (tgt := 64) hx hb dX1_ofAlgebraNow_13 (by decide) (by decide) rfl (by decide) ?_
  refine lv_aload_n hx hb dX1_ofAlgebraNow_64 rfl (lv_at hl 0 rfl) ?_
  refine z_go 0 0 (z_runV (As := []) (rest := []) hC hml hl.1 (m_X5_units hE H1 (hO.ext0 (zS_F hS)) (ρ (0, 0, 0)) (ρ (6, k, 0)) (St_p σ) (St_d σ k) (St_n σ k) (St_kd σ k) (St_dv σ k) (St_sg σ k)  (hH1.ag (k := k) (by omega)) ) (lw_V q297 q298 q299 q74 q300) rfl nd_X5_units rfl (z_rv hC (ci := 4) rfl hkk.1 rfl) rfl (Nat.le_of_ble_eq_true rfl) ⟨Nat.le_of_ble_eq_true rfl, Nat.le_of_ble_eq_true rfl⟩ ⟨zfit (k := 0) (z := 0) rfl rfl (by omega), zfit (k := 0) (z := 0) rfl rfl (by omega)⟩ dX1_ofAlgebraNow_65) ⟨zad (k := 0) rfl (by omega), zad (k := 0) rfl (by omega)⟩ hS (fun _ z => z.elim) (fun r H2 locs hp hF hS1 => ?_)
  obtain ⟨_, rfl, rfl⟩ := hp
  have hP := zpk hP hF
  have hP : va_P G.1 zCl ([]) H2 := hP
  have hD : va_D (zA M0 H0) ([]) := hD
  have hH1 : HC G s0 ρ σ H2 := hH1.ext0 hE hF
  have hS := hS1
  exact z_iret hC hrt hlk hQ hS ⟨zle (z := 0) rfl (by omega), zle (z := 0) rfl (by omega)⟩ ⟨_, rfl, rfl⟩ dX1_ofAlgebraNow_68

abbrev rm_m_X1_ofAlgebraNow_3 : Room := { frames := 4, cells := 1, slots := 4, locals := 85 }
set_option maxHeartbeats 4000000 in
theorem m_X1_ofAlgebraNow_3 {l : Launch} {s0 : State} {G : zG} (hE : zE l s0 G) (H0 : Heap) (hO : zO s0 H0) (ρ : Ro → Nat) (σ : St) (k : Nat) (hh : HC G s0 ρ σ H0) (hk : k < St_na σ) : zM l s0 yX1_ofAlgebraNow cX1_ofAlgebraNow 4 (some FieldType.int) rm_m_X1_ofAlgebraNow_3 [.ref (ρ (0, 0, 0)), .int (iI ((k : Nat) : Int)), .int (iI 3)] H0 M0 (ri (fun y _ => y = oaV σ k 3)) := by
  refine z_met hE (by decide +kernel) (Nat.le_of_ble_eq_true rfl) ?_
  intro pp ee ss mm args below meth cd Q ls hC hml hrt hlk hnm hH hQ hS hl
  have hx := hC.x
  have hb := hC.b
  have hl : lv_has ls 4 [(0, .ref (ρ (0, 0, 0))), (1, .int (iI ((k : Nat) : Int))), (2, .int (iI 3))] := hl
  have hP : va_P G.1 zCl [] H0 := va_nil
  have hD : va_D (zA M0 H0) [] := va_nilD
  have hH1 := hh
  obtain ⟨hp, hna, hal, hne9, hel9, hmr9⟩ := id hh.ok
  have hp7 : 0 < St_p σ ∧ St_p σ ≤ 7 := by rcases hp with h | h | h <;> rw [h] <;> decide
  obtain ⟨sm9, -⟩ := id hh.2.2.1.1
  obtain ⟨sm, hxx⟩ := id hH1.2.2.1.1
  refine lv_aload_n hx hb dX1_ofAlgebraNow_0 rfl (lv_at hl 0 rfl) ?_
  refine z_get hC (k := 1) rfl in_X1 hxx (by decide) q152 (fun _ h => h) rfl dX1_ofAlgebraNow_1 ?_
  refine lv_iload_n hx hb dX1_ofAlgebraNow_4 rfl (lv_at hl 1 rfl) ?_
  obtain ⟨mda, hLa⟩ := id hH1.2.2.1.2.1
  refine z_go 0 0 (z_runV (As := [.int (iI ((k : Nat) : Int))]) (rest := []) hC hml hl.1 (m_J2_get hE H0 (hO.ext0 (zS_F hS)) (ρ (1, 0, 0)) (St_na σ) (fun k => ρ (6, k, 0)) (ρ (2, 0, 0)) mda k hLa hk) (lw_V q372 q373 q374 q65 q375) rfl nd_J2_get rfl (z_rv hC (ci := 8) rfl hLa.1 rfl) rfl (Nat.le_of_ble_eq_true rfl) ⟨Nat.le_of_ble_eq_true rfl, Nat.le_of_ble_eq_true rfl⟩ ⟨zfit (k := 0) (z := 1) rfl rfl (by omega), zfit (k := 0) (z := 4) rfl rfl (by omega)⟩ dX1_ofAlgebraNow_5) ⟨zad (k := 0) rfl (by omega), zad (k := 0) rfl (by omega)⟩ hS (fun _ z => z.elim) (fun r H1 locs hp hF hS1 => ?_)
  obtain ⟨_, rfl, rfl⟩ := hp
  have hP := zpk hP hF
  have hP : va_P G.1 zCl ([]) H1 := hP
  have hD : va_D (zA M0 H0) ([]) := hD
  have hH1 : HC G s0 ρ σ H1 := hH1.ext0 hE hF
  have hS := hS1
  obtain ⟨sm, hxx⟩ := id hH1.2.2.1.1
  have hkk := hH1.2.2.2.1 k (by omega)
  have hAk := hH1.ag (k := k) (by omega)
  obtain ⟨hn16k, -⟩ := hAk.n
  have halk := hal k (by omega)
  refine z_cast hC (ci := 4) rfl hkk.1 rfl q296 dX1_ofAlgebraNow_8 ?_
  refine lv_astore_n (lv' := [(3, .ref (ρ (6, k, 0))), (0, .ref (ρ (0, 0, 0))), (1, .int (iI ((k : Nat) : Int))), (2, .int (iI 3))]) hx hb dX1_ofAlgebraNow_11 rfl hl (by decide) rfl (fun ls hl => ?_)
  refine lv_iload_n hx hb dX1_ofAlgebraNow_12 rfl (lv_at hl 3 rfl) ?_
  refine lv_tableIn (off := 56) (tgt := 69) hx hb dX1_ofAlgebraNow_13 (by decide) (by decide) rfl (by decide) ?_
  refine lv_aload_n hx hb dX1_ofAlgebraNow_69 rfl (lv_at hl 1 rfl) ?_
  refine lv_aload_n hx hb dX1_ofAlgebraNow_70 rfl (lv_at hl 0 rfl) ?_
  refine z_go 1 4 (z_runV (As := [.ref (ρ (6, k, 0))]) (rest := []) hC hml hl.1 (m_X1_elementsOf hE H1 (hO.ext0 (zS_F hS)) ρ σ k hH1 hk) (lw_V q393 q395 qs8 q62 q396) rfl nd_X1_elementsOf rfl (z_rv hC (ci := 0) rfl hxx rfl) rfl (Nat.le_of_ble_eq_true rfl) ⟨Nat.le_of_ble_eq_true rfl, Nat.le_of_ble_eq_true rfl⟩ ⟨zfit (k := 1) (z := 1) rfl rfl (by omega), zfit (k := 4) (z := 4) rfl rfl (by omega)⟩ dX1_ofAlgebraNow_71) ⟨zad (k := 1) rfl (by omega), zad (k := 4) rfl (by omega)⟩ hS (fun _ z => z.elim) (fun r H2 locs hp hF hS1 => ?_)
  obtain ⟨_, rfl, rfl⟩ := hp
  have hP := zpk hP hF
  have hP : va_P G.1 zCl ([]) H2 := hP
  have hD : va_D (zA M0 H0) ([]) := hD
  have hH1 : HC G s0 ρ σ H2 := hH1.ext0 hE hF
  have hS := hS1
  exact z_iret hC hrt hlk hQ hS ⟨zle (z := 1) rfl (by omega), zle (z := 4) rfl (by omega)⟩ ⟨_, rfl, rfl⟩ dX1_ofAlgebraNow_74

abbrev rm_m_X1_ofAlgebraNow_4 : Room := { frames := 3, cells := 0, slots := 0, locals := 64 }
set_option maxHeartbeats 4000000 in
theorem m_X1_ofAlgebraNow_4 {l : Launch} {s0 : State} {G : zG} (hE : zE l s0 G) (H0 : Heap) (hO : zO s0 H0) (ρ : Ro → Nat) (σ : St) (k : Nat) (hh : HC G s0 ρ σ H0) (hk : k < St_na σ) : zM l s0 yX1_ofAlgebraNow cX1_ofAlgebraNow 4 (some FieldType.int) rm_m_X1_ofAlgebraNow_4 [.ref (ρ (0, 0, 0)), .int (iI ((k : Nat) : Int)), .int (iI 4)] H0 M0 (ri (fun y _ => y = oaV σ k 4)) := by
  refine z_met hE (by decide +kernel) (Nat.le_of_ble_eq_true rfl) ?_
  intro pp ee ss mm args below meth cd Q ls hC hml hrt hlk hnm hH hQ hS hl
  have hx := hC.x
  have hb := hC.b
  have hl : lv_has ls 4 [(0, .ref (ρ (0, 0, 0))), (1, .int (iI ((k : Nat) : Int))), (2, .int (iI 4))] := hl
  have hP : va_P G.1 zCl [] H0 := va_nil
  have hD : va_D (zA M0 H0) [] := va_nilD
  have hH1 := hh
  obtain ⟨hp, hna, hal, hne9, hel9, hmr9⟩ := id hh.ok
  have hp7 : 0 < St_p σ ∧ St_p σ ≤ 7 := by rcases hp with h | h | h <;> rw [h] <;> decide
  obtain ⟨sm9, -⟩ := id hh.2.2.1.1
  obtain ⟨sm, hxx⟩ := id hH1.2.2.1.1
  refine lv_aload_n hx hb dX1_ofAlgebraNow_0 rfl (lv_at hl 0 rfl) ?_
  refine z_get hC (k := 1) rfl in_X1 hxx (by decide) q152 (fun _ h => h) rfl dX1_ofAlgebraNow_1 ?_
  refine lv_iload_n hx hb dX1_ofAlgebraNow_4 rfl (lv_at hl 1 rfl) ?_
  obtain ⟨mda, hLa⟩ := id hH1.2.2.1.2.1
  refine z_go 0 0 (z_runV (As := [.int (iI ((k : Nat) : Int))]) (rest := []) hC hml hl.1 (m_J2_get hE H0 (hO.ext0 (zS_F hS)) (ρ (1, 0, 0)) (St_na σ) (fun k => ρ (6, k, 0)) (ρ (2, 0, 0)) mda k hLa hk) (lw_V q372 q373 q374 q65 q375) rfl nd_J2_get rfl (z_rv hC (ci := 8) rfl hLa.1 rfl) rfl (Nat.le_of_ble_eq_true rfl) ⟨Nat.le_of_ble_eq_true rfl, Nat.le_of_ble_eq_true rfl⟩ ⟨zfit (k := 0) (z := 0) rfl rfl (by omega), zfit (k := 0) (z := 0) rfl rfl (by omega)⟩ dX1_ofAlgebraNow_5) ⟨zad (k := 0) rfl (by omega), zad (k := 0) rfl (by omega)⟩ hS (fun _ z => z.elim) (fun r H1 locs hp hF hS1 => ?_)
  obtain ⟨_, rfl, rfl⟩ := hp
  have hP := zpk hP hF
  have hP : va_P G.1 zCl ([]) H1 := hP
  have hD : va_D (zA M0 H0) ([]) := hD
  have hH1 : HC G s0 ρ σ H1 := hH1.ext0 hE hF
  have hS := hS1
  obtain ⟨sm, hxx⟩ := id hH1.2.2.1.1
  have hkk := hH1.2.2.2.1 k (by omega)
  have hAk := hH1.ag (k := k) (by omega)
  obtain ⟨hn16k, -⟩ := hAk.n
  have halk := hal k (by omega)
  refine z_cast hC (ci := 4) rfl hkk.1 rfl q296 dX1_ofAlgebraNow_8 ?_
  refine lv_astore_n (lv' := [(3, .ref (ρ (6, k, 0))), (0, .ref (ρ (0, 0, 0))), (1, .int (iI ((k : Nat) : Int))), (2, .int (iI 4))]) hx hb dX1_ofAlgebraNow_11 rfl hl (by decide) rfl (fun ls hl => ?_)
  refine lv_iload_n hx hb dX1_ofAlgebraNow_12 rfl (lv_at hl 3 rfl) ?_
  refine lv_tableIn (off := 62) (tgt := 75) hx hb dX1_ofAlgebraNow_13 (by decide) (by decide) rfl (by decide) ?_
  refine lv_aload_n hx hb dX1_ofAlgebraNow_75 rfl (lv_at hl 0 rfl) ?_
  refine z_go 0 0 (z_runV (As := []) (rest := []) hC hml hl.1 (m_X5_centre hE H1 (hO.ext0 (zS_F hS)) (ρ (0, 0, 0)) (ρ (6, k, 0)) (St_p σ) (St_d σ k) (St_n σ k) (St_kd σ k) (St_dv σ k) (St_sg σ k)  (hH1.ag (k := k) (by omega)) ) (lw_V q397 q398 q399 q74 q400) rfl nd_X5_centre rfl (z_rv hC (ci := 4) rfl hkk.1 rfl) rfl (Nat.le_of_ble_eq_true rfl) ⟨Nat.le_of_ble_eq_true rfl, Nat.le_of_ble_eq_true rfl⟩ ⟨zfit (k := 0) (z := 0) rfl rfl (by omega), zfit (k := 0) (z := 0) rfl rfl (by omega)⟩ dX1_ofAlgebraNow_76) ⟨zad (k := 0) rfl (by omega), zad (k := 0) rfl (by omega)⟩ hS (fun _ z => z.elim) (fun r H2 locs hp hF hS1 => ?_)
  obtain ⟨_, rfl, rfl⟩ := hp
  have hP := zpk hP hF
  have hP : va_P G.1 zCl ([]) H2 := hP
  have hD : va_D (zA M0 H0) ([]) := hD
  have hH1 : HC G s0 ρ σ H2 := hH1.ext0 hE hF
  have hS := hS1
  exact z_iret hC hrt hlk hQ hS ⟨zle (z := 0) rfl (by omega), zle (z := 0) rfl (by omega)⟩ ⟨_, rfl, rfl⟩ dX1_ofAlgebraNow_79

abbrev rm_m_X1_ofAlgebraNow_5 : Room := { frames := 3, cells := 0, slots := 0, locals := 64 }
set_option maxHeartbeats 4000000 in
theorem m_X1_ofAlgebraNow_5 {l : Launch} {s0 : State} {G : zG} (hE : zE l s0 G) (H0 : Heap) (hO : zO s0 H0) (ρ : Ro → Nat) (σ : St) (k : Nat) (hh : HC G s0 ρ σ H0) (hk : k < St_na σ) : zM l s0 yX1_ofAlgebraNow cX1_ofAlgebraNow 4 (some FieldType.int) rm_m_X1_ofAlgebraNow_5 [.ref (ρ (0, 0, 0)), .int (iI ((k : Nat) : Int)), .int (iI 5)] H0 M0 (ri (fun y _ => y = oaV σ k 5)) := by
  refine z_met hE (by decide +kernel) (Nat.le_of_ble_eq_true rfl) ?_
  intro pp ee ss mm args below meth cd Q ls hC hml hrt hlk hnm hH hQ hS hl
  have hx := hC.x
  have hb := hC.b
  have hl : lv_has ls 4 [(0, .ref (ρ (0, 0, 0))), (1, .int (iI ((k : Nat) : Int))), (2, .int (iI 5))] := hl
  have hP : va_P G.1 zCl [] H0 := va_nil
  have hD : va_D (zA M0 H0) [] := va_nilD
  have hH1 := hh
  obtain ⟨hp, hna, hal, hne9, hel9, hmr9⟩ := id hh.ok
  have hp7 : 0 < St_p σ ∧ St_p σ ≤ 7 := by rcases hp with h | h | h <;> rw [h] <;> decide
  obtain ⟨sm9, -⟩ := id hh.2.2.1.1
  obtain ⟨sm, hxx⟩ := id hH1.2.2.1.1
  refine lv_aload_n hx hb dX1_ofAlgebraNow_0 rfl (lv_at hl 0 rfl) ?_
  refine z_get hC (k := 1) rfl in_X1 hxx (by decide) q152 (fun _ h => h) rfl dX1_ofAlgebraNow_1 ?_
  refine lv_iload_n hx hb dX1_ofAlgebraNow_4 rfl (lv_at hl 1 rfl) ?_
  obtain ⟨mda, hLa⟩ := id hH1.2.2.1.2.1
  refine z_go 0 0 (z_runV (As := [.int (iI ((k : Nat) : Int))]) (rest := []) hC hml hl.1 (m_J2_get hE H0 (hO.ext0 (zS_F hS)) (ρ (1, 0, 0)) (St_na σ) (fun k => ρ (6, k, 0)) (ρ (2, 0, 0)) mda k hLa hk) (lw_V q372 q373 q374 q65 q375) rfl nd_J2_get rfl (z_rv hC (ci := 8) rfl hLa.1 rfl) rfl (Nat.le_of_ble_eq_true rfl) ⟨Nat.le_of_ble_eq_true rfl, Nat.le_of_ble_eq_true rfl⟩ ⟨zfit (k := 0) (z := 0) rfl rfl (by omega), zfit (k := 0) (z := 0) rfl rfl (by omega)⟩ dX1_ofAlgebraNow_5) ⟨zad (k := 0) rfl (by omega), zad (k := 0) rfl (by omega)⟩ hS (fun _ z => z.elim) (fun r H1 locs hp hF hS1 => ?_)
  obtain ⟨_, rfl, rfl⟩ := hp
  have hP := zpk hP hF
  have hP : va_P G.1 zCl ([]) H1 := hP
  have hD : va_D (zA M0 H0) ([]) := hD
  have hH1 : HC G s0 ρ σ H1 := hH1.ext0 hE hF
  have hS := hS1
  obtain ⟨sm, hxx⟩ := id hH1.2.2.1.1
  have hkk := hH1.2.2.2.1 k (by omega)
  have hAk := hH1.ag (k := k) (by omega)
  obtain ⟨hn16k, -⟩ := hAk.n
  have halk := hal k (by omega)
  refine z_cast hC (ci := 4) rfl hkk.1 rfl q296 dX1_ofAlgebraNow_8 ?_
  refine lv_astore_n (lv' := [(3, .ref (ρ (6, k, 0))), (0, .ref (ρ (0, 0, 0))), (1, .int (iI ((k : Nat) : Int))), (2, .int (iI 5))]) hx hb dX1_ofAlgebraNow_11 rfl hl (by decide) rfl (fun ls hl => ?_)
  refine lv_iload_n hx hb dX1_ofAlgebraNow_12 rfl (lv_at hl 3 rfl) ?_
  refine lv_tableOut (tgt := 80) hx hb dX1_ofAlgebraNow_13 (by decide) (by decide) ?_
  refine lv_aload_n hx hb dX1_ofAlgebraNow_80 rfl (lv_at hl 0 rfl) ?_
  refine z_getn hC (k := 2) rfl in_X5 hkk.1 (by decide) q961 (fun _ h => h) rfl dX1_ofAlgebraNow_81 ?_
  obtain ⟨mdm, hLm⟩ := hkk.2.2.1
  refine z_go 0 0 (z_runV (As := []) (rest := []) hC hml hl.1 (m_J2_size hE H1 (hO.ext0 (zS_F hS)) (ρ (9, k, 0)) (St_nm σ k) _ (ρ (10, k, 0)) mdm hLm) (lw_V q229 q230 q231 q65 q232) rfl nd_J2_size rfl (z_rv hC (ci := 8) rfl hLm.1 rfl) rfl (Nat.le_of_ble_eq_true rfl) ⟨Nat.le_of_ble_eq_true rfl, Nat.le_of_ble_eq_true rfl⟩ ⟨zfit (k := 0) (z := 0) rfl rfl (by omega), zfit (k := 0) (z := 0) rfl rfl (by omega)⟩ dX1_ofAlgebraNow_84) ⟨zad (k := 0) rfl (by omega), zad (k := 0) rfl (by omega)⟩ hS (fun _ z => z.elim) (fun r H2 locs hp hF hS1 => ?_)
  obtain ⟨_, rfl, rfl⟩ := hp
  have hP := zpk hP hF
  have hP : va_P G.1 zCl ([]) H2 := hP
  have hD : va_D (zA M0 H0) ([]) := hD
  have hH1 : HC G s0 ρ σ H2 := hH1.ext0 hE hF
  have hS := hS1
  exact z_iret hC hrt hlk hQ hS ⟨zle (z := 0) rfl (by omega), zle (z := 0) rfl (by omega)⟩ ⟨_, rfl, rfl⟩ dX1_ofAlgebraNow_87

