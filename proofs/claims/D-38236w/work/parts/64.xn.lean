/-! THE HOUSE: it is told: prime, numbers, elements, algebras, dials -/
set_option maxRecDepth 100000
section IO
variable {p : Program} {l : Launch} {e : Env} {R : Room} {s : State} {m : MethodId} {args : Array Value} {below : List Frame} {meth : Method} {c : Code} {H : Heap} {locs : List Loc} {cells slots : Nat} {Q : State → Prop}
variable {cc : ByteArray} {pc : Nat} {ls : Array Slot} {rest : List Value} {s0 : State} {G : zG} {own : String} {A : Nat → Prop} {H0 : Heap} {ws : va_W}
theorem z_iastO (h : zC p l s0 G s m args c own cc) (hP : va_P G.1 zCl ws H) (hD : va_D A ws) (hS : va_S A H0 H locs) (q0 : Nat) {a n k : Nat} {v : Nat → Int} {x y : Int} {ws' : va_W} (ha : ws[q0]? = some (a, zI G n v)) (hx : x = (k : Int)) (hk : k < n ∧ n < 2147483648) (hw : ws.set q0 (a, zI G n (va_up v k y)) = ws') (d : decode cc pc = .ok (.iastore, 1))
    (kk : ∀ (H1 : Heap) (locs1 : List Loc), va_P G.1 zCl ws' H1 → va_D A ws' → va_S A H0 H1 locs1 → H1.size = H.size → (∀ z : Nat, z ≠ a → H1[z]? = H[z]?) → W p l e R s m args below meth c H1 locs1 cells slots Q (F0 m (pc + 1) ls rest)) : W p l e R s m args below meth c H locs cells slots Q (F0 m pc ls (.int (iI y) :: .int (iI x) :: .ref a :: rest)) := by
  subst hx
  have h1 : H[a]? = some (arrV (G.2 0) n (fun j => Value.int (iI (v j)))) := by
    have h2 : H[a]? = some (vp_cell (G.2 0) (n, .inl (fun j => iI (v j)))) := hP q0 _ ha
    rw [vp_cell_i] at h2; exact h2
  refine W.iast h.x h.b h1 ((h.k.2 0 _ rfl).1 n (fun j => .int (iI (v j)))) (fun q => by cases q) (by rw [arrV_size]; exact iI_in hk.1 hk.2) rfl rfl d (fun H1 e1 z1 o1 => ?_)
  rw [iI_cl (Nat.lt_trans hk.1 hk.2)] at e1 ⊢
  have he : zAt G a (zI G n (va_up v k y)) H1 := by
    show H1[a]? = some (vp_cell (G.2 0) (n, .inl (fun j => iI (va_up v k y j))))
    rw [e1, vp_cell_i, arrV_store]
    congr 2
    funext j
    by_cases hj : j = k
    · subst hj; simp [updV, va_up]
    · simp [updV, va_up, hj]
  subst hw
  exact kk H1 _ (hP.set hD ha he o1) (hD.set ha) (hS.put z1 o1 (hD.2 q0 _ ha)) z1 o1
end IO
theorem zF.one {a : Nat} {H H1 : Heap} (h1 : H1.size = H.size) (h2 : ∀ z : Nat, z ≠ a → H1[z]? = H[z]?) : zF (fun z => z = a) H H1 := ⟨by omega, fun q _ hq => h2 q hq⟩
/-- what is put on new cells and on others that are old keeps the new ones -/
theorem zkeep {G : zG} {M : Nat → Prop} {N : Nat} {H H1 : Heap} {ws : va_W} (hP : va_P G.1 zCl ws H) (hN : va_D (fun q => N ≤ q) ws) (hF : zF M H H1) (hM : ∀ z, M z → z < N) : va_P G.1 zCl ws H1 :=
  hP.kept (fun k x hx => hF.2 x.1 (hP k x hx).lt (fun z => by have h1 := hM _ z; have h2 : N ≤ x.1 := hN.2 k x hx; omega))
def XPr (σ : St) (z : Int) (E : String) : Prop := (E = IAE ∧ ¬ pr357 z) ∨ (E = ISE ∧ pr357 z ∧ St_na σ ≠ 0)
def XSet (σ : St) (i u z : Int) (E : String) : Prop := (E = IOB ∧ ¬ inE σ i) ∨ (E = IOB ∧ inE σ i ∧ ¬ (0 ≤ u ∧ u < (St_n σ (St_ea σ i.toNat) : Nat))) ∨ (E = IAE ∧ inE σ i ∧ (0 ≤ u ∧ u < (St_n σ (St_ea σ i.toNat) : Nat)) ∧ ¬ (0 ≤ z ∧ z < St_p σ))
def XNew (σ : St) (i : Int) (E : String) : Prop := (E = IOB ∧ ¬ inA σ i) ∨ (E = ISE ∧ inA σ i ∧ ¬ St_ne σ < 10)
def XAlg (σ : St) (z : Int) (E : String) : Prop := (E = IAE ∧ ¬ (0 ≤ z ∧ z ≤ 1)) ∨ (E = ISE ∧ (0 ≤ z ∧ z ≤ 1) ∧ ¬ St_na σ < 4)
def XDi (σ : St) (i z : Int) (E : String) : Prop := (E = IOB ∧ ¬ inA σ i) ∨ (E = IAE ∧ inA σ i ∧ ¬ (0 < z ∧ z < St_p σ)) ∨ (E = ISE ∧ inA σ i ∧ (0 < z ∧ z < St_p σ) ∧ ¬ (St_d σ i.toNat < 4 ∧ ecV σ i.toNat (St_ne σ) = 0))
abbrev rm_m_X1_prime : Room := { frames := 7, cells := 2, slots := 12, locals := 110 }
set_option maxHeartbeats 4000000 in
theorem m_X1_prime {l : Launch} {s0 : State} {G : zG} (hE : zE l s0 G) (H0 : Heap) (hO : zO s0 H0) (ρ : Ro → Nat) (σ : St) (z : Int) (hh : HC G s0 ρ σ H0) (hz : zi z) : zMX l s0 yX1_prime cX1_prime 3 (some FieldType.int) rm_m_X1_prime [.ref (ρ (0, 0, 0)), .int (iI z)] H0 (FC G ρ σ) (HP G s0 H0 ρ σ (fun y σ' => pr357 z ∧ St_na σ = 0 ∧ σ' = stP σ z ∧ y = St_p σ)) (HX G s0 ρ σ (XPr σ z)) := by
  refine z_metX hE (by decide +kernel) (Nat.le_of_ble_eq_true rfl) ?_
  intro pp ee ss mm args below meth cd Q ls hC hml hrt hlk hnm hH hQ hno hX hS hl
  have hx := hC.x
  have hb := hC.b
  have hl : lv_has ls 3 [(0, .ref (ρ (0, 0, 0))), (1, .int (iI z))] := hl
  have hP : va_P G.1 zCl [] H0 := va_nil
  have hD : va_D (zA (FC G ρ σ) H0) [] := va_nilD
  have hMo : ∀ z, FC G ρ σ z → s0.heap.size ≤ z := fun z hz => FC.ge hh.sep hz
  have hH1 := hh
  obtain ⟨hp, hna, hal, hne9, hel9, hmr9⟩ := id hh.ok
  have hp7 : 0 < St_p σ ∧ St_p σ ≤ 7 := by rcases hp with h | h | h <;> rw [h] <;> decide
  obtain ⟨sm9, -⟩ := id hh.2.2.1.1
  refine lv_iload_n hx hb dX1_prime_0 rfl (lv_at hl 1 rfl) ?_
  refine lv_iconst (v := iI 3) hx hb dX1_prime_1 rfl ?_
  refine z_ceq (tgt := 16) hx hb dX1_prime_2 (by decide) (by omega) (fun c1 => ?_) (fun c1 => ?_)
  · have hz9 : pr357 z := (show z = 3 ∨ z = 5 ∨ z = 7 by omega)
    refine lv_iconst (v := iI 1) hx hb dX1_prime_16 rfl ?_
    refine lv_goto (tgt := 21) hx hb dX1_prime_17 (by decide) ?_
    refine z_goX 1 6 (z_runSx (As := [.int (iI 1)]) (rest := []) hC hml hl.1 (m_X1_require hE H0 (hO.ext (zS_F hS) hMo) 1 (by decide)) (lw_S q905 q906 q62 q907) nd_X1_require rfl rfl (Nat.le_of_ble_eq_true rfl) ⟨Nat.le_of_ble_eq_true rfl, Nat.le_of_ble_eq_true rfl⟩ ⟨zfit (k := 1) (z := 2) rfl rfl (by omega), zfit (k := 6) (z := 12) rfl rfl (by omega)⟩ dX1_prime_21) ⟨zad (k := 1) rfl (by omega), zad (k := 6) rfl (by omega)⟩ hS (fun _ z => z.elim) (fun E ce q9 Hx2 locs hp hF hS1 hce hcv hcl => ?_) (fun r H3 locs hp hF hS1 => ?_)
    · exact z_out hno hlk hX hS1 ⟨zle (z := 2) rfl (by omega), zle (z := 12) rfl (by omega)⟩ hce hcv hcl (absurd hp.2 (by decide))
    obtain ⟨rfl, -⟩ := hp
    have hP := zpk hP hF
    have hP : va_P G.1 zCl ([]) H3 := hP
    have hD : va_D (zA (FC G ρ σ) H0) ([]) := hD
    have hH1 : HC G s0 ρ σ H3 := hH1.ext0 hE hF
    have hS := hS1
    obtain ⟨sm, hxx⟩ := id hH1.2.2.1.1
    refine lv_aload_n hx hb dX1_prime_24 rfl (lv_at hl 0 rfl) ?_
    refine z_get hC (k := 1) rfl in_X1 hxx (by decide) q152 (fun _ h => h) rfl dX1_prime_25 ?_
    obtain ⟨mda, hLa⟩ := id hH1.2.2.1.2.1
    refine z_go 1 6 (z_runV (As := []) (rest := []) hC hml hl.1 (m_J2_isEmpty hE H3 (hO.ext (zS_F hS) hMo) (ρ (1, 0, 0)) (St_na σ) (fun k => ρ (6, k, 0)) (ρ (2, 0, 0)) mda hLa) (lw_V q225 q226 q227 q65 q228) rfl nd_J2_isEmpty rfl (z_rv hC (ci := 8) rfl hLa.1 rfl) rfl (Nat.le_of_ble_eq_true rfl) ⟨Nat.le_of_ble_eq_true rfl, Nat.le_of_ble_eq_true rfl⟩ ⟨zfit (k := 0) (z := 2) rfl rfl (by omega), zfit (k := 0) (z := 12) rfl rfl (by omega)⟩ dX1_prime_28) ⟨zad (k := 0) rfl (by omega), zad (k := 0) rfl (by omega)⟩ hS (fun _ z => z.elim) (fun r H4 locs hp hF hS1 => ?_)
    obtain ⟨_, rfl, rfl⟩ := hp
    have hP := zpk hP hF
    have hP : va_P G.1 zCl ([]) H4 := hP
    have hD : va_D (zA (FC G ρ σ) H0) ([]) := hD
    have hH1 : HC G s0 ρ σ H4 := hH1.ext0 hE hF
    have hS := hS1
    obtain ⟨fl, hfl, hfl2⟩ : ∃ fl : Nat, fl ≤ 1 ∧ (if St_na σ = 0 then (1 : Int) else 0) = fl ∧ (fl = 1 ↔ St_na σ = 0) := by by_cases h : St_na σ = 0; exact ⟨1, by decide, by rw [if_pos h]; rfl, by simp [h]⟩; exact ⟨0, by decide, by rw [if_neg h]; rfl, by simp [h]⟩
    refine z_top (b := ((fl : Nat) : Int)) (hfl2.1) ?_
    refine z_goX 2 12 (z_runSx (As := [.int (iI ((fl : Nat) : Int))]) (rest := []) hC hml hl.1 (m_X1_requireState hE H4 (hO.ext (zS_F hS) hMo) fl hfl) (lw_S q919 q920 q62 q921) nd_X1_requireState rfl rfl (Nat.le_of_ble_eq_true rfl) ⟨Nat.le_of_ble_eq_true rfl, Nat.le_of_ble_eq_true rfl⟩ ⟨zfit (k := 1) (z := 2) rfl rfl (by omega), zfit (k := 6) (z := 12) rfl rfl (by omega)⟩ dX1_prime_31) ⟨zad (k := 1) rfl (by omega), zad (k := 6) rfl (by omega)⟩ hS (fun _ z => z.elim) (fun E ce q9 Hx5 locs hp hF hS1 hce hcv hcl => ?_) (fun r H6 locs hp hF hS1 => ?_)
    · exact z_out hno hlk hX hS1 ⟨zle (z := 2) rfl (by omega), zle (z := 12) rfl (by omega)⟩ hce hcv hcl (⟨Or.inr ⟨hp.1, hz9, fun w => by have h9 := hfl2.2.mpr w; have h8 := hp.2; omega⟩, hH1.ext0 hE hF⟩)
    obtain ⟨rfl, hfl1⟩ := hp
    have hP := zpk hP hF
    have hP : va_P G.1 zCl ([]) H6 := hP
    have hD : va_D (zA (FC G ρ σ) H0) ([]) := hD
    have hH1 : HC G s0 ρ σ H6 := hH1.ext0 hE hF
    have hS := hS1
    have hn0 := hfl2.2.mp hfl1
    obtain ⟨sm8, hx8⟩ := id hH1.2.2.1.1
    have hP : va_P G.1 zCl [((ρ (0, 0, 0)), zOb 0 [.int (iI (St_p σ)), .ref (ρ (1, 0, 0)), .ref (ρ (3, 0, 0)), .ref (ρ (5, 0, 0)), .int (iI ((St_kn σ : Nat) : Int)), .long (lI sm8)])] H6 := zP1 hx8
    have hD : va_D (zA (FC G ρ σ) H0) [((ρ (0, 0, 0)), zOb 0 [.int (iI (St_p σ)), .ref (ρ (1, 0, 0)), .ref (ρ (3, 0, 0)), .ref (ρ (5, 0, 0)), .int (iI ((St_kn σ : Nat) : Int)), .long (lI sm8)])] := zD1 (Or.inl (FC.in hE hh.sep (dom0 0 (by omega)) (by simp)))
    refine lv_aload_n hx hb dX1_prime_34 rfl (lv_at hl 0 rfl) ?_
    refine z_get hC (k := 0) rfl in_X1 (hP 0 _ rfl) (by decide) q149 (fun _ h => h) rfl dX1_prime_35 ?_
    refine lv_istore_n (lv' := [(2, .int (iI (St_p σ))), (0, .ref (ρ (0, 0, 0))), (1, .int (iI z))]) hx hb dX1_prime_38 rfl hl (by decide) rfl (fun ls hl => ?_)
    refine lv_aload_n hx hb dX1_prime_39 rfl (lv_at hl 1 rfl) ?_
    refine lv_iload_n hx hb dX1_prime_40 rfl (lv_at hl 2 rfl) ?_
    refine z_putO hC hP hD hS 0 (k := 0) rfl rfl in_X1 tyX1_ok nmX1 (by decide) q149 (fun _ h => h) rfl rfl rfl rfl (Nat.le_of_ble_eq_true rfl) (ws' := [((ρ (0, 0, 0)), zOb 0 [.int (iI z), .ref (ρ (1, 0, 0)), .ref (ρ (3, 0, 0)), .ref (ρ (5, 0, 0)), .int (iI ((St_kn σ : Nat) : Int)), .long (lI sm8)])]) rfl dX1_prime_41 (fun H7 locs hP hD hS hZ1 hZ2 => ?_)
    have hpo := hH1.prime hE hz9 hn0 (zF.one hZ1 hZ2) (hP 0 _ rfl)
    refine lv_iload_n hx hb dX1_prime_44 rfl (lv_at hl 0 rfl) ?_
    exact z_iret hC hrt hlk hQ hS ⟨zle (z := 2) rfl (by omega), zle (z := 12) rfl (by omega)⟩ ⟨_, rfl, stP σ z, ⟨hz9, hn0, rfl, rfl⟩, ρ, hpo, ⟨rfl, rfl⟩, fun _ w => Or.inl w⟩ dX1_prime_45
  · refine lv_iload_n hx hb dX1_prime_5 rfl (lv_at hl 1 rfl) ?_
    refine lv_iconst (v := iI 5) hx hb dX1_prime_6 rfl ?_
    refine z_ceq (tgt := 16) hx hb dX1_prime_7 (by decide) (by omega) (fun c8 => ?_) (fun c8 => ?_)
    · have hz9 : pr357 z := (show z = 3 ∨ z = 5 ∨ z = 7 by omega)
      refine lv_iconst (v := iI 1) hx hb dX1_prime_16 rfl ?_
      refine lv_goto (tgt := 21) hx hb dX1_prime_17 (by decide) ?_
      refine z_goX 1 6 (z_runSx (As := [.int (iI 1)]) (rest := []) hC hml hl.1 (m_X1_require hE H0 (hO.ext (zS_F hS) hMo) 1 (by decide)) (lw_S q905 q906 q62 q907) nd_X1_require rfl rfl (Nat.le_of_ble_eq_true rfl) ⟨Nat.le_of_ble_eq_true rfl, Nat.le_of_ble_eq_true rfl⟩ ⟨zfit (k := 1) (z := 2) rfl rfl (by omega), zfit (k := 6) (z := 12) rfl rfl (by omega)⟩ dX1_prime_21) ⟨zad (k := 1) rfl (by omega), zad (k := 6) rfl (by omega)⟩ hS (fun _ z => z.elim) (fun E ce q9 Hx9 locs hp hF hS1 hce hcv hcl => ?_) (fun r H10 locs hp hF hS1 => ?_)
      · exact z_out hno hlk hX hS1 ⟨zle (z := 2) rfl (by omega), zle (z := 12) rfl (by omega)⟩ hce hcv hcl (absurd hp.2 (by decide))
      obtain ⟨rfl, -⟩ := hp
      have hP := zpk hP hF
      have hP : va_P G.1 zCl ([]) H10 := hP
      have hD : va_D (zA (FC G ρ σ) H0) ([]) := hD
      have hH1 : HC G s0 ρ σ H10 := hH1.ext0 hE hF
      have hS := hS1
      obtain ⟨sm, hxx⟩ := id hH1.2.2.1.1
      refine lv_aload_n hx hb dX1_prime_24 rfl (lv_at hl 0 rfl) ?_
      refine z_get hC (k := 1) rfl in_X1 hxx (by decide) q152 (fun _ h => h) rfl dX1_prime_25 ?_
      obtain ⟨mda, hLa⟩ := id hH1.2.2.1.2.1
      refine z_go 1 6 (z_runV (As := []) (rest := []) hC hml hl.1 (m_J2_isEmpty hE H10 (hO.ext (zS_F hS) hMo) (ρ (1, 0, 0)) (St_na σ) (fun k => ρ (6, k, 0)) (ρ (2, 0, 0)) mda hLa) (lw_V q225 q226 q227 q65 q228) rfl nd_J2_isEmpty rfl (z_rv hC (ci := 8) rfl hLa.1 rfl) rfl (Nat.le_of_ble_eq_true rfl) ⟨Nat.le_of_ble_eq_true rfl, Nat.le_of_ble_eq_true rfl⟩ ⟨zfit (k := 0) (z := 2) rfl rfl (by omega), zfit (k := 0) (z := 12) rfl rfl (by omega)⟩ dX1_prime_28) ⟨zad (k := 0) rfl (by omega), zad (k := 0) rfl (by omega)⟩ hS (fun _ z => z.elim) (fun r H11 locs hp hF hS1 => ?_)
      obtain ⟨_, rfl, rfl⟩ := hp
      have hP := zpk hP hF
      have hP : va_P G.1 zCl ([]) H11 := hP
      have hD : va_D (zA (FC G ρ σ) H0) ([]) := hD
      have hH1 : HC G s0 ρ σ H11 := hH1.ext0 hE hF
      have hS := hS1
      obtain ⟨fl, hfl, hfl2⟩ : ∃ fl : Nat, fl ≤ 1 ∧ (if St_na σ = 0 then (1 : Int) else 0) = fl ∧ (fl = 1 ↔ St_na σ = 0) := by by_cases h : St_na σ = 0; exact ⟨1, by decide, by rw [if_pos h]; rfl, by simp [h]⟩; exact ⟨0, by decide, by rw [if_neg h]; rfl, by simp [h]⟩
      refine z_top (b := ((fl : Nat) : Int)) (hfl2.1) ?_
      refine z_goX 2 12 (z_runSx (As := [.int (iI ((fl : Nat) : Int))]) (rest := []) hC hml hl.1 (m_X1_requireState hE H11 (hO.ext (zS_F hS) hMo) fl hfl) (lw_S q919 q920 q62 q921) nd_X1_requireState rfl rfl (Nat.le_of_ble_eq_true rfl) ⟨Nat.le_of_ble_eq_true rfl, Nat.le_of_ble_eq_true rfl⟩ ⟨zfit (k := 1) (z := 2) rfl rfl (by omega), zfit (k := 6) (z := 12) rfl rfl (by omega)⟩ dX1_prime_31) ⟨zad (k := 1) rfl (by omega), zad (k := 6) rfl (by omega)⟩ hS (fun _ z => z.elim) (fun E ce q9 Hx12 locs hp hF hS1 hce hcv hcl => ?_) (fun r H13 locs hp hF hS1 => ?_)
      · exact z_out hno hlk hX hS1 ⟨zle (z := 2) rfl (by omega), zle (z := 12) rfl (by omega)⟩ hce hcv hcl (⟨Or.inr ⟨hp.1, hz9, fun w => by have h9 := hfl2.2.mpr w; have h8 := hp.2; omega⟩, hH1.ext0 hE hF⟩)
      obtain ⟨rfl, hfl1⟩ := hp
      have hP := zpk hP hF
      have hP : va_P G.1 zCl ([]) H13 := hP
      have hD : va_D (zA (FC G ρ σ) H0) ([]) := hD
      have hH1 : HC G s0 ρ σ H13 := hH1.ext0 hE hF
      have hS := hS1
      have hn0 := hfl2.2.mp hfl1
      obtain ⟨sm8, hx8⟩ := id hH1.2.2.1.1
      have hP : va_P G.1 zCl [((ρ (0, 0, 0)), zOb 0 [.int (iI (St_p σ)), .ref (ρ (1, 0, 0)), .ref (ρ (3, 0, 0)), .ref (ρ (5, 0, 0)), .int (iI ((St_kn σ : Nat) : Int)), .long (lI sm8)])] H13 := zP1 hx8
      have hD : va_D (zA (FC G ρ σ) H0) [((ρ (0, 0, 0)), zOb 0 [.int (iI (St_p σ)), .ref (ρ (1, 0, 0)), .ref (ρ (3, 0, 0)), .ref (ρ (5, 0, 0)), .int (iI ((St_kn σ : Nat) : Int)), .long (lI sm8)])] := zD1 (Or.inl (FC.in hE hh.sep (dom0 0 (by omega)) (by simp)))
      refine lv_aload_n hx hb dX1_prime_34 rfl (lv_at hl 0 rfl) ?_
      refine z_get hC (k := 0) rfl in_X1 (hP 0 _ rfl) (by decide) q149 (fun _ h => h) rfl dX1_prime_35 ?_
      refine lv_istore_n (lv' := [(2, .int (iI (St_p σ))), (0, .ref (ρ (0, 0, 0))), (1, .int (iI z))]) hx hb dX1_prime_38 rfl hl (by decide) rfl (fun ls hl => ?_)
      refine lv_aload_n hx hb dX1_prime_39 rfl (lv_at hl 1 rfl) ?_
      refine lv_iload_n hx hb dX1_prime_40 rfl (lv_at hl 2 rfl) ?_
      refine z_putO hC hP hD hS 0 (k := 0) rfl rfl in_X1 tyX1_ok nmX1 (by decide) q149 (fun _ h => h) rfl rfl rfl rfl (Nat.le_of_ble_eq_true rfl) (ws' := [((ρ (0, 0, 0)), zOb 0 [.int (iI z), .ref (ρ (1, 0, 0)), .ref (ρ (3, 0, 0)), .ref (ρ (5, 0, 0)), .int (iI ((St_kn σ : Nat) : Int)), .long (lI sm8)])]) rfl dX1_prime_41 (fun H14 locs hP hD hS hZ1 hZ2 => ?_)
      have hpo := hH1.prime hE hz9 hn0 (zF.one hZ1 hZ2) (hP 0 _ rfl)
      refine lv_iload_n hx hb dX1_prime_44 rfl (lv_at hl 0 rfl) ?_
      exact z_iret hC hrt hlk hQ hS ⟨zle (z := 2) rfl (by omega), zle (z := 12) rfl (by omega)⟩ ⟨_, rfl, stP σ z, ⟨hz9, hn0, rfl, rfl⟩, ρ, hpo, ⟨rfl, rfl⟩, fun _ w => Or.inl w⟩ dX1_prime_45
    · refine lv_iload_n hx hb dX1_prime_10 rfl (lv_at hl 1 rfl) ?_
      refine lv_bipush (v := iI 7) hx hb dX1_prime_11 (by decide) ?_
      refine z_cne (tgt := 20) hx hb dX1_prime_13 (by decide) (by omega) (fun c15 => ?_) (fun c15 => ?_)
      · refine lv_iconst (v := iI 0) hx hb dX1_prime_20 rfl ?_
        refine z_goX 1 6 (z_runSx (As := [.int (iI 0)]) (rest := []) hC hml hl.1 (m_X1_require hE H0 (hO.ext (zS_F hS) hMo) 0 (by decide)) (lw_S q905 q906 q62 q907) nd_X1_require rfl rfl (Nat.le_of_ble_eq_true rfl) ⟨Nat.le_of_ble_eq_true rfl, Nat.le_of_ble_eq_true rfl⟩ ⟨zfit (k := 1) (z := 2) rfl rfl (by omega), zfit (k := 6) (z := 12) rfl rfl (by omega)⟩ dX1_prime_21) ⟨zad (k := 1) rfl (by omega), zad (k := 6) rfl (by omega)⟩ hS (fun _ z => z.elim) (fun E ce q9 Hx16 locs hp hF hS1 hce hcv hcl => ?_) (fun r H17 locs hp hF hS1 => ?_)
        · exact z_out hno hlk hX hS1 ⟨zle (z := 2) rfl (by omega), zle (z := 12) rfl (by omega)⟩ hce hcv hcl (⟨Or.inl ⟨hp.1, fun w => by have w : z = 3 ∨ z = 5 ∨ z = 7 := w; omega⟩, hH1.ext0 hE hF⟩)
        exact (show False from by have h9 : (0 : Nat) = 1 := hp.2; omega).elim
      · have hz9 : pr357 z := (show z = 3 ∨ z = 5 ∨ z = 7 by omega)
        refine lv_iconst (v := iI 1) hx hb dX1_prime_16 rfl ?_
        refine lv_goto (tgt := 21) hx hb dX1_prime_17 (by decide) ?_
        refine z_goX 1 6 (z_runSx (As := [.int (iI 1)]) (rest := []) hC hml hl.1 (m_X1_require hE H0 (hO.ext (zS_F hS) hMo) 1 (by decide)) (lw_S q905 q906 q62 q907) nd_X1_require rfl rfl (Nat.le_of_ble_eq_true rfl) ⟨Nat.le_of_ble_eq_true rfl, Nat.le_of_ble_eq_true rfl⟩ ⟨zfit (k := 1) (z := 2) rfl rfl (by omega), zfit (k := 6) (z := 12) rfl rfl (by omega)⟩ dX1_prime_21) ⟨zad (k := 1) rfl (by omega), zad (k := 6) rfl (by omega)⟩ hS (fun _ z => z.elim) (fun E ce q9 Hx18 locs hp hF hS1 hce hcv hcl => ?_) (fun r H19 locs hp hF hS1 => ?_)
        · exact z_out hno hlk hX hS1 ⟨zle (z := 2) rfl (by omega), zle (z := 12) rfl (by omega)⟩ hce hcv hcl (absurd hp.2 (by decide))
        obtain ⟨rfl, -⟩ := hp
        have hP := zpk hP hF
        have hP : va_P G.1 zCl ([]) H19 := hP
        have hD : va_D (zA (FC G ρ σ) H0) ([]) := hD
        have hH1 : HC G s0 ρ σ H19 := hH1.ext0 hE hF
        have hS := hS1
        obtain ⟨sm, hxx⟩ := id hH1.2.2.1.1
        refine lv_aload_n hx hb dX1_prime_24 rfl (lv_at hl 0 rfl) ?_
        refine z_get hC (k := 1) rfl in_X1 hxx (by decide) q152 (fun _ h => h) rfl dX1_prime_25 ?_
        obtain ⟨mda, hLa⟩ := id hH1.2.2.1.2.1
        refine z_go 1 6 (z_runV (As := []) (rest := []) hC hml hl.1 (m_J2_isEmpty hE H19 (hO.ext (zS_F hS) hMo) (ρ (1, 0, 0)) (St_na σ) (fun k => ρ (6, k, 0)) (ρ (2, 0, 0)) mda hLa) (lw_V q225 q226 q227 q65 q228) rfl nd_J2_isEmpty rfl (z_rv hC (ci := 8) rfl hLa.1 rfl) rfl (Nat.le_of_ble_eq_true rfl) ⟨Nat.le_of_ble_eq_true rfl, Nat.le_of_ble_eq_true rfl⟩ ⟨zfit (k := 0) (z := 2) rfl rfl (by omega), zfit (k := 0) (z := 12) rfl rfl (by omega)⟩ dX1_prime_28) ⟨zad (k := 0) rfl (by omega), zad (k := 0) rfl (by omega)⟩ hS (fun _ z => z.elim) (fun r H20 locs hp hF hS1 => ?_)
        obtain ⟨_, rfl, rfl⟩ := hp
        have hP := zpk hP hF
        have hP : va_P G.1 zCl ([]) H20 := hP
        have hD : va_D (zA (FC G ρ σ) H0) ([]) := hD
        have hH1 : HC G s0 ρ σ H20 := hH1.ext0 hE hF
        have hS := hS1
        obtain ⟨fl, hfl, hfl2⟩ : ∃ fl : Nat, fl ≤ 1 ∧ (if St_na σ = 0 then (1 : Int) else 0) = fl ∧ (fl = 1 ↔ St_na σ = 0) := by by_cases h : St_na σ = 0; exact ⟨1, by decide, by rw [if_pos h]; rfl, by simp [h]⟩; exact ⟨0, by decide, by rw [if_neg h]; rfl, by simp [h]⟩
        refine z_top (b := ((fl : Nat) : Int)) (hfl2.1) ?_
        refine z_goX 2 12 (z_runSx (As := [.int (iI ((fl : Nat) : Int))]) (rest := []) hC hml hl.1 (m_X1_requireState hE H20 (hO.ext (zS_F hS) hMo) fl hfl) (lw_S q919 q920 q62 q921) nd_X1_requireState rfl rfl (Nat.le_of_ble_eq_true rfl) ⟨Nat.le_of_ble_eq_true rfl, Nat.le_of_ble_eq_true rfl⟩ ⟨zfit (k := 1) (z := 2) rfl rfl (by omega), zfit (k := 6) (z := 12) rfl rfl (by omega)⟩ dX1_prime_31) ⟨zad (k := 1) rfl (by omega), zad (k := 6) rfl (by omega)⟩ hS (fun _ z => z.elim) (fun E ce q9 Hx21 locs hp hF hS1 hce hcv hcl => ?_) (fun r H22 locs hp hF hS1 => ?_)
        · exact z_out hno hlk hX hS1 ⟨zle (z := 2) rfl (by omega), zle (z := 12) rfl (by omega)⟩ hce hcv hcl (⟨Or.inr ⟨hp.1, hz9, fun w => by have h9 := hfl2.2.mpr w; have h8 := hp.2; omega⟩, hH1.ext0 hE hF⟩)
        obtain ⟨rfl, hfl1⟩ := hp
        have hP := zpk hP hF
        have hP : va_P G.1 zCl ([]) H22 := hP
        have hD : va_D (zA (FC G ρ σ) H0) ([]) := hD
        have hH1 : HC G s0 ρ σ H22 := hH1.ext0 hE hF
        have hS := hS1
        have hn0 := hfl2.2.mp hfl1
        obtain ⟨sm8, hx8⟩ := id hH1.2.2.1.1
        have hP : va_P G.1 zCl [((ρ (0, 0, 0)), zOb 0 [.int (iI (St_p σ)), .ref (ρ (1, 0, 0)), .ref (ρ (3, 0, 0)), .ref (ρ (5, 0, 0)), .int (iI ((St_kn σ : Nat) : Int)), .long (lI sm8)])] H22 := zP1 hx8
        have hD : va_D (zA (FC G ρ σ) H0) [((ρ (0, 0, 0)), zOb 0 [.int (iI (St_p σ)), .ref (ρ (1, 0, 0)), .ref (ρ (3, 0, 0)), .ref (ρ (5, 0, 0)), .int (iI ((St_kn σ : Nat) : Int)), .long (lI sm8)])] := zD1 (Or.inl (FC.in hE hh.sep (dom0 0 (by omega)) (by simp)))
        refine lv_aload_n hx hb dX1_prime_34 rfl (lv_at hl 0 rfl) ?_
        refine z_get hC (k := 0) rfl in_X1 (hP 0 _ rfl) (by decide) q149 (fun _ h => h) rfl dX1_prime_35 ?_
        refine lv_istore_n (lv' := [(2, .int (iI (St_p σ))), (0, .ref (ρ (0, 0, 0))), (1, .int (iI z))]) hx hb dX1_prime_38 rfl hl (by decide) rfl (fun ls hl => ?_)
        refine lv_aload_n hx hb dX1_prime_39 rfl (lv_at hl 1 rfl) ?_
        refine lv_iload_n hx hb dX1_prime_40 rfl (lv_at hl 2 rfl) ?_
        refine z_putO hC hP hD hS 0 (k := 0) rfl rfl in_X1 tyX1_ok nmX1 (by decide) q149 (fun _ h => h) rfl rfl rfl rfl (Nat.le_of_ble_eq_true rfl) (ws' := [((ρ (0, 0, 0)), zOb 0 [.int (iI z), .ref (ρ (1, 0, 0)), .ref (ρ (3, 0, 0)), .ref (ρ (5, 0, 0)), .int (iI ((St_kn σ : Nat) : Int)), .long (lI sm8)])]) rfl dX1_prime_41 (fun H23 locs hP hD hS hZ1 hZ2 => ?_)
        have hpo := hH1.prime hE hz9 hn0 (zF.one hZ1 hZ2) (hP 0 _ rfl)
        refine lv_iload_n hx hb dX1_prime_44 rfl (lv_at hl 0 rfl) ?_
        exact z_iret hC hrt hlk hQ hS ⟨zle (z := 2) rfl (by omega), zle (z := 12) rfl (by omega)⟩ ⟨_, rfl, stP σ z, ⟨hz9, hn0, rfl, rfl⟩, ρ, hpo, ⟨rfl, rfl⟩, fun _ w => Or.inl w⟩ dX1_prime_45

abbrev rm_m_X1_set : Room := { frames := 8, cells := 3, slots := 18, locals := 132 }
set_option maxHeartbeats 4000000 in
theorem m_X1_set {l : Launch} {s0 : State} {G : zG} (hE : zE l s0 G) (H0 : Heap) (hO : zO s0 H0) (ρ : Ro → Nat) (σ : St) (i u z : Int) (hh : HC G s0 ρ σ H0) (hi : zi i ∧ zi u ∧ zi z) : zMX l s0 yX1_set cX1_set 6 (some FieldType.int) rm_m_X1_set [.ref (ρ (0, 0, 0)), .int (iI i), .int (iI u), .int (iI z)] H0 (FC G ρ σ) (HP G s0 H0 ρ σ (fun y σ' => ∃ a c : Nat, (i = a ∧ a < St_ne σ) ∧ (u = c ∧ c < St_n σ (St_ea σ a)) ∧ (0 ≤ z ∧ z < St_p σ) ∧ σ' = stEl σ a (va_up (St_ev σ a) c z) ∧ y = St_ev σ a c)) (HX G s0 ρ σ (XSet σ i u z)) := by
  refine z_metX hE (by decide +kernel) (Nat.le_of_ble_eq_true rfl) ?_
  intro pp ee ss mm args below meth cd Q ls hC hml hrt hlk hnm hH hQ hno hX hS hl
  have hx := hC.x
  have hb := hC.b
  have hl : lv_has ls 6 [(0, .ref (ρ (0, 0, 0))), (1, .int (iI i)), (2, .int (iI u)), (3, .int (iI z))] := hl
  have hP : va_P G.1 zCl [] H0 := va_nil
  have hD : va_D (zA (FC G ρ σ) H0) [] := va_nilD
  have hMo : ∀ z, FC G ρ σ z → s0.heap.size ≤ z := fun z hz => FC.ge hh.sep hz
  have hH1 := hh
  obtain ⟨hp, hna, hal, hne9, hel9, hmr9⟩ := id hh.ok
  have hp7 : 0 < St_p σ ∧ St_p σ ≤ 7 := by rcases hp with h | h | h <;> rw [h] <;> decide
  obtain ⟨sm9, -⟩ := id hh.2.2.1.1
  refine lv_aload_n hx hb dX1_set_0 rfl (lv_at hl 0 rfl) ?_
  refine lv_iload_n hx hb dX1_set_1 rfl (lv_at hl 1 rfl) ?_
  obtain ⟨sm, hxx⟩ := id hH1.2.2.1.1
  refine z_goX 1 6 (z_runVx (As := [.int (iI i)]) (rest := []) hC hml hl.1 (m_X1_elementAt hE H0 (hO.ext (zS_F hS) hMo) ρ σ i hH1 hi.1) (lw_V q1139 q1141 qs25 q62 q1142) rfl nd_X1_elementAt rfl (z_rv hC (ci := 0) rfl hxx rfl) rfl (Nat.le_of_ble_eq_true rfl) ⟨Nat.le_of_ble_eq_true rfl, Nat.le_of_ble_eq_true rfl⟩ ⟨zfit (k := 1) (z := 3) rfl rfl (by omega), zfit (k := 6) (z := 18) rfl rfl (by omega)⟩ dX1_set_2) ⟨zad (k := 1) rfl (by omega), zad (k := 6) rfl (by omega)⟩ hS (fun _ z => z.elim) (fun E ce q9 Hx1 locs hp hF hS1 hce hcv hcl => ?_) (fun r H2 locs hp hF hS1 => ?_)
  · exact z_out hno hlk hX hS1 ⟨zle (z := 3) rfl (by omega), zle (z := 18) rfl (by omega)⟩ hce hcv hcl (⟨Or.inl ⟨hp.1, hp.2⟩, hH1.ext0 hE hF⟩)
  obtain ⟨_, rfl, a, ea9, ha9, rfl⟩ := hp
  have hP := zpk hP hF
  have hP : va_P G.1 zCl ([]) H2 := hP
  have hD : va_D (zA (FC G ρ σ) H0) ([]) := hD
  have hH1 : HC G s0 ρ σ H2 := hH1.ext0 hE hF
  have hS := hS1
  have ea9 : i.toNat = a := by omega
  have iE : inE σ i := by unfold inE; omega
  refine lv_astore (lv' := [(4, .ref (ρ (13, a, 0))), (0, .ref (ρ (0, 0, 0))), (1, .int (iI i)), (2, .int (iI u)), (3, .int (iI z))]) hx hb dX1_set_5 hl (by decide) rfl (fun ls hl => ?_)
  refine lv_iload_n hx hb dX1_set_7 rfl (lv_at hl 3 rfl) ?_
  have hva := hH1.row (j := a) (by omega)
  have hEa := hH1.el (j := a) (by omega)
  have heaa := hH1.ea (j := a) (by omega)
  obtain ⟨hn16a, -⟩ := (hH1.ag heaa).n
  refine lv_aload hx hb dX1_set_8 (lv_at hl 0 rfl) ?_
  refine z_getn hC (k := 1) rfl in_X7 hEa.1 (by decide) q325 (fun _ h => h) rfl dX1_set_10 ?_
  refine z_alen hC 0 hEa.2 rfl (y := ((St_n σ (St_ea σ a) : Nat) : Int)) rfl dX1_set_13 ?_
  refine z_goX 2 12 (z_runSx (As := [.int (iI u), .int (iI ((St_n σ (St_ea σ a) : Nat) : Int))]) (rest := []) hC hml hl.1 (m_X1_requireIndex hE H2 (hO.ext (zS_F hS) hMo) u ((St_n σ (St_ea σ a) : Nat) : Int) ⟨hi.2.1, by omega, by omega⟩) (lw_S q1060 q1061 q62 q1062) nd_X1_requireIndex rfl rfl (Nat.le_of_ble_eq_true rfl) ⟨Nat.le_of_ble_eq_true rfl, Nat.le_of_ble_eq_true rfl⟩ ⟨zfit (k := 1) (z := 3) rfl rfl (by omega), zfit (k := 6) (z := 18) rfl rfl (by omega)⟩ dX1_set_14) ⟨zad (k := 1) rfl (by omega), zad (k := 6) rfl (by omega)⟩ hS (fun _ z => z.elim) (fun E ce q9 Hx3 locs hp hF hS1 hce hcv hcl => ?_) (fun r H4 locs hp hF hS1 => ?_)
  · exact z_out hno hlk hX hS1 ⟨zle (z := 3) rfl (by omega), zle (z := 18) rfl (by omega)⟩ hce hcv hcl (⟨Or.inr (Or.inl ⟨hp.1, iE, by rw [ea9]; exact hp.2⟩), hH1.ext0 hE hF⟩)
  obtain ⟨rfl, hu9⟩ := hp
  have hP := zpk hP hF
  have hP : va_P G.1 zCl ([]) H4 := hP
  have hD : va_D (zA (FC G ρ σ) H0) ([]) := hD
  have hH1 : HC G s0 ρ σ H4 := hH1.ext0 hE hF
  have hS := hS1
  refine lv_aload_n hx hb dX1_set_17 rfl (lv_at hl 1 rfl) ?_
  refine lv_iload_n hx hb dX1_set_18 rfl (lv_at hl 4 rfl) ?_
  obtain ⟨sm, hxx⟩ := id hH1.2.2.1.1
  refine z_go 2 12 (z_runV (As := [.int (iI z)]) (rest := []) hC hml hl.1 (m_X1_isNumber hE H4 (hO.ext (zS_F hS) hMo) ρ σ z hH1 hi.2.2) (lw_V q1078 q1080 qs24 q62 q1081) rfl nd_X1_isNumber rfl (z_rv hC (ci := 0) rfl hxx rfl) rfl (Nat.le_of_ble_eq_true rfl) ⟨Nat.le_of_ble_eq_true rfl, Nat.le_of_ble_eq_true rfl⟩ ⟨zfit (k := 0) (z := 3) rfl rfl (by omega), zfit (k := 0) (z := 18) rfl rfl (by omega)⟩ dX1_set_19) ⟨zad (k := 0) rfl (by omega), zad (k := 0) rfl (by omega)⟩ hS (fun _ z => z.elim) (fun r H5 locs hp hF hS1 => ?_)
  obtain ⟨_, rfl, rfl⟩ := hp
  have hP := zpk hP hF
  have hP : va_P G.1 zCl ([]) H5 := hP
  have hD : va_D (zA (FC G ρ σ) H0) ([]) := hD
  have hH1 : HC G s0 ρ σ H5 := hH1.ext0 hE hF
  have hS := hS1
  obtain ⟨fl, hfl, hfl2⟩ : ∃ fl : Nat, fl ≤ 1 ∧ (if 0 ≤ z ∧ z < St_p σ then (1 : Int) else 0) = fl ∧ (fl = 1 ↔ 0 ≤ z ∧ z < St_p σ) := by by_cases h : 0 ≤ z ∧ z < St_p σ; exact ⟨1, by decide, by rw [if_pos h]; rfl, by simp [h]⟩; exact ⟨0, by decide, by rw [if_neg h]; rfl, by simp [h]⟩
  refine z_top (b := ((fl : Nat) : Int)) (hfl2.1) ?_
  refine z_goX 3 18 (z_runSx (As := [.int (iI ((fl : Nat) : Int))]) (rest := []) hC hml hl.1 (m_X1_require hE H5 (hO.ext (zS_F hS) hMo) fl hfl) (lw_S q905 q906 q62 q907) nd_X1_require rfl rfl (Nat.le_of_ble_eq_true rfl) ⟨Nat.le_of_ble_eq_true rfl, Nat.le_of_ble_eq_true rfl⟩ ⟨zfit (k := 1) (z := 3) rfl rfl (by omega), zfit (k := 6) (z := 18) rfl rfl (by omega)⟩ dX1_set_22) ⟨zad (k := 1) rfl (by omega), zad (k := 6) rfl (by omega)⟩ hS (fun _ z => z.elim) (fun E ce q9 Hx6 locs hp hF hS1 hce hcv hcl => ?_) (fun r H7 locs hp hF hS1 => ?_)
  · exact z_out hno hlk hX hS1 ⟨zle (z := 3) rfl (by omega), zle (z := 18) rfl (by omega)⟩ hce hcv hcl (⟨Or.inr (Or.inr ⟨hp.1, iE, by rw [ea9]; exact hu9, fun w => by have h9 := hfl2.2.mpr w; have h8 := hp.2; omega⟩), hH1.ext0 hE hF⟩)
  obtain ⟨rfl, hfl1⟩ := hp
  have hP := zpk hP hF
  have hP : va_P G.1 zCl ([]) H7 := hP
  have hD : va_D (zA (FC G ρ σ) H0) ([]) := hD
  have hH1 : HC G s0 ρ σ H7 := hH1.ext0 hE hF
  have hS := hS1
  have hz9 := hfl2.2.mp hfl1
  obtain ⟨c, rfl⟩ : ∃ c : Nat, u = c := ⟨u.toNat, by omega⟩
  have hva := hH1.row (j := a) (by omega)
  have hEa := hH1.el (j := a) (by omega)
  have heaa := hH1.ea (j := a) (by omega)
  obtain ⟨hn16a, -⟩ := (hH1.ag heaa).n
  have hP : va_P G.1 zCl [((ρ (14, a, 0)), zI G (St_n σ (St_ea σ a)) (St_ev σ a))] H7 := zP1 hEa.2
  have hD : va_D (zA (FC G ρ σ) H0) [((ρ (14, a, 0)), zI G (St_n σ (St_ea σ a)) (St_ev σ a))] := zD1 (Or.inl (FC.in hE hh.sep (domE 14 a (Or.inr rfl) (by omega)) (by simp)))
  refine lv_aload hx hb dX1_set_25 (lv_at hl 0 rfl) ?_
  refine z_getn hC (k := 1) rfl in_X7 hEa.1 (by decide) q325 (fun _ h => h) rfl dX1_set_27 ?_
  refine lv_iload_n hx hb dX1_set_30 rfl (lv_at hl 3 rfl) ?_
  refine z_iald hC (hP 0 _ rfl) (k := c) rfl (by omega) (y := (St_ev σ a) c) rfl dX1_set_31 ?_
  refine lv_istore (lv' := [(5, .int (iI ((St_ev σ a) c))), (4, .ref (ρ (13, a, 0))), (0, .ref (ρ (0, 0, 0))), (1, .int (iI i)), (2, .int (iI ((c : Nat) : Int))), (3, .int (iI z))]) hx hb dX1_set_32 hl (by decide) rfl (fun ls hl => ?_)
  refine lv_aload hx hb dX1_set_34 (lv_at hl 1 rfl) ?_
  refine z_getn hC (k := 1) rfl in_X7 hEa.1 (by decide) q325 (fun _ h => h) rfl dX1_set_36 ?_
  refine lv_iload_n hx hb dX1_set_39 rfl (lv_at hl 4 rfl) ?_
  refine lv_iload_n hx hb dX1_set_40 rfl (lv_at hl 5 rfl) ?_
  refine z_iastO hC hP hD hS 0 (k := c) rfl rfl (by omega) (ws' := [((ρ (14, a, 0)), zI G (St_n σ (St_ea σ a)) (va_up (St_ev σ a) c z))]) rfl dX1_set_41 (fun H8 locs hP hD hS hZ1 hZ2 => ?_)
  have hpo := hH1.setrow (e := a) hE (by omega) (zF.one hZ1 hZ2) (hP 0 _ rfl) (fun j hj => by by_cases e : j = c; (rw [e, va_up_self]; exact hz9); (rw [va_up_ne _ _ e]; exact hva j hj))
  refine lv_iload hx hb dX1_set_42 (lv_at hl 0 rfl) ?_
  exact z_iret hC hrt hlk hQ hS ⟨zle (z := 3) rfl (by omega), zle (z := 18) rfl (by omega)⟩ ⟨_, rfl, _, ⟨a, c, ⟨by omega, by omega⟩, ⟨by omega, by omega⟩, hz9, rfl, rfl⟩, ρ, hpo, ⟨rfl, rfl⟩, fun _ w => Or.inl w⟩ dX1_set_44

abbrev rm_m_X1_element : Room := { frames := 8, cells := 5, slots := 41, locals := 221 }
set_option maxHeartbeats 4000000 in
theorem m_X1_element {l : Launch} {s0 : State} {G : zG} (hE : zE l s0 G) (H0 : Heap) (hO : zO s0 H0) (ρ : Ro → Nat) (σ : St) (i : Int) (hh : HC G s0 ρ σ H0) (hi : zi i) : zMX l s0 yX1_element cX1_element 3 (some FieldType.int) rm_m_X1_element [.ref (ρ (0, 0, 0)), .int (iI i)] H0 (FC G ρ σ) (HP G s0 H0 ρ σ (fun y σ' => ∃ k : Nat, (i = k ∧ k < St_na σ) ∧ St_ne σ < 10 ∧ σ' = stNew σ k ∧ y = (St_ne σ : Nat))) (HX G s0 ρ σ (XNew σ i)) := by
  refine z_metX hE (by decide +kernel) (Nat.le_of_ble_eq_true rfl) ?_
  intro pp ee ss mm args below meth cd Q ls hC hml hrt hlk hnm hH hQ hno hX hS hl
  have hx := hC.x
  have hb := hC.b
  have hl : lv_has ls 3 [(0, .ref (ρ (0, 0, 0))), (1, .int (iI i))] := hl
  have hP : va_P G.1 zCl [] H0 := va_nil
  have hD : va_D (zA (FC G ρ σ) H0) [] := va_nilD
  have hMo : ∀ z, FC G ρ σ z → s0.heap.size ≤ z := fun z hz => FC.ge hh.sep hz
  have hH1 := hh
  obtain ⟨hp, hna, hal, hne9, hel9, hmr9⟩ := id hh.ok
  have hp7 : 0 < St_p σ ∧ St_p σ ≤ 7 := by rcases hp with h | h | h <;> rw [h] <;> decide
  obtain ⟨sm9, -⟩ := id hh.2.2.1.1
  refine lv_aload_n hx hb dX1_element_0 rfl (lv_at hl 0 rfl) ?_
  refine lv_iload_n hx hb dX1_element_1 rfl (lv_at hl 1 rfl) ?_
  obtain ⟨sm, hxx⟩ := id hH1.2.2.1.1
  refine z_goX 1 6 (z_runVx (As := [.int (iI i)]) (rest := []) hC hml hl.1 (m_X1_algebraAt hE H0 (hO.ext (zS_F hS) hMo) ρ σ i hH1 hi) (lw_V q1056 q1058 qs23 q62 q1059) rfl nd_X1_algebraAt rfl (z_rv hC (ci := 0) rfl hxx rfl) rfl (Nat.le_of_ble_eq_true rfl) ⟨Nat.le_of_ble_eq_true rfl, Nat.le_of_ble_eq_true rfl⟩ ⟨zfit (k := 1) (z := 5) rfl rfl (by omega), zfit (k := 6) (z := 41) rfl rfl (by omega)⟩ dX1_element_2) ⟨zad (k := 1) rfl (by omega), zad (k := 6) rfl (by omega)⟩ hS (fun _ z => z.elim) (fun E ce q9 Hx1 locs hp hF hS1 hce hcv hcl => ?_) (fun r H2 locs hp hF hS1 => ?_)
  · exact z_out hno hlk hX hS1 ⟨zle (z := 5) rfl (by omega), zle (z := 41) rfl (by omega)⟩ hce hcv hcl (⟨Or.inl ⟨hp.1, hp.2⟩, hH1.ext0 hE hF⟩)
  obtain ⟨_, rfl, k, ek9, hk9, rfl⟩ := hp
  have hP := zpk hP hF
  have hP : va_P G.1 zCl ([]) H2 := hP
  have hD : va_D (zA (FC G ρ σ) H0) ([]) := hD
  have hH1 : HC G s0 ρ σ H2 := hH1.ext0 hE hF
  have hS := hS1
  have ek9 : i.toNat = k := by omega
  have iA : inA σ i := by unfold inA; omega
  obtain ⟨sm, hxx⟩ := id hH1.2.2.1.1
  refine lv_astore_n (lv' := [(2, .ref (ρ (6, k, 0))), (0, .ref (ρ (0, 0, 0))), (1, .int (iI i))]) hx hb dX1_element_5 rfl hl (by decide) rfl (fun ls hl => ?_)
  refine lv_aload_n hx hb dX1_element_6 rfl (lv_at hl 1 rfl) ?_
  refine z_get hC (k := 2) rfl in_X1 hxx (by decide) q153 (fun _ h => h) rfl dX1_element_7 ?_
  obtain ⟨mde, hLe⟩ := id hH1.2.2.1.2.2.1
  refine z_go 1 6 (z_runV (As := []) (rest := []) hC hml hl.1 (m_J2_size hE H2 (hO.ext (zS_F hS) hMo) (ρ (3, 0, 0)) (St_ne σ) (fun j => ρ (13, j, 0)) (ρ (4, 0, 0)) mde hLe) (lw_V q229 q230 q231 q65 q232) rfl nd_J2_size rfl (z_rv hC (ci := 8) rfl hLe.1 rfl) rfl (Nat.le_of_ble_eq_true rfl) ⟨Nat.le_of_ble_eq_true rfl, Nat.le_of_ble_eq_true rfl⟩ ⟨zfit (k := 0) (z := 5) rfl rfl (by omega), zfit (k := 0) (z := 41) rfl rfl (by omega)⟩ dX1_element_10) ⟨zad (k := 0) rfl (by omega), zad (k := 0) rfl (by omega)⟩ hS (fun _ z => z.elim) (fun r H3 locs hp hF hS1 => ?_)
  obtain ⟨_, rfl, rfl⟩ := hp
  have hP := zpk hP hF
  have hP : va_P G.1 zCl ([]) H3 := hP
  have hD : va_D (zA (FC G ρ σ) H0) ([]) := hD
  have hH1 : HC G s0 ρ σ H3 := hH1.ext0 hE hF
  have hS := hS1
  refine lv_bipush (v := iI 10) hx hb dX1_element_13 (by decide) ?_
  refine z_cge (tgt := 22) hx hb dX1_element_15 (by decide) (by omega) (fun c4 => ?_) (fun c4 => ?_)
  · refine lv_iconst (v := iI 0) hx hb dX1_element_22 rfl ?_
    refine z_goX 2 12 (z_runSx (As := [.int (iI 0)]) (rest := []) hC hml hl.1 (m_X1_requireState hE H3 (hO.ext (zS_F hS) hMo) 0 (by decide)) (lw_S q919 q920 q62 q921) nd_X1_requireState rfl rfl (Nat.le_of_ble_eq_true rfl) ⟨Nat.le_of_ble_eq_true rfl, Nat.le_of_ble_eq_true rfl⟩ ⟨zfit (k := 1) (z := 5) rfl rfl (by omega), zfit (k := 6) (z := 41) rfl rfl (by omega)⟩ dX1_element_23) ⟨zad (k := 1) rfl (by omega), zad (k := 6) rfl (by omega)⟩ hS (fun _ z => z.elim) (fun E ce q9 Hx5 locs hp hF hS1 hce hcv hcl => ?_) (fun r H6 locs hp hF hS1 => ?_)
    · exact z_out hno hlk hX hS1 ⟨zle (z := 5) rfl (by omega), zle (z := 41) rfl (by omega)⟩ hce hcv hcl (⟨Or.inr ⟨hp.1, iA, by omega⟩, hH1.ext0 hE hF⟩)
    exact (show False from by have h9 : (0 : Nat) = 1 := hp.2; omega).elim
  · have hlt9 : St_ne σ < 10 := by omega
    refine lv_iconst (v := iI 1) hx hb dX1_element_18 rfl ?_
    refine lv_goto (tgt := 23) hx hb dX1_element_19 (by decide) ?_
    refine z_goX 2 12 (z_runSx (As := [.int (iI 1)]) (rest := []) hC hml hl.1 (m_X1_requireState hE H3 (hO.ext (zS_F hS) hMo) 1 (by decide)) (lw_S q919 q920 q62 q921) nd_X1_requireState rfl rfl (Nat.le_of_ble_eq_true rfl) ⟨Nat.le_of_ble_eq_true rfl, Nat.le_of_ble_eq_true rfl⟩ ⟨zfit (k := 1) (z := 5) rfl rfl (by omega), zfit (k := 6) (z := 41) rfl rfl (by omega)⟩ dX1_element_23) ⟨zad (k := 1) rfl (by omega), zad (k := 6) rfl (by omega)⟩ hS (fun _ z => z.elim) (fun E ce q9 Hx7 locs hp hF hS1 hce hcv hcl => ?_) (fun r H8 locs hp hF hS1 => ?_)
    · exact z_out hno hlk hX hS1 ⟨zle (z := 5) rfl (by omega), zle (z := 41) rfl (by omega)⟩ hce hcv hcl (absurd hp.2 (by decide))
    obtain ⟨rfl, -⟩ := hp
    have hP := zpk hP hF
    have hP : va_P G.1 zCl ([]) H8 := hP
    have hD : va_D (zA (FC G ρ σ) H0) ([]) := hD
    have hH1 : HC G s0 ρ σ H8 := hH1.ext0 hE hF
    have hS := hS1
    obtain ⟨sm, hxx⟩ := id hH1.2.2.1.1
    refine lv_aload_n hx hb dX1_element_26 rfl (lv_at hl 1 rfl) ?_
    refine z_get hC (k := 2) rfl in_X1 hxx (by decide) q153 (fun _ h => h) rfl dX1_element_27 ?_
    refine z_new hC hP hD hS (c1 := 3) (s1 := 15) (fs := [.null, .null, .null]) (ci := 6) rfl in_X7 tyX7_ok q220 q316 q92 df_X7 ⟨zle (z := 5) rfl (by omega), zle (z := 41) rfl (by omega)⟩ ⟨by omega, by omega⟩ (ws' := fun q9 => [(q9, zOb 6 [.null, .null, .null])]) (fun _ => rfl) dX1_element_30 (fun q9 H10 hq0q9 hq1q9 hP hD hS hF => ?_)
    have hH1 : HC G s0 ρ σ H10 := hH1.ext0 hE hF
    refine lv_dup hx hb dX1_element_33 rfl ?_
    refine lv_aload_n hx hb dX1_element_34 rfl (lv_at hl 1 rfl) ?_
    refine lv_aload_n hx hb dX1_element_35 rfl (lv_at hl 0 rfl) ?_
    have hqn : H0.size ≤ q9 := hq0q9
    have hszb : H0.size ≤ H10.size := hS.1
    refine z_go 4 31 (z_runI (As := [.ref (ρ (0, 0, 0)), .ref (ρ (6, k, 0))]) (rest := [.ref q9, .ref (ρ (3, 0, 0))]) hC hml hl.1 (m_X7_init hE H10 (hO.ext (zS_F hS) hMo) (ρ (0, 0, 0)) (ρ (6, k, 0)) (St_p σ) (St_d σ k) (St_n σ k) (St_kd σ k) (St_dv σ k) (St_sg σ k) q9 (Nat.le_trans hO.1 hqn) (hH1.ag (k := k) (by omega)) (hP 0 _ rfl)) q319 q92 q1131 q318 rfl nd_X7_init rfl rfl (Nat.le_of_ble_eq_true rfl) ⟨Nat.le_of_ble_eq_true rfl, Nat.le_of_ble_eq_true rfl⟩ ⟨zfit (k := 1) (z := 5) rfl rfl (by omega), zfit (k := 16) (z := 41) rfl rfl (by omega)⟩ dX1_element_36) ⟨zad (k := 1) rfl (by omega), zad (k := 16) rfl (by omega)⟩ hS (fun q z => by subst z; exact hD.2 0 _ rfl) (fun r H12 locs hp hF hS1 => ?_)
    obtain ⟨rfl, rn11, hm, hN⟩ := hp
    obtain ⟨hP, hD⟩ := zjmn hP hD hS.1 hF 0 rfl hm hN
    have hP : va_P G.1 zCl ([(q9, zOb 6 [.ref (ρ (6, k, 0)), .ref rn11, .ref (ρ (0, 0, 0))]), (rn11, zI G (St_n σ k) (fun _ => 0))]) H12 := hP
    have hD : va_D (zA (FC G ρ σ) H0) ([(q9, zOb 6 [.ref (ρ (6, k, 0)), .ref rn11, .ref (ρ (0, 0, 0))]), (rn11, zI G (St_n σ k) (fun _ => 0))]) := hD
    have hH1 : HC G s0 ρ σ H12 := hH1.ext hE hF (fun a9 ha9 _ z => by have := hh.lt hE hO a9 ha9; omega)
    have hS := hS1
    have hrn9 : H0.size ≤ rn11 := Nat.le_trans hszb (hN.2.2 0 _ rfl)
    have hqr9 : q9 ≠ rn11 := z_noArr hE (ci := 6) (t := 0) rfl (hP 0 _ rfl) rfl (hP 1 _ rfl)
    have hDn : va_D (fun z => H0.size ≤ z) [(q9, zOb 6 [.ref (ρ (6, k, 0)), .ref rn11, .ref (ρ (0, 0, 0))]), (rn11, zI G (St_n σ k) (fun _ => 0))] := zD2 hqn hrn9 hqr9
    have hHbs : H0.size ≤ H12.size := hS.1
    obtain ⟨mdl, hLb⟩ := id hH1.2.2.1.2.2.1
    have hHb := hH1
    have hPb := hP
    have hxne : q9 ≠ (ρ (3, 0, 0)) := by have h1 := hh.lt hE hO _ (dom0 3 (by omega)); have h2 : H0.size ≤ q9 := hDn.2 0 _ rfl; omega
    have hsep9 : (ρ (4, 0, 0)) ≠ G.2 12 → s0.heap.size ≤ (ρ (4, 0, 0)) ∧ (ρ (3, 0, 0)) ≠ (ρ (4, 0, 0)) := fun w => ⟨(hh.sep.1 _ (dom0 4 (by omega))).resolve_right (fun y => w y.1), hh.sep.ne hE (dom0 3 (by omega)) (dom0 4 (by omega)) (fun y => by cases y) (by simp)⟩
    obtain ⟨sm8, hx8⟩ := id hH1.2.2.1.1
    refine z_go 5 41 (z_runV (As := [.ref q9]) (rest := []) hC hml hl.1 (m_J2_add hE H12 (hO.ext (zS_F hS) hMo) (ρ (3, 0, 0)) (St_ne σ) (fun j => ρ (13, j, 0)) (ρ (4, 0, 0)) mdl q9 (hh.sep.ge (dom0 3 (by omega)) (by simp)) hsep9 (by omega) hLb (zAny.of hE (ci := 6) rfl (hPb 0 _ rfl) q1979) hxne) (lw_V q977 q978 q979 q65 q980) rfl nd_J2_add rfl (z_rv hC (ci := 8) rfl hLb.1 rfl) rfl (Nat.le_of_ble_eq_true rfl) ⟨Nat.le_of_ble_eq_true rfl, Nat.le_of_ble_eq_true rfl⟩ ⟨zfit (k := 1) (z := 5) rfl rfl (by omega), zfit (k := 10) (z := 41) rfl rfl (by omega)⟩ dX1_element_39) ⟨zad (k := 1) rfl (by omega), zad (k := 10) rfl (by omega)⟩ hS (fun z hz => Or.inl (hz.elim (fun w => w ▸ FC.in hE hh.sep (dom0 3 (by omega)) (by simp)) (fun w => ⟨by rw [w.1]; exact w.2, (4, 0, 0), dom0 4 (by omega), w.1.symm⟩))) (fun r H13 locs hp hF hS1 => ?_)
    obtain ⟨_, rfl, rfl, arr1, hL1, hor⟩ := hp
    have hP : va_P G.1 zCl [(q9, zOb 6 [.ref (ρ (6, k, 0)), .ref rn11, .ref (ρ (0, 0, 0))]), (rn11, zI G (St_n σ k) (fun _ => 0))] H13 := zkeep hPb hDn hF (fun z hz => by have h1 := hh.lt hE hO _ (dom0 3 (by omega)); have h2 := hh.lt hE hO _ (dom0 4 (by omega)); rcases hz with hz | hz <;> omega)
    have hx9 := hx8.ext hF (fun z => z.elim (fun w => by have := hh.sep.ne hE (dom0 0 (by omega)) (dom0 3 (by omega)) (fun y => by cases y) (by simp); exact this w) (fun w => by have := hh.sep.ne hE (dom0 0 (by omega)) (dom0 4 (by omega)) (fun y => by cases y) (by simp); exact this w.1))
    have hP : va_P G.1 zCl ([(q9, zOb 6 [.ref (ρ (6, k, 0)), .ref rn11, .ref (ρ (0, 0, 0))]), (rn11, zI G (St_n σ k) (fun _ => 0))]) H13 := hP
    have hD : va_D (zA (FC G ρ σ) H0) ([(q9, zOb 6 [.ref (ρ (6, k, 0)), .ref rn11, .ref (ρ (0, 0, 0))]), (rn11, zI G (St_n σ k) (fun _ => 0))]) := hD
    have hS := hS1
    have hpo : PoC G s0 H0 ρ σ (stNew σ k) H13 := HC.newel hE hO hh hHb hF (by omega) hlt9 hqn hrn9 (hor.imp id (fun z => Nat.le_trans hHbs z)) hL1 ⟨hP 0 _ rfl, hP 1 _ rfl⟩
    have hHpo := hpo
    refine lv_pop hx hb dX1_element_42 rfl ?_
    refine lv_aload_n hx hb dX1_element_43 rfl (lv_at hl 1 rfl) ?_
    refine z_get hC (k := 2) rfl in_X1 hx9 (by decide) q153 (fun _ h => h) rfl dX1_element_44 ?_
    refine z_go 5 41 (z_runV (As := []) (rest := []) hC hml hl.1 (m_J2_size hE H13 (hO.ext (zS_F hS) hMo) (ρ (3, 0, 0)) (St_ne σ + 1) _ arr1 _ hL1) (lw_V q229 q230 q231 q65 q232) rfl nd_J2_size rfl (z_rv hC (ci := 8) rfl hL1.1 rfl) rfl (Nat.le_of_ble_eq_true rfl) ⟨Nat.le_of_ble_eq_true rfl, Nat.le_of_ble_eq_true rfl⟩ ⟨zfit (k := 0) (z := 5) rfl rfl (by omega), zfit (k := 0) (z := 41) rfl rfl (by omega)⟩ dX1_element_47) ⟨zad (k := 0) rfl (by omega), zad (k := 0) rfl (by omega)⟩ hS (fun _ z => z.elim) (fun r H14 locs hp hF hS1 => ?_)
    obtain ⟨_, rfl, rfl⟩ := hp
    have hP := zpk hP hF
    have hP : va_P G.1 zCl ([(q9, zOb 6 [.ref (ρ (6, k, 0)), .ref rn11, .ref (ρ (0, 0, 0))]), (rn11, zI G (St_n σ k) (fun _ => 0))]) H14 := hP
    have hD : va_D (zA (FC G ρ σ) H0) ([(q9, zOb 6 [.ref (ρ (6, k, 0)), .ref rn11, .ref (ρ (0, 0, 0))]), (rn11, zI G (St_n σ k) (fun _ => 0))]) := hD
    have hHpo : PoC G s0 H0 ρ σ (stNew σ k) H14 := hHpo.ext0 hE hF
    have hS := hS1
    refine lv_iconst (v := iI 1) hx hb dX1_element_50 rfl ?_
    refine z_sub hx hb (z := ((St_ne σ + 1 : Nat) : Int) - 1) dX1_element_51 rfl ?_
    refine z_top (b := ((St_ne σ : Nat) : Int)) (by omega) ?_
    exact z_iret hC hrt hlk hQ hS ⟨zle (z := 5) rfl (by omega), zle (z := 41) rfl (by omega)⟩ ⟨_, rfl, _, ⟨k, ⟨by omega, by omega⟩, hlt9, rfl, rfl⟩, hHpo⟩ dX1_element_52

abbrev rm_m_X1_algebra : Room := { frames := 7, cells := 8, slots := 35, locals := 221 }
set_option maxHeartbeats 4000000 in
theorem m_X1_algebra {l : Launch} {s0 : State} {G : zG} (hE : zE l s0 G) (H0 : Heap) (hO : zO s0 H0) (ρ : Ro → Nat) (σ : St) (z : Int) (hh : HC G s0 ρ σ H0) (hz : zi z) : zMX l s0 yX1_algebra cX1_algebra 2 (some FieldType.int) rm_m_X1_algebra [.ref (ρ (0, 0, 0)), .int (iI z)] H0 (FC G ρ σ) (HP G s0 H0 ρ σ (fun y σ' => (0 ≤ z ∧ z ≤ 1) ∧ St_na σ < 4 ∧ σ' = stAl σ z.toNat ∧ y = (St_na σ : Nat))) (HX G s0 ρ σ (XAlg σ z)) := by
  refine z_metX hE (by decide +kernel) (Nat.le_of_ble_eq_true rfl) ?_
  intro pp ee ss mm args below meth cd Q ls hC hml hrt hlk hnm hH hQ hno hX hS hl
  have hx := hC.x
  have hb := hC.b
  have hl : lv_has ls 2 [(0, .ref (ρ (0, 0, 0))), (1, .int (iI z))] := hl
  have hP : va_P G.1 zCl [] H0 := va_nil
  have hD : va_D (zA (FC G ρ σ) H0) [] := va_nilD
  have hMo : ∀ z, FC G ρ σ z → s0.heap.size ≤ z := fun z hz => FC.ge hh.sep hz
  have hH1 := hh
  obtain ⟨hp, hna, hal, hne9, hel9, hmr9⟩ := id hh.ok
  have hp7 : 0 < St_p σ ∧ St_p σ ≤ 7 := by rcases hp with h | h | h <;> rw [h] <;> decide
  obtain ⟨sm9, -⟩ := id hh.2.2.1.1
  refine lv_iconst (v := iI 0) hx hb dX1_algebra_0 rfl ?_
  refine lv_iconst (v := iI 1) hx hb dX1_algebra_1 rfl ?_
  refine lv_iload_n hx hb dX1_algebra_2 rfl (lv_at hl 1 rfl) ?_
  refine z_go 0 0 (z_runS (As := [.int (iI 0), .int (iI 1), .int (iI z)]) (rest := []) hC hml hl.1 (m_X1_isFrom hE H0 (hO.ext (zS_F hS) hMo) 0 1 z ⟨by decide, by decide, hz⟩) (lw_S q944 q350 q62 q351) nd_X1_isFrom rfl rfl (Nat.le_of_ble_eq_true rfl) ⟨Nat.le_of_ble_eq_true rfl, Nat.le_of_ble_eq_true rfl⟩ ⟨zfit (k := 0) (z := 8) rfl rfl (by omega), zfit (k := 0) (z := 35) rfl rfl (by omega)⟩ dX1_algebra_3) ⟨zad (k := 0) rfl (by omega), zad (k := 0) rfl (by omega)⟩ hS (fun _ z => z.elim) (fun r H1 locs hp hF hS1 => ?_)
  obtain ⟨_, rfl, rfl⟩ := hp
  have hP := zpk hP hF
  have hP : va_P G.1 zCl ([]) H1 := hP
  have hD : va_D (zA (FC G ρ σ) H0) ([]) := hD
  have hH1 : HC G s0 ρ σ H1 := hH1.ext0 hE hF
  have hS := hS1
  obtain ⟨fl, hfl, hfl2⟩ : ∃ fl : Nat, fl ≤ 1 ∧ (if 0 ≤ z ∧ z ≤ 1 then (1 : Int) else 0) = fl ∧ (fl = 1 ↔ 0 ≤ z ∧ z ≤ 1) := by by_cases h : 0 ≤ z ∧ z ≤ 1; exact ⟨1, by decide, by rw [if_pos h]; rfl, by simp [h]⟩; exact ⟨0, by decide, by rw [if_neg h]; rfl, by simp [h]⟩
  refine z_top (b := ((fl : Nat) : Int)) (hfl2.1) ?_
  refine z_goX 1 6 (z_runSx (As := [.int (iI ((fl : Nat) : Int))]) (rest := []) hC hml hl.1 (m_X1_require hE H1 (hO.ext (zS_F hS) hMo) fl hfl) (lw_S q905 q906 q62 q907) nd_X1_require rfl rfl (Nat.le_of_ble_eq_true rfl) ⟨Nat.le_of_ble_eq_true rfl, Nat.le_of_ble_eq_true rfl⟩ ⟨zfit (k := 1) (z := 8) rfl rfl (by omega), zfit (k := 6) (z := 35) rfl rfl (by omega)⟩ dX1_algebra_6) ⟨zad (k := 1) rfl (by omega), zad (k := 6) rfl (by omega)⟩ hS (fun _ z => z.elim) (fun E ce q9 Hx2 locs hp hF hS1 hce hcv hcl => ?_) (fun r H3 locs hp hF hS1 => ?_)
  · exact z_out hno hlk hX hS1 ⟨zle (z := 8) rfl (by omega), zle (z := 35) rfl (by omega)⟩ hce hcv hcl (⟨Or.inl ⟨hp.1, fun w => by have h9 := hfl2.2.mpr w; have h8 := hp.2; omega⟩, hH1.ext0 hE hF⟩)
  obtain ⟨rfl, hfl1⟩ := hp
  have hP := zpk hP hF
  have hP : va_P G.1 zCl ([]) H3 := hP
  have hD : va_D (zA (FC G ρ σ) H0) ([]) := hD
  have hH1 : HC G s0 ρ σ H3 := hH1.ext0 hE hF
  have hS := hS1
  have hz9 := hfl2.2.mp hfl1
  obtain ⟨sm, hxx⟩ := id hH1.2.2.1.1
  refine lv_aload_n hx hb dX1_algebra_9 rfl (lv_at hl 0 rfl) ?_
  refine z_get hC (k := 1) rfl in_X1 hxx (by decide) q152 (fun _ h => h) rfl dX1_algebra_10 ?_
  obtain ⟨mda, hLa⟩ := id hH1.2.2.1.2.1
  refine z_go 1 6 (z_runV (As := []) (rest := []) hC hml hl.1 (m_J2_size hE H3 (hO.ext (zS_F hS) hMo) (ρ (1, 0, 0)) (St_na σ) (fun k => ρ (6, k, 0)) (ρ (2, 0, 0)) mda hLa) (lw_V q229 q230 q231 q65 q232) rfl nd_J2_size rfl (z_rv hC (ci := 8) rfl hLa.1 rfl) rfl (Nat.le_of_ble_eq_true rfl) ⟨Nat.le_of_ble_eq_true rfl, Nat.le_of_ble_eq_true rfl⟩ ⟨zfit (k := 0) (z := 8) rfl rfl (by omega), zfit (k := 0) (z := 35) rfl rfl (by omega)⟩ dX1_algebra_13) ⟨zad (k := 0) rfl (by omega), zad (k := 0) rfl (by omega)⟩ hS (fun _ z => z.elim) (fun r H4 locs hp hF hS1 => ?_)
  obtain ⟨_, rfl, rfl⟩ := hp
  have hP := zpk hP hF
  have hP : va_P G.1 zCl ([]) H4 := hP
  have hD : va_D (zA (FC G ρ σ) H0) ([]) := hD
  have hH1 : HC G s0 ρ σ H4 := hH1.ext0 hE hF
  have hS := hS1
  refine lv_iconst (v := iI 4) hx hb dX1_algebra_16 rfl ?_
  refine z_cge (tgt := 24) hx hb dX1_algebra_17 (by decide) (by omega) (fun c5 => ?_) (fun c5 => ?_)
  · refine lv_iconst (v := iI 0) hx hb dX1_algebra_24 rfl ?_
    refine z_goX 2 12 (z_runSx (As := [.int (iI 0)]) (rest := []) hC hml hl.1 (m_X1_requireState hE H4 (hO.ext (zS_F hS) hMo) 0 (by decide)) (lw_S q919 q920 q62 q921) nd_X1_requireState rfl rfl (Nat.le_of_ble_eq_true rfl) ⟨Nat.le_of_ble_eq_true rfl, Nat.le_of_ble_eq_true rfl⟩ ⟨zfit (k := 1) (z := 8) rfl rfl (by omega), zfit (k := 6) (z := 35) rfl rfl (by omega)⟩ dX1_algebra_25) ⟨zad (k := 1) rfl (by omega), zad (k := 6) rfl (by omega)⟩ hS (fun _ z => z.elim) (fun E ce q9 Hx6 locs hp hF hS1 hce hcv hcl => ?_) (fun r H7 locs hp hF hS1 => ?_)
    · exact z_out hno hlk hX hS1 ⟨zle (z := 8) rfl (by omega), zle (z := 35) rfl (by omega)⟩ hce hcv hcl (⟨Or.inr ⟨hp.1, hz9, by omega⟩, hH1.ext0 hE hF⟩)
    exact (show False from by have h9 : (0 : Nat) = 1 := hp.2; omega).elim
  · have hlt9 : St_na σ < 4 := by omega
    refine lv_iconst (v := iI 1) hx hb dX1_algebra_20 rfl ?_
    refine lv_goto (tgt := 25) hx hb dX1_algebra_21 (by decide) ?_
    refine z_goX 2 12 (z_runSx (As := [.int (iI 1)]) (rest := []) hC hml hl.1 (m_X1_requireState hE H4 (hO.ext (zS_F hS) hMo) 1 (by decide)) (lw_S q919 q920 q62 q921) nd_X1_requireState rfl rfl (Nat.le_of_ble_eq_true rfl) ⟨Nat.le_of_ble_eq_true rfl, Nat.le_of_ble_eq_true rfl⟩ ⟨zfit (k := 1) (z := 8) rfl rfl (by omega), zfit (k := 6) (z := 35) rfl rfl (by omega)⟩ dX1_algebra_25) ⟨zad (k := 1) rfl (by omega), zad (k := 6) rfl (by omega)⟩ hS (fun _ z => z.elim) (fun E ce q9 Hx8 locs hp hF hS1 hce hcv hcl => ?_) (fun r H9 locs hp hF hS1 => ?_)
    · exact z_out hno hlk hX hS1 ⟨zle (z := 8) rfl (by omega), zle (z := 35) rfl (by omega)⟩ hce hcv hcl (absurd hp.2 (by decide))
    obtain ⟨rfl, -⟩ := hp
    have hP := zpk hP hF
    have hP : va_P G.1 zCl ([]) H9 := hP
    have hD : va_D (zA (FC G ρ σ) H0) ([]) := hD
    have hH1 : HC G s0 ρ σ H9 := hH1.ext0 hE hF
    have hS := hS1
    obtain ⟨sm, hxx⟩ := id hH1.2.2.1.1
    refine lv_aload_n hx hb dX1_algebra_28 rfl (lv_at hl 0 rfl) ?_
    refine z_get hC (k := 1) rfl in_X1 hxx (by decide) q152 (fun _ h => h) rfl dX1_algebra_29 ?_
    refine z_new hC hP hD hS (c1 := 3) (s1 := 17) (fs := [.null, .null, .null, .null, .null]) (ci := 4) rfl in_X5 tyX5_ok q296 q413 q74 df_X5 ⟨zle (z := 8) rfl (by omega), zle (z := 35) rfl (by omega)⟩ ⟨by omega, by omega⟩ (ws' := fun q10 => [(q10, zOb 4 [.null, .null, .null, .null, .null])]) (fun _ => rfl) dX1_algebra_32 (fun q10 H11 hq0q10 hq1q10 hP hD hS hF => ?_)
    have hH1 : HC G s0 ρ σ H11 := hH1.ext0 hE hF
    refine lv_dup hx hb dX1_algebra_35 rfl ?_
    refine lv_aload_n hx hb dX1_algebra_36 rfl (lv_at hl 0 rfl) ?_
    refine lv_iload_n hx hb dX1_algebra_37 rfl (lv_at hl 1 rfl) ?_
    have hgn : H0.size ≤ q10 := hq0q10
    refine z_zne (tgt := 47) hx hb dX1_algebra_38 (by decide) (by omega) (fun c12 => ?_) (fun c12 => ?_)
    · refine z_gets hC (hO.ext (zS_F hS) hMo) (hE.2.2.2.1.1.2.1) q947 dX1_algebra_47 ?_
      have hszb : H0.size ≤ H11.size := hS.1
      refine z_go 7 25 (z_runI (As := [.ref (ρ (0, 0, 0)), .ref (G.2 11)]) (rest := [.ref q10, .ref (ρ (1, 0, 0))]) hC hml hl.1 (m_X5_init hE H11 (hO.ext (zS_F hS) hMo) q10 (ρ (0, 0, 0)) 1 (Nat.le_trans hO.1 hgn) (hP 0 _ rfl)) q950 q74 q948 q949 rfl nd_X5_init rfl rfl (Nat.le_of_ble_eq_true rfl) ⟨Nat.le_of_ble_eq_true rfl, Nat.le_of_ble_eq_true rfl⟩ ⟨zfit (k := 4) (z := 8) rfl rfl (by omega), zfit (k := 8) (z := 35) rfl rfl (by omega)⟩ dX1_algebra_50) ⟨zad (k := 4) rfl (by omega), zad (k := 8) rfl (by omega)⟩ hS (fun q z => by subst z; exact hD.2 0 _ rfl) (fun r H13 locs hp hF hS1 => ?_)
      obtain ⟨rfl, dl, ml, so, r0, hP9, hD9⟩ := hp
      have hP := hP9
      have hDn : va_D (fun z => H0.size ≤ z) [(q10, zOb 4 [.ref (G.2 (10 + 1)), .ref dl, .ref ml, .ref so, .ref (ρ (0, 0, 0))]), (dl, zOb 8 [.int (iI 0), .ref (G.2 12), .int (iI 0)]), (ml, zOb 8 [.int (iI 0), .ref (G.2 12), .int (iI 0)]), (so, zII G 1 (fun _ => some r0)), (r0, zI G 1 (fun _ => 1))] := va_D.weaken hD9 (fun _ _ _ z => z.elim (fun w => w ▸ hgn) (fun w => Nat.le_trans hszb w))
      have hD : va_D (zA (FC G ρ σ) H0) _ := va_D.weaken hDn (fun _ _ _ z => Or.inr z)
      have hP : va_P G.1 zCl ([(q10, zOb 4 [.ref (G.2 (10 + 1)), .ref dl, .ref ml, .ref so, .ref (ρ (0, 0, 0))]), (dl, zOb 8 [.int (iI 0), .ref (G.2 12), .int (iI 0)]), (ml, zOb 8 [.int (iI 0), .ref (G.2 12), .int (iI 0)]), (so, zII G 1 (fun _ => some r0)), (r0, zI G 1 (fun _ => 1))]) H13 := hP
      have hD : va_D (zA (FC G ρ σ) H0) ([(q10, zOb 4 [.ref (G.2 (10 + 1)), .ref dl, .ref ml, .ref so, .ref (ρ (0, 0, 0))]), (dl, zOb 8 [.int (iI 0), .ref (G.2 12), .int (iI 0)]), (ml, zOb 8 [.int (iI 0), .ref (G.2 12), .int (iI 0)]), (so, zII G 1 (fun _ => some r0)), (r0, zI G 1 (fun _ => 1))]) := hD
      have hH1 : HC G s0 ρ σ H13 := hH1.ext hE hF (fun a9 ha9 _ z => by have := hh.lt hE hO a9 ha9; omega)
      have hS := hS1
      have hlt0 : ¬ H13.size ≤ q10 ∧ ¬ H13.size ≤ dl ∧ ¬ H13.size ≤ ml ∧ ¬ H13.size ≤ so ∧ ¬ H13.size ≤ r0 := ⟨Nat.not_le.mpr (hP 0 _ rfl).lt, Nat.not_le.mpr (hP 1 _ rfl).lt, Nat.not_le.mpr (hP 2 _ rfl).lt, Nat.not_le.mpr (hP 3 _ rfl).lt, Nat.not_le.mpr (hP 4 _ rfl).lt⟩
      have hHbs : H0.size ≤ H13.size := hS.1
      obtain ⟨mdl, hLb⟩ := id hH1.2.2.1.2.1
      have hHb := hH1
      have hPb := hP
      have hxne : q10 ≠ (ρ (1, 0, 0)) := by have h1 := hh.lt hE hO _ (dom0 1 (by omega)); have h2 : H0.size ≤ q10 := hDn.2 0 _ rfl; omega
      have hsep9 : (ρ (2, 0, 0)) ≠ G.2 12 → s0.heap.size ≤ (ρ (2, 0, 0)) ∧ (ρ (1, 0, 0)) ≠ (ρ (2, 0, 0)) := fun w => ⟨(hh.sep.1 _ (dom0 2 (by omega))).resolve_right (fun y => w y.1), hh.sep.ne hE (dom0 1 (by omega)) (dom0 2 (by omega)) (fun y => by cases y) (by simp)⟩
      obtain ⟨sm8, hx8⟩ := id hH1.2.2.1.1
      refine z_go 8 35 (z_runV (As := [.ref q10]) (rest := []) hC hml hl.1 (m_J2_add hE H13 (hO.ext (zS_F hS) hMo) (ρ (1, 0, 0)) (St_na σ) (fun k => ρ (6, k, 0)) (ρ (2, 0, 0)) mdl q10 (hh.sep.ge (dom0 1 (by omega)) (by simp)) hsep9 (by omega) hLb (zAny.of hE (ci := 4) rfl (hPb 0 _ rfl) q1971) hxne) (lw_V q977 q978 q979 q65 q980) rfl nd_J2_add rfl (z_rv hC (ci := 8) rfl hLb.1 rfl) rfl (Nat.le_of_ble_eq_true rfl) ⟨Nat.le_of_ble_eq_true rfl, Nat.le_of_ble_eq_true rfl⟩ ⟨zfit (k := 1) (z := 8) rfl rfl (by omega), zfit (k := 10) (z := 35) rfl rfl (by omega)⟩ dX1_algebra_53) ⟨zad (k := 1) rfl (by omega), zad (k := 10) rfl (by omega)⟩ hS (fun z hz => Or.inl (hz.elim (fun w => w ▸ FC.in hE hh.sep (dom0 1 (by omega)) (by simp)) (fun w => ⟨by rw [w.1]; exact w.2, (2, 0, 0), dom0 2 (by omega), w.1.symm⟩))) (fun r H14 locs hp hF hS1 => ?_)
      obtain ⟨_, rfl, rfl, arr1, hL1, hor⟩ := hp
      have hP : va_P G.1 zCl [(q10, zOb 4 [.ref (G.2 (10 + 1)), .ref dl, .ref ml, .ref so, .ref (ρ (0, 0, 0))]), (dl, zOb 8 [.int (iI 0), .ref (G.2 12), .int (iI 0)]), (ml, zOb 8 [.int (iI 0), .ref (G.2 12), .int (iI 0)]), (so, zII G 1 (fun _ => some r0)), (r0, zI G 1 (fun _ => 1))] H14 := zkeep hPb hDn hF (fun z hz => by have h1 := hh.lt hE hO _ (dom0 1 (by omega)); have h2 := hh.lt hE hO _ (dom0 2 (by omega)); rcases hz with hz | hz <;> omega)
      have hx9 := hx8.ext hF (fun z => z.elim (fun w => by have := hh.sep.ne hE (dom0 0 (by omega)) (dom0 1 (by omega)) (fun y => by cases y) (by simp); exact this w) (fun w => by have := hh.sep.ne hE (dom0 0 (by omega)) (dom0 2 (by omega)) (fun y => by cases y) (by simp); exact this w.1))
      have hP : va_P G.1 zCl ([(q10, zOb 4 [.ref (G.2 (10 + 1)), .ref dl, .ref ml, .ref so, .ref (ρ (0, 0, 0))]), (dl, zOb 8 [.int (iI 0), .ref (G.2 12), .int (iI 0)]), (ml, zOb 8 [.int (iI 0), .ref (G.2 12), .int (iI 0)]), (so, zII G 1 (fun _ => some r0)), (r0, zI G 1 (fun _ => 1))]) H14 := hP
      have hD : va_D (zA (FC G ρ σ) H0) ([(q10, zOb 4 [.ref (G.2 (10 + 1)), .ref dl, .ref ml, .ref so, .ref (ρ (0, 0, 0))]), (dl, zOb 8 [.int (iI 0), .ref (G.2 12), .int (iI 0)]), (ml, zOb 8 [.int (iI 0), .ref (G.2 12), .int (iI 0)]), (so, zII G 1 (fun _ => some r0)), (r0, zI G 1 (fun _ => 1))]) := hD
      have hS := hS1
      have hr29 : (ρ (2, 0, 0)) < H0.size := hh.lt hE hO _ (dom0 2 (by omega))
      have hge0 : H0.size ≤ q10 := hDn.2 0 _ rfl
      have hge1 : H0.size ≤ dl := hDn.2 1 _ rfl
      have hge2 : H0.size ≤ ml := hDn.2 2 _ rfl
      have hge3 : H0.size ≤ so := hDn.2 3 _ rfl
      have hge4 : H0.size ≤ r0 := hDn.2 4 _ rfl
      have hpo : PoC G s0 H0 ρ σ (stAl σ 1) H14 := HC.newal hE hO hh hHb hF (by decide) hlt9 ⟨hge0, hge1, hge2, hge3, hge4⟩ (hor.imp id (fun z => Nat.le_trans hHbs z)) ⟨fun e => absurd (hDn.1 0 1 _ _ rfl rfl e) (by decide), fun e => absurd (hDn.1 0 2 _ _ rfl rfl e) (by decide), fun e => absurd (hDn.1 0 3 _ _ rfl rfl e) (by decide), fun e => absurd (hDn.1 0 4 _ _ rfl rfl e) (by decide), fun e => absurd (hDn.1 1 2 _ _ rfl rfl e) (by decide), fun e => absurd (hDn.1 1 3 _ _ rfl rfl e) (by decide), fun e => absurd (hDn.1 1 4 _ _ rfl rfl e) (by decide), fun e => absurd (hDn.1 2 3 _ _ rfl rfl e) (by decide), fun e => absurd (hDn.1 2 4 _ _ rfl rfl e) (by decide), fun e => absurd (hDn.1 3 4 _ _ rfl rfl e) (by decide), by rcases hor with w | w <;> omega, by rcases hor with w | w <;> omega, by rcases hor with w | w <;> omega, by rcases hor with w | w <;> omega, by rcases hor with w | w <;> omega⟩ hL1 (hP 0 _ rfl) (hP 1 _ rfl) (hP 2 _ rfl) (hP 3 _ rfl) (hP 4 _ rfl)
      have hHpo := hpo
      refine lv_pop hx hb dX1_algebra_56 rfl ?_
      refine lv_aload_n hx hb dX1_algebra_57 rfl (lv_at hl 0 rfl) ?_
      refine z_get hC (k := 1) rfl in_X1 hx9 (by decide) q152 (fun _ h => h) rfl dX1_algebra_58 ?_
      refine z_go 8 35 (z_runV (As := []) (rest := []) hC hml hl.1 (m_J2_size hE H14 (hO.ext (zS_F hS) hMo) (ρ (1, 0, 0)) (St_na σ + 1) _ arr1 _ hL1) (lw_V q229 q230 q231 q65 q232) rfl nd_J2_size rfl (z_rv hC (ci := 8) rfl hL1.1 rfl) rfl (Nat.le_of_ble_eq_true rfl) ⟨Nat.le_of_ble_eq_true rfl, Nat.le_of_ble_eq_true rfl⟩ ⟨zfit (k := 0) (z := 8) rfl rfl (by omega), zfit (k := 0) (z := 35) rfl rfl (by omega)⟩ dX1_algebra_61) ⟨zad (k := 0) rfl (by omega), zad (k := 0) rfl (by omega)⟩ hS (fun _ z => z.elim) (fun r H15 locs hp hF hS1 => ?_)
      obtain ⟨_, rfl, rfl⟩ := hp
      have hP := zpk hP hF
      have hP : va_P G.1 zCl ([(q10, zOb 4 [.ref (G.2 (10 + 1)), .ref dl, .ref ml, .ref so, .ref (ρ (0, 0, 0))]), (dl, zOb 8 [.int (iI 0), .ref (G.2 12), .int (iI 0)]), (ml, zOb 8 [.int (iI 0), .ref (G.2 12), .int (iI 0)]), (so, zII G 1 (fun _ => some r0)), (r0, zI G 1 (fun _ => 1))]) H15 := hP
      have hD : va_D (zA (FC G ρ σ) H0) ([(q10, zOb 4 [.ref (G.2 (10 + 1)), .ref dl, .ref ml, .ref so, .ref (ρ (0, 0, 0))]), (dl, zOb 8 [.int (iI 0), .ref (G.2 12), .int (iI 0)]), (ml, zOb 8 [.int (iI 0), .ref (G.2 12), .int (iI 0)]), (so, zII G 1 (fun _ => some r0)), (r0, zI G 1 (fun _ => 1))]) := hD
      have hHpo : PoC G s0 H0 ρ σ (stAl σ 1) H15 := hHpo.ext0 hE hF
      have hS := hS1
      refine lv_iconst (v := iI 1) hx hb dX1_algebra_64 rfl ?_
      refine z_sub hx hb (z := ((St_na σ + 1 : Nat) : Int) - 1) dX1_algebra_65 rfl ?_
      refine z_top (b := ((St_na σ : Nat) : Int)) (by omega) ?_
      exact z_iret hC hrt hlk hQ hS ⟨zle (z := 8) rfl (by omega), zle (z := 35) rfl (by omega)⟩ ⟨_, rfl, _, ⟨hz9, hlt9, by rw [show z.toNat = 1 by omega], rfl⟩, hHpo⟩ dX1_algebra_66
    · refine z_gets hC (hO.ext (zS_F hS) hMo) (hE.2.2.2.1.1.1) q945 dX1_algebra_41 ?_
      refine lv_goto (tgt := 50) hx hb dX1_algebra_44 (by decide) ?_
      have hszb : H0.size ≤ H11.size := hS.1
      refine z_go 7 25 (z_runI (As := [.ref (ρ (0, 0, 0)), .ref (G.2 10)]) (rest := [.ref q10, .ref (ρ (1, 0, 0))]) hC hml hl.1 (m_X5_init hE H11 (hO.ext (zS_F hS) hMo) q10 (ρ (0, 0, 0)) 0 (Nat.le_trans hO.1 hgn) (hP 0 _ rfl)) q950 q74 q948 q949 rfl nd_X5_init rfl rfl (Nat.le_of_ble_eq_true rfl) ⟨Nat.le_of_ble_eq_true rfl, Nat.le_of_ble_eq_true rfl⟩ ⟨zfit (k := 4) (z := 8) rfl rfl (by omega), zfit (k := 8) (z := 35) rfl rfl (by omega)⟩ dX1_algebra_50) ⟨zad (k := 4) rfl (by omega), zad (k := 8) rfl (by omega)⟩ hS (fun q z => by subst z; exact hD.2 0 _ rfl) (fun r H16 locs hp hF hS1 => ?_)
      obtain ⟨rfl, dl, ml, so, r0, hP9, hD9⟩ := hp
      have hP := hP9
      have hDn : va_D (fun z => H0.size ≤ z) [(q10, zOb 4 [.ref (G.2 (10 + 0)), .ref dl, .ref ml, .ref so, .ref (ρ (0, 0, 0))]), (dl, zOb 8 [.int (iI 0), .ref (G.2 12), .int (iI 0)]), (ml, zOb 8 [.int (iI 0), .ref (G.2 12), .int (iI 0)]), (so, zII G 1 (fun _ => some r0)), (r0, zI G 1 (fun _ => 1))] := va_D.weaken hD9 (fun _ _ _ z => z.elim (fun w => w ▸ hgn) (fun w => Nat.le_trans hszb w))
      have hD : va_D (zA (FC G ρ σ) H0) _ := va_D.weaken hDn (fun _ _ _ z => Or.inr z)
      have hP : va_P G.1 zCl ([(q10, zOb 4 [.ref (G.2 (10 + 0)), .ref dl, .ref ml, .ref so, .ref (ρ (0, 0, 0))]), (dl, zOb 8 [.int (iI 0), .ref (G.2 12), .int (iI 0)]), (ml, zOb 8 [.int (iI 0), .ref (G.2 12), .int (iI 0)]), (so, zII G 1 (fun _ => some r0)), (r0, zI G 1 (fun _ => 1))]) H16 := hP
      have hD : va_D (zA (FC G ρ σ) H0) ([(q10, zOb 4 [.ref (G.2 (10 + 0)), .ref dl, .ref ml, .ref so, .ref (ρ (0, 0, 0))]), (dl, zOb 8 [.int (iI 0), .ref (G.2 12), .int (iI 0)]), (ml, zOb 8 [.int (iI 0), .ref (G.2 12), .int (iI 0)]), (so, zII G 1 (fun _ => some r0)), (r0, zI G 1 (fun _ => 1))]) := hD
      have hH1 : HC G s0 ρ σ H16 := hH1.ext hE hF (fun a9 ha9 _ z => by have := hh.lt hE hO a9 ha9; omega)
      have hS := hS1
      have hlt0 : ¬ H16.size ≤ q10 ∧ ¬ H16.size ≤ dl ∧ ¬ H16.size ≤ ml ∧ ¬ H16.size ≤ so ∧ ¬ H16.size ≤ r0 := ⟨Nat.not_le.mpr (hP 0 _ rfl).lt, Nat.not_le.mpr (hP 1 _ rfl).lt, Nat.not_le.mpr (hP 2 _ rfl).lt, Nat.not_le.mpr (hP 3 _ rfl).lt, Nat.not_le.mpr (hP 4 _ rfl).lt⟩
      have hHbs : H0.size ≤ H16.size := hS.1
      obtain ⟨mdl, hLb⟩ := id hH1.2.2.1.2.1
      have hHb := hH1
      have hPb := hP
      have hxne : q10 ≠ (ρ (1, 0, 0)) := by have h1 := hh.lt hE hO _ (dom0 1 (by omega)); have h2 : H0.size ≤ q10 := hDn.2 0 _ rfl; omega
      have hsep9 : (ρ (2, 0, 0)) ≠ G.2 12 → s0.heap.size ≤ (ρ (2, 0, 0)) ∧ (ρ (1, 0, 0)) ≠ (ρ (2, 0, 0)) := fun w => ⟨(hh.sep.1 _ (dom0 2 (by omega))).resolve_right (fun y => w y.1), hh.sep.ne hE (dom0 1 (by omega)) (dom0 2 (by omega)) (fun y => by cases y) (by simp)⟩
      obtain ⟨sm8, hx8⟩ := id hH1.2.2.1.1
      refine z_go 8 35 (z_runV (As := [.ref q10]) (rest := []) hC hml hl.1 (m_J2_add hE H16 (hO.ext (zS_F hS) hMo) (ρ (1, 0, 0)) (St_na σ) (fun k => ρ (6, k, 0)) (ρ (2, 0, 0)) mdl q10 (hh.sep.ge (dom0 1 (by omega)) (by simp)) hsep9 (by omega) hLb (zAny.of hE (ci := 4) rfl (hPb 0 _ rfl) q1971) hxne) (lw_V q977 q978 q979 q65 q980) rfl nd_J2_add rfl (z_rv hC (ci := 8) rfl hLb.1 rfl) rfl (Nat.le_of_ble_eq_true rfl) ⟨Nat.le_of_ble_eq_true rfl, Nat.le_of_ble_eq_true rfl⟩ ⟨zfit (k := 1) (z := 8) rfl rfl (by omega), zfit (k := 10) (z := 35) rfl rfl (by omega)⟩ dX1_algebra_53) ⟨zad (k := 1) rfl (by omega), zad (k := 10) rfl (by omega)⟩ hS (fun z hz => Or.inl (hz.elim (fun w => w ▸ FC.in hE hh.sep (dom0 1 (by omega)) (by simp)) (fun w => ⟨by rw [w.1]; exact w.2, (2, 0, 0), dom0 2 (by omega), w.1.symm⟩))) (fun r H17 locs hp hF hS1 => ?_)
      obtain ⟨_, rfl, rfl, arr1, hL1, hor⟩ := hp
      have hP : va_P G.1 zCl [(q10, zOb 4 [.ref (G.2 (10 + 0)), .ref dl, .ref ml, .ref so, .ref (ρ (0, 0, 0))]), (dl, zOb 8 [.int (iI 0), .ref (G.2 12), .int (iI 0)]), (ml, zOb 8 [.int (iI 0), .ref (G.2 12), .int (iI 0)]), (so, zII G 1 (fun _ => some r0)), (r0, zI G 1 (fun _ => 1))] H17 := zkeep hPb hDn hF (fun z hz => by have h1 := hh.lt hE hO _ (dom0 1 (by omega)); have h2 := hh.lt hE hO _ (dom0 2 (by omega)); rcases hz with hz | hz <;> omega)
      have hx9 := hx8.ext hF (fun z => z.elim (fun w => by have := hh.sep.ne hE (dom0 0 (by omega)) (dom0 1 (by omega)) (fun y => by cases y) (by simp); exact this w) (fun w => by have := hh.sep.ne hE (dom0 0 (by omega)) (dom0 2 (by omega)) (fun y => by cases y) (by simp); exact this w.1))
      have hP : va_P G.1 zCl ([(q10, zOb 4 [.ref (G.2 (10 + 0)), .ref dl, .ref ml, .ref so, .ref (ρ (0, 0, 0))]), (dl, zOb 8 [.int (iI 0), .ref (G.2 12), .int (iI 0)]), (ml, zOb 8 [.int (iI 0), .ref (G.2 12), .int (iI 0)]), (so, zII G 1 (fun _ => some r0)), (r0, zI G 1 (fun _ => 1))]) H17 := hP
      have hD : va_D (zA (FC G ρ σ) H0) ([(q10, zOb 4 [.ref (G.2 (10 + 0)), .ref dl, .ref ml, .ref so, .ref (ρ (0, 0, 0))]), (dl, zOb 8 [.int (iI 0), .ref (G.2 12), .int (iI 0)]), (ml, zOb 8 [.int (iI 0), .ref (G.2 12), .int (iI 0)]), (so, zII G 1 (fun _ => some r0)), (r0, zI G 1 (fun _ => 1))]) := hD
      have hS := hS1
      have hr29 : (ρ (2, 0, 0)) < H0.size := hh.lt hE hO _ (dom0 2 (by omega))
      have hge0 : H0.size ≤ q10 := hDn.2 0 _ rfl
      have hge1 : H0.size ≤ dl := hDn.2 1 _ rfl
      have hge2 : H0.size ≤ ml := hDn.2 2 _ rfl
      have hge3 : H0.size ≤ so := hDn.2 3 _ rfl
      have hge4 : H0.size ≤ r0 := hDn.2 4 _ rfl
      have hpo : PoC G s0 H0 ρ σ (stAl σ 0) H17 := HC.newal hE hO hh hHb hF (by decide) hlt9 ⟨hge0, hge1, hge2, hge3, hge4⟩ (hor.imp id (fun z => Nat.le_trans hHbs z)) ⟨fun e => absurd (hDn.1 0 1 _ _ rfl rfl e) (by decide), fun e => absurd (hDn.1 0 2 _ _ rfl rfl e) (by decide), fun e => absurd (hDn.1 0 3 _ _ rfl rfl e) (by decide), fun e => absurd (hDn.1 0 4 _ _ rfl rfl e) (by decide), fun e => absurd (hDn.1 1 2 _ _ rfl rfl e) (by decide), fun e => absurd (hDn.1 1 3 _ _ rfl rfl e) (by decide), fun e => absurd (hDn.1 1 4 _ _ rfl rfl e) (by decide), fun e => absurd (hDn.1 2 3 _ _ rfl rfl e) (by decide), fun e => absurd (hDn.1 2 4 _ _ rfl rfl e) (by decide), fun e => absurd (hDn.1 3 4 _ _ rfl rfl e) (by decide), by rcases hor with w | w <;> omega, by rcases hor with w | w <;> omega, by rcases hor with w | w <;> omega, by rcases hor with w | w <;> omega, by rcases hor with w | w <;> omega⟩ hL1 (hP 0 _ rfl) (hP 1 _ rfl) (hP 2 _ rfl) (hP 3 _ rfl) (hP 4 _ rfl)
      have hHpo := hpo
      refine lv_pop hx hb dX1_algebra_56 rfl ?_
      refine lv_aload_n hx hb dX1_algebra_57 rfl (lv_at hl 0 rfl) ?_
      refine z_get hC (k := 1) rfl in_X1 hx9 (by decide) q152 (fun _ h => h) rfl dX1_algebra_58 ?_
      refine z_go 8 35 (z_runV (As := []) (rest := []) hC hml hl.1 (m_J2_size hE H17 (hO.ext (zS_F hS) hMo) (ρ (1, 0, 0)) (St_na σ + 1) _ arr1 _ hL1) (lw_V q229 q230 q231 q65 q232) rfl nd_J2_size rfl (z_rv hC (ci := 8) rfl hL1.1 rfl) rfl (Nat.le_of_ble_eq_true rfl) ⟨Nat.le_of_ble_eq_true rfl, Nat.le_of_ble_eq_true rfl⟩ ⟨zfit (k := 0) (z := 8) rfl rfl (by omega), zfit (k := 0) (z := 35) rfl rfl (by omega)⟩ dX1_algebra_61) ⟨zad (k := 0) rfl (by omega), zad (k := 0) rfl (by omega)⟩ hS (fun _ z => z.elim) (fun r H18 locs hp hF hS1 => ?_)
      obtain ⟨_, rfl, rfl⟩ := hp
      have hP := zpk hP hF
      have hP : va_P G.1 zCl ([(q10, zOb 4 [.ref (G.2 (10 + 0)), .ref dl, .ref ml, .ref so, .ref (ρ (0, 0, 0))]), (dl, zOb 8 [.int (iI 0), .ref (G.2 12), .int (iI 0)]), (ml, zOb 8 [.int (iI 0), .ref (G.2 12), .int (iI 0)]), (so, zII G 1 (fun _ => some r0)), (r0, zI G 1 (fun _ => 1))]) H18 := hP
      have hD : va_D (zA (FC G ρ σ) H0) ([(q10, zOb 4 [.ref (G.2 (10 + 0)), .ref dl, .ref ml, .ref so, .ref (ρ (0, 0, 0))]), (dl, zOb 8 [.int (iI 0), .ref (G.2 12), .int (iI 0)]), (ml, zOb 8 [.int (iI 0), .ref (G.2 12), .int (iI 0)]), (so, zII G 1 (fun _ => some r0)), (r0, zI G 1 (fun _ => 1))]) := hD
      have hHpo : PoC G s0 H0 ρ σ (stAl σ 0) H18 := hHpo.ext0 hE hF
      have hS := hS1
      refine lv_iconst (v := iI 1) hx hb dX1_algebra_64 rfl ?_
      refine z_sub hx hb (z := ((St_na σ + 1 : Nat) : Int) - 1) dX1_algebra_65 rfl ?_
      refine z_top (b := ((St_na σ : Nat) : Int)) (by omega) ?_
      exact z_iret hC hrt hlk hQ hS ⟨zle (z := 8) rfl (by omega), zle (z := 35) rfl (by omega)⟩ ⟨_, rfl, _, ⟨hz9, hlt9, by rw [show z.toNat = 0 by omega], rfl⟩, hHpo⟩ dX1_algebra_66

abbrev rm_m_X1_dial : Room := { frames := 8, cells := 22, slots := 304, locals := 244 }
set_option maxHeartbeats 4000000 in
theorem m_X1_dial {l : Launch} {s0 : State} {G : zG} (hE : zE l s0 G) (H0 : Heap) (hO : zO s0 H0) (ρ : Ro → Nat) (σ : St) (i z : Int) (hh : HC G s0 ρ σ H0) (hi : zi i ∧ zi z) : zMX l s0 yX1_dial cX1_dial 4 (some FieldType.int) rm_m_X1_dial [.ref (ρ (0, 0, 0)), .int (iI i), .int (iI z)] H0 (FC G ρ σ) (HP G s0 H0 ρ σ (fun y σ' => ∃ k : Nat, (i = k ∧ k < St_na σ) ∧ (0 < z ∧ z < St_p σ) ∧ (St_d σ k < 4 ∧ ecV σ k (St_ne σ) = 0) ∧ σ' = stDi σ k z ∧ y = (2 ^ (St_d σ k + 1) : Nat))) (HX G s0 ρ σ (XDi σ i z)) := by
  refine z_metX hE (by decide +kernel) (Nat.le_of_ble_eq_true rfl) ?_
  intro pp ee ss mm args below meth cd Q ls hC hml hrt hlk hnm hH hQ hno hX hS hl
  have hx := hC.x
  have hb := hC.b
  have hl : lv_has ls 4 [(0, .ref (ρ (0, 0, 0))), (1, .int (iI i)), (2, .int (iI z))] := hl
  have hP : va_P G.1 zCl [] H0 := va_nil
  have hD : va_D (zA (FC G ρ σ) H0) [] := va_nilD
  have hMo : ∀ z, FC G ρ σ z → s0.heap.size ≤ z := fun z hz => FC.ge hh.sep hz
  have hH1 := hh
  obtain ⟨hp, hna, hal, hne9, hel9, hmr9⟩ := id hh.ok
  have hp7 : 0 < St_p σ ∧ St_p σ ≤ 7 := by rcases hp with h | h | h <;> rw [h] <;> decide
  obtain ⟨sm9, -⟩ := id hh.2.2.1.1
  refine lv_aload_n hx hb dX1_dial_0 rfl (lv_at hl 0 rfl) ?_
  refine lv_iload_n hx hb dX1_dial_1 rfl (lv_at hl 1 rfl) ?_
  obtain ⟨sm, hxx⟩ := id hH1.2.2.1.1
  refine z_goX 1 6 (z_runVx (As := [.int (iI i)]) (rest := []) hC hml hl.1 (m_X1_algebraAt hE H0 (hO.ext (zS_F hS) hMo) ρ σ i hH1 hi.1) (lw_V q1056 q1058 qs23 q62 q1059) rfl nd_X1_algebraAt rfl (z_rv hC (ci := 0) rfl hxx rfl) rfl (Nat.le_of_ble_eq_true rfl) ⟨Nat.le_of_ble_eq_true rfl, Nat.le_of_ble_eq_true rfl⟩ ⟨zfit (k := 1) (z := 22) rfl rfl (by omega), zfit (k := 6) (z := 304) rfl rfl (by omega)⟩ dX1_dial_2) ⟨zad (k := 1) rfl (by omega), zad (k := 6) rfl (by omega)⟩ hS (fun _ z => z.elim) (fun E ce q9 Hx1 locs hp hF hS1 hce hcv hcl => ?_) (fun r H2 locs hp hF hS1 => ?_)
  · exact z_out hno hlk hX hS1 ⟨zle (z := 22) rfl (by omega), zle (z := 304) rfl (by omega)⟩ hce hcv hcl (⟨Or.inl ⟨hp.1, hp.2⟩, hH1.ext0 hE hF⟩)
  obtain ⟨_, rfl, k, ek9, hk9, rfl⟩ := hp
  have hP := zpk hP hF
  have hP : va_P G.1 zCl ([]) H2 := hP
  have hD : va_D (zA (FC G ρ σ) H0) ([]) := hD
  have hH1 : HC G s0 ρ σ H2 := hH1.ext0 hE hF
  have hS := hS1
  have ek9 : i.toNat = k := by omega
  have iA : inA σ i := by unfold inA; omega
  refine lv_astore_n (lv' := [(3, .ref (ρ (6, k, 0))), (0, .ref (ρ (0, 0, 0))), (1, .int (iI i)), (2, .int (iI z))]) hx hb dX1_dial_5 rfl hl (by decide) rfl (fun ls hl => ?_)
  refine lv_aload_n hx hb dX1_dial_6 rfl (lv_at hl 1 rfl) ?_
  refine lv_iload_n hx hb dX1_dial_7 rfl (lv_at hl 3 rfl) ?_
  obtain ⟨sm, hxx⟩ := id hH1.2.2.1.1
  refine z_go 1 6 (z_runV (As := [.int (iI z)]) (rest := []) hC hml hl.1 (m_X1_isNumber hE H2 (hO.ext (zS_F hS) hMo) ρ σ z hH1 hi.2) (lw_V q1078 q1080 qs24 q62 q1081) rfl nd_X1_isNumber rfl (z_rv hC (ci := 0) rfl hxx rfl) rfl (Nat.le_of_ble_eq_true rfl) ⟨Nat.le_of_ble_eq_true rfl, Nat.le_of_ble_eq_true rfl⟩ ⟨zfit (k := 0) (z := 22) rfl rfl (by omega), zfit (k := 0) (z := 304) rfl rfl (by omega)⟩ dX1_dial_8) ⟨zad (k := 0) rfl (by omega), zad (k := 0) rfl (by omega)⟩ hS (fun _ z => z.elim) (fun r H3 locs hp hF hS1 => ?_)
  obtain ⟨_, rfl, rfl⟩ := hp
  have hP := zpk hP hF
  have hP : va_P G.1 zCl ([]) H3 := hP
  have hD : va_D (zA (FC G ρ σ) H0) ([]) := hD
  have hH1 : HC G s0 ρ σ H3 := hH1.ext0 hE hF
  have hS := hS1
  obtain ⟨fl, hfl, hfl2⟩ : ∃ fl : Nat, fl ≤ 1 ∧ (if 0 ≤ z ∧ z < St_p σ then (1 : Int) else 0) = fl ∧ (fl = 1 ↔ 0 ≤ z ∧ z < St_p σ) := by by_cases h : 0 ≤ z ∧ z < St_p σ; exact ⟨1, by decide, by rw [if_pos h]; rfl, by simp [h]⟩; exact ⟨0, by decide, by rw [if_neg h]; rfl, by simp [h]⟩
  refine z_top (b := ((fl : Nat) : Int)) (hfl2.1) ?_
  refine z_zeq (tgt := 22) hx hb dX1_dial_11 (by decide) (by omega) (fun c4 => ?_) (fun c4 => ?_)
  · refine lv_iconst (v := iI 0) hx hb dX1_dial_22 rfl ?_
    refine z_goX 2 12 (z_runSx (As := [.int (iI 0)]) (rest := []) hC hml hl.1 (m_X1_require hE H3 (hO.ext (zS_F hS) hMo) 0 (by decide)) (lw_S q905 q906 q62 q907) nd_X1_require rfl rfl (Nat.le_of_ble_eq_true rfl) ⟨Nat.le_of_ble_eq_true rfl, Nat.le_of_ble_eq_true rfl⟩ ⟨zfit (k := 1) (z := 22) rfl rfl (by omega), zfit (k := 6) (z := 304) rfl rfl (by omega)⟩ dX1_dial_23) ⟨zad (k := 1) rfl (by omega), zad (k := 6) rfl (by omega)⟩ hS (fun _ z => z.elim) (fun E ce q9 Hx5 locs hp hF hS1 hce hcv hcl => ?_) (fun r H6 locs hp hF hS1 => ?_)
    · exact z_out hno hlk hX hS1 ⟨zle (z := 22) rfl (by omega), zle (z := 304) rfl (by omega)⟩ hce hcv hcl (⟨Or.inr (Or.inl ⟨hp.1, iA, fun w => by omega⟩), hH1.ext0 hE hF⟩)
    exact (show False from by have h9 : (0 : Nat) = 1 := hp.2; omega).elim
  · refine lv_iload_n hx hb dX1_dial_14 rfl (lv_at hl 3 rfl) ?_
    refine z_zle (tgt := 22) hx hb dX1_dial_15 (by decide) (by omega) (fun c7 => ?_) (fun c7 => ?_)
    · refine lv_iconst (v := iI 0) hx hb dX1_dial_22 rfl ?_
      refine z_goX 2 12 (z_runSx (As := [.int (iI 0)]) (rest := []) hC hml hl.1 (m_X1_require hE H3 (hO.ext (zS_F hS) hMo) 0 (by decide)) (lw_S q905 q906 q62 q907) nd_X1_require rfl rfl (Nat.le_of_ble_eq_true rfl) ⟨Nat.le_of_ble_eq_true rfl, Nat.le_of_ble_eq_true rfl⟩ ⟨zfit (k := 1) (z := 22) rfl rfl (by omega), zfit (k := 6) (z := 304) rfl rfl (by omega)⟩ dX1_dial_23) ⟨zad (k := 1) rfl (by omega), zad (k := 6) rfl (by omega)⟩ hS (fun _ z => z.elim) (fun E ce q9 Hx8 locs hp hF hS1 hce hcv hcl => ?_) (fun r H9 locs hp hF hS1 => ?_)
      · exact z_out hno hlk hX hS1 ⟨zle (z := 22) rfl (by omega), zle (z := 304) rfl (by omega)⟩ hce hcv hcl (⟨Or.inr (Or.inl ⟨hp.1, iA, fun w => by omega⟩), hH1.ext0 hE hF⟩)
      exact (show False from by have h9 : (0 : Nat) = 1 := hp.2; omega).elim
    · have hz9 : 0 < z ∧ z < St_p σ := by omega
      refine lv_iconst (v := iI 1) hx hb dX1_dial_18 rfl ?_
      refine lv_goto (tgt := 23) hx hb dX1_dial_19 (by decide) ?_
      refine z_goX 2 12 (z_runSx (As := [.int (iI 1)]) (rest := []) hC hml hl.1 (m_X1_require hE H3 (hO.ext (zS_F hS) hMo) 1 (by decide)) (lw_S q905 q906 q62 q907) nd_X1_require rfl rfl (Nat.le_of_ble_eq_true rfl) ⟨Nat.le_of_ble_eq_true rfl, Nat.le_of_ble_eq_true rfl⟩ ⟨zfit (k := 1) (z := 22) rfl rfl (by omega), zfit (k := 6) (z := 304) rfl rfl (by omega)⟩ dX1_dial_23) ⟨zad (k := 1) rfl (by omega), zad (k := 6) rfl (by omega)⟩ hS (fun _ z => z.elim) (fun E ce q9 Hx10 locs hp hF hS1 hce hcv hcl => ?_) (fun r H11 locs hp hF hS1 => ?_)
      · exact z_out hno hlk hX hS1 ⟨zle (z := 22) rfl (by omega), zle (z := 304) rfl (by omega)⟩ hce hcv hcl (absurd hp.2 (by decide))
      obtain ⟨rfl, -⟩ := hp
      have hP := zpk hP hF
      have hP : va_P G.1 zCl ([]) H11 := hP
      have hD : va_D (zA (FC G ρ σ) H0) ([]) := hD
      have hH1 : HC G s0 ρ σ H11 := hH1.ext0 hE hF
      have hS := hS1
      have hkk := hH1.2.2.2.1 k (by omega)
      have hAk := hH1.ag (k := k) (by omega)
      obtain ⟨hn16k, -⟩ := hAk.n
      have halk := hal k (by omega)
      refine lv_aload_n hx hb dX1_dial_26 rfl (lv_at hl 0 rfl) ?_
      refine z_getn hC (k := 1) rfl in_X5 hkk.1 (by decide) q959 (fun _ h => h) rfl dX1_dial_27 ?_
      obtain ⟨md9, hL9⟩ := id (hH1.2.2.2.1 k (by omega)).2.1
      refine z_go 2 12 (z_runV (As := []) (rest := []) hC hml hl.1 (m_J2_size hE H11 (hO.ext (zS_F hS) hMo) (ρ (7, k, 0)) (St_d σ k) (fun i => G.2 (1000 + ((St_dv σ k i).toNat + 128))) (ρ (8, k, 0)) md9 hL9) (lw_V q229 q230 q231 q65 q232) rfl nd_J2_size rfl (z_rv hC (ci := 8) rfl hL9.1 rfl) rfl (Nat.le_of_ble_eq_true rfl) ⟨Nat.le_of_ble_eq_true rfl, Nat.le_of_ble_eq_true rfl⟩ ⟨zfit (k := 0) (z := 22) rfl rfl (by omega), zfit (k := 0) (z := 304) rfl rfl (by omega)⟩ dX1_dial_30) ⟨zad (k := 0) rfl (by omega), zad (k := 0) rfl (by omega)⟩ hS (fun _ z => z.elim) (fun r H12 locs hp hF hS1 => ?_)
      obtain ⟨_, rfl, rfl⟩ := hp
      have hP := zpk hP hF
      have hP : va_P G.1 zCl ([]) H12 := hP
      have hD : va_D (zA (FC G ρ σ) H0) ([]) := hD
      have hH1 : HC G s0 ρ σ H12 := hH1.ext0 hE hF
      have hS := hS1
      refine lv_iconst (v := iI 4) hx hb dX1_dial_33 rfl ?_
      refine z_cge (tgt := 49) hx hb dX1_dial_34 (by decide) (by omega) (fun c13 => ?_) (fun c13 => ?_)
      · refine lv_iconst (v := iI 0) hx hb dX1_dial_49 rfl ?_
        refine z_goX 3 18 (z_runSx (As := [.int (iI 0)]) (rest := []) hC hml hl.1 (m_X1_requireState hE H12 (hO.ext (zS_F hS) hMo) 0 (by decide)) (lw_S q919 q920 q62 q921) nd_X1_requireState rfl rfl (Nat.le_of_ble_eq_true rfl) ⟨Nat.le_of_ble_eq_true rfl, Nat.le_of_ble_eq_true rfl⟩ ⟨zfit (k := 1) (z := 22) rfl rfl (by omega), zfit (k := 6) (z := 304) rfl rfl (by omega)⟩ dX1_dial_50) ⟨zad (k := 1) rfl (by omega), zad (k := 6) rfl (by omega)⟩ hS (fun _ z => z.elim) (fun E ce q9 Hx14 locs hp hF hS1 hce hcv hcl => ?_) (fun r H15 locs hp hF hS1 => ?_)
        · exact z_out hno hlk hX hS1 ⟨zle (z := 22) rfl (by omega), zle (z := 304) rfl (by omega)⟩ hce hcv hcl (⟨Or.inr (Or.inr ⟨hp.1, iA, hz9, by rw [ek9]; omega⟩), hH1.ext0 hE hF⟩)
        exact (show False from by have h9 : (0 : Nat) = 1 := hp.2; omega).elim
      · refine lv_aload_n hx hb dX1_dial_37 rfl (lv_at hl 1 rfl) ?_
        refine lv_aload_n hx hb dX1_dial_38 rfl (lv_at hl 0 rfl) ?_
        obtain ⟨sm, hxx⟩ := id hH1.2.2.1.1
        refine z_go 3 16 (z_runV (As := [.ref (ρ (6, k, 0))]) (rest := []) hC hml hl.1 (m_X1_elementsOf hE H12 (hO.ext (zS_F hS) hMo) ρ σ k hH1 (by omega)) (lw_V q393 q395 qs8 q62 q396) rfl nd_X1_elementsOf rfl (z_rv hC (ci := 0) rfl hxx rfl) rfl (Nat.le_of_ble_eq_true rfl) ⟨Nat.le_of_ble_eq_true rfl, Nat.le_of_ble_eq_true rfl⟩ ⟨zfit (k := 1) (z := 22) rfl rfl (by omega), zfit (k := 4) (z := 304) rfl rfl (by omega)⟩ dX1_dial_39) ⟨zad (k := 1) rfl (by omega), zad (k := 4) rfl (by omega)⟩ hS (fun _ z => z.elim) (fun r H16 locs hp hF hS1 => ?_)
        obtain ⟨_, rfl, rfl⟩ := hp
        have hP := zpk hP hF
        have hP : va_P G.1 zCl ([]) H16 := hP
        have hD : va_D (zA (FC G ρ σ) H0) ([]) := hD
        have hH1 : HC G s0 ρ σ H16 := hH1.ext0 hE hF
        have hS := hS1
        have hec9 := ecV_le σ k (St_ne σ)
        refine z_zne (tgt := 49) hx hb dX1_dial_42 (by decide) (by omega) (fun c17 => ?_) (fun c17 => ?_)
        · refine lv_iconst (v := iI 0) hx hb dX1_dial_49 rfl ?_
          refine z_goX 4 22 (z_runSx (As := [.int (iI 0)]) (rest := []) hC hml hl.1 (m_X1_requireState hE H16 (hO.ext (zS_F hS) hMo) 0 (by decide)) (lw_S q919 q920 q62 q921) nd_X1_requireState rfl rfl (Nat.le_of_ble_eq_true rfl) ⟨Nat.le_of_ble_eq_true rfl, Nat.le_of_ble_eq_true rfl⟩ ⟨zfit (k := 1) (z := 22) rfl rfl (by omega), zfit (k := 6) (z := 304) rfl rfl (by omega)⟩ dX1_dial_50) ⟨zad (k := 1) rfl (by omega), zad (k := 6) rfl (by omega)⟩ hS (fun _ z => z.elim) (fun E ce q9 Hx18 locs hp hF hS1 hce hcv hcl => ?_) (fun r H19 locs hp hF hS1 => ?_)
          · exact z_out hno hlk hX hS1 ⟨zle (z := 22) rfl (by omega), zle (z := 304) rfl (by omega)⟩ hce hcv hcl (⟨Or.inr (Or.inr ⟨hp.1, iA, hz9, by rw [ek9]; omega⟩), hH1.ext0 hE hF⟩)
          exact (show False from by have h9 : (0 : Nat) = 1 := hp.2; omega).elim
        · have hst9 : St_d σ k < 4 ∧ ecV σ k (St_ne σ) = 0 := by omega
          refine lv_iconst (v := iI 1) hx hb dX1_dial_45 rfl ?_
          refine lv_goto (tgt := 50) hx hb dX1_dial_46 (by decide) ?_
          refine z_goX 4 22 (z_runSx (As := [.int (iI 1)]) (rest := []) hC hml hl.1 (m_X1_requireState hE H16 (hO.ext (zS_F hS) hMo) 1 (by decide)) (lw_S q919 q920 q62 q921) nd_X1_requireState rfl rfl (Nat.le_of_ble_eq_true rfl) ⟨Nat.le_of_ble_eq_true rfl, Nat.le_of_ble_eq_true rfl⟩ ⟨zfit (k := 1) (z := 22) rfl rfl (by omega), zfit (k := 6) (z := 304) rfl rfl (by omega)⟩ dX1_dial_50) ⟨zad (k := 1) rfl (by omega), zad (k := 6) rfl (by omega)⟩ hS (fun _ z => z.elim) (fun E ce q9 Hx20 locs hp hF hS1 hce hcv hcl => ?_) (fun r H21 locs hp hF hS1 => ?_)
          · exact z_out hno hlk hX hS1 ⟨zle (z := 22) rfl (by omega), zle (z := 304) rfl (by omega)⟩ hce hcv hcl (absurd hp.2 (by decide))
          obtain ⟨rfl, -⟩ := hp
          have hP := zpk hP hF
          have hP : va_P G.1 zCl ([]) H21 := hP
          have hD : va_D (zA (FC G ρ σ) H0) ([]) := hD
          have hH1 : HC G s0 ρ σ H21 := hH1.ext0 hE hF
          have hS := hS1
          refine lv_aload_n hx hb dX1_dial_53 rfl (lv_at hl 0 rfl) ?_
          refine lv_iload_n hx hb dX1_dial_54 rfl (lv_at hl 3 rfl) ?_
          have hHb := hH1
          obtain ⟨sm8, hx8⟩ := id hH1.2.2.1.1
          obtain ⟨hg8, ⟨dm8, hL8⟩, -⟩ := hH1.2.2.2.1 k (by omega)
          have hHbs : H0.size ≤ H21.size := hS.1
          have hsep9 : (ρ (8, k, 0)) ≠ G.2 12 → s0.heap.size ≤ (ρ (8, k, 0)) ∧ (ρ (7, k, 0)) ≠ (ρ (8, k, 0)) := fun w => ⟨(hh.sep.1 _ (domA 8 k (by omega) (by omega))).resolve_right (fun y => w y.1), hh.sep.ne hE (domA 7 k (by omega) (by omega)) (domA 8 k (by omega) (by omega)) (fun y => by cases y) (by simp)⟩
          have hdk9 := hal k (by omega)
          refine z_go 22 304 (z_runV (As := [.int (iI z)]) (rest := []) hC hml hl.1 (m_X5_add hE H21 (hO.ext (zS_F hS) hMo) (ρ (0, 0, 0)) (ρ (6, k, 0)) (ρ (1, 0, 0)) (ρ (3, 0, 0)) (ρ (5, 0, 0)) (St_p σ) (St_kn σ) sm8 (ρ (7, k, 0)) (St_d σ k) (St_kd σ k) (St_dv σ k) (ρ (8, k, 0)) dm8 (ρ (9, k, 0)) (ρ (11, k, 0)) z hp hx8 hg8 hL8 hdk9.2.2 ⟨hst9.1, hdk9.1⟩ hz9 ⟨hh.sep.ge (domA 6 k (by omega) (by omega)) (by simp), hh.sep.ge (domA 7 k (by omega) (by omega)) (by simp)⟩ hsep9) (lw_V q1082 q1083 q1084 q74 q1085) rfl nd_X5_add rfl (z_rv hC (ci := 4) rfl hg8 rfl) rfl (Nat.le_of_ble_eq_true rfl) ⟨Nat.le_of_ble_eq_true rfl, Nat.le_of_ble_eq_true rfl⟩ ⟨zfit (k := 18) (z := 22) rfl rfl (by omega), zfit (k := 282) (z := 304) rfl rfl (by omega)⟩ dX1_dial_55) ⟨zad (k := 18) rfl (by omega), zad (k := 282) rfl (by omega)⟩ hS (fun y hy => Or.inl (hy.elim (fun w => w ▸ FC.in hE hh.sep (domA 6 k (by omega) (by omega)) (by simp)) (fun w => w.elim (fun w => w ▸ FC.in hE hh.sep (domA 7 k (by omega) (by omega)) (by simp)) (fun w => ⟨by rw [w.1]; exact w.2, (8, k, 0), domA 8 k (by omega) (by omega), w.1.symm⟩)))) (fun r H22 locs hp hF hS1 => ?_)
          obtain ⟨rfl, arr1, q9, F9, hgr, hor, ha12, hq9, hP9, hD9⟩ := hp
          have hP : va_P G.1 zCl [] H22 := va_nil
          have hD : va_D (zA (FC G ρ σ) H0) [] := va_nilD
          have hP : va_P G.1 zCl ([]) H22 := hP
          have hD : va_D (zA (FC G ρ σ) H0) ([]) := hD
          have hS := hS1
          have hrow9 : ∀ i, i < 2 ^ (St_d σ k + 1) → zAt G (q9 + 1 + i) (zI G (2 ^ (St_d σ k + 1)) (sgT (St_p σ) (St_kd σ k) (St_d σ k + 1) (va_up (St_dv σ k) (St_d σ k) z) i)) H22 := fun i hi => zI_congr (hP9 (4 + i) _ (zR_at (L := 4) rfl hi)) (fun j hj => by rw [hgr i j hi hj, if_pos (Or.inl hi)]; rfl)
          have hapq : ∀ i, i < 2 ^ (St_d σ k + 1) + 1 → arr1 ≠ q9 + i := fun i hi e => by
            cases i with
            | zero => exact absurd (hD9.1 2 3 _ _ rfl rfl e) (by decide)
            | succ i => have h9 := hD9.1 2 (4 + i) _ _ rfl (zR_at (L := 4) rfl (by omega)) (by show arr1 = q9 + 1 + i; omega); omega
          have hHpo : PoC G s0 H0 ρ σ (stDi σ k z) H22 := HC.dial hE hO hh hHb hF (by omega) hst9.1 hz9 (ecV_0 hst9.2) (Nat.le_trans hHbs hq9) (hor.imp id (fun w => Nat.le_trans hHbs w)) ha12 hapq (hP9 0 _ rfl) (hP9 1 _ rfl) (hP9 2 _ rfl) (hP9 3 _ rfl) hrow9
          refine lv_aload_n hx hb dX1_dial_58 rfl (lv_at hl 0 rfl) ?_
          refine z_go 22 304 (z_runV (As := []) (rest := []) hC hml hl.1 (m_X5_units_g hE H22 (hO.ext (zS_F hS) hMo) (ρ (0, 0, 0)) (ρ (6, k, 0)) _ (ρ (7, k, 0)) (ρ (9, k, 0)) q9 (St_d σ k + 1) _ arr1 _ (hP9 0 _ rfl) ⟨hP9 1 _ rfl, Or.inr ⟨by omega, ha12, hP9 2 _ rfl⟩⟩ (by omega)) (lw_V q297 q298 q299 q74 q300) rfl nd_X5_units rfl (z_rv hC (ci := 4) rfl (hP9 0 _ rfl) rfl) rfl (Nat.le_of_ble_eq_true rfl) ⟨Nat.le_of_ble_eq_true rfl, Nat.le_of_ble_eq_true rfl⟩ ⟨zfit (k := 0) (z := 22) rfl rfl (by omega), zfit (k := 0) (z := 304) rfl rfl (by omega)⟩ dX1_dial_59) ⟨zad (k := 0) rfl (by omega), zad (k := 0) rfl (by omega)⟩ hS (fun _ z => z.elim) (fun r H23 locs hp hF hS1 => ?_)
          obtain ⟨_, rfl, rfl⟩ := hp
          have hP := zpk hP hF
          have hP : va_P G.1 zCl ([]) H23 := hP
          have hD : va_D (zA (FC G ρ σ) H0) ([]) := hD
          have hHpo : PoC G s0 H0 ρ σ (stDi σ k z) H23 := hHpo.ext0 hE hF
          have hS := hS1
          exact z_iret hC hrt hlk hQ hS ⟨zle (z := 22) rfl (by omega), zle (z := 304) rfl (by omega)⟩ ⟨_, rfl, _, ⟨k, ⟨by omega, by omega⟩, hz9, hst9, rfl, rfl⟩, hHpo⟩ dX1_dial_62

