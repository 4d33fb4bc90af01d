/-! THE LAW: what it wraps round the house's public operations -/
set_option maxRecDepth 100000
abbrev rm_m_X0_prime : Room := { frames := 8, cells := 2, slots := 12, locals := 132 }
set_option maxHeartbeats 4000000 in
theorem m_X0_prime {l : Launch} {s0 : State} {G : zG} (hE : zE l s0 G) (H0 : Heap) (hO : zO s0 H0) (ρ : Ro → Nat) (σ : St) (z : Int) (oa : Nat) (n9 : Int64) (d9 : UInt64) (s9 : Value) (hh : HC G s0 ρ σ H0) (hdm : zMn (ρ (5, 0, 0)) {} H0) (ho : zAt G oa (zOb 3 [(.long n9), (.double d9), s9]) H0) (hoa : s0.heap.size ≤ oa) (hof : ¬ FC G ρ σ oa) (hnc : zNc s0) (hi : zi z) : zMW l s0 yX0_prime cX0_prime 4 (some FieldType.int) [((0 : Nat), (10 : Nat), (13 : Nat), (19 : Nat)), ((0 : Nat), (10 : Nat), (16 : Nat), (21 : Nat))] rm_m_X0_prime [.ref (ρ (0, 0, 0)), .int (iI z), .ref oa] H0 (fun z => FC G ρ σ z ∨ z = oa) (ri (fun kk h1 => ∃ (σ' : St) (n1 : Int64) (d1 : UInt64) (s1 : Value), PoC G s0 H0 ρ σ σ' h1 ∧ zAt G oa (zOb 3 [.long n1, .double d1, s1]) h1 ∧ ((kk = 0 ∧ (∃ y, R_prime σ z y σ' ∧ n1 = (iI y).toInt64)) ∨ (∃ jx : Nat, kk = ((jx + 1 : Nat) : Int) ∧ σ' = σ ∧ jx < ([IAE, ISE] : List String).length ∧ X_prime σ z (([IAE, ISE] : List String).getD jx ""))))) (fun _ _ => False) := by
  refine z_metW hE (by decide +kernel) (Nat.le_of_ble_eq_true rfl) ?_
  intro pp ee ss mm args below meth cd Q ls hC hml hrt hlk hnm hH hQ htb hX hS hl
  have hx := hC.x
  have hb := hC.b
  have hl : lv_has ls 4 [(0, .ref (ρ (0, 0, 0))), (1, .int (iI z)), (2, .ref oa)] := hl
  have hP : va_P G.1 zCl [] H0 := va_nil
  have hD : va_D (zA (fun z => FC G ρ σ z ∨ z = oa) H0) [] := va_nilD
  have hMo : ∀ z, (fun z => FC G ρ σ z ∨ z = oa) z → s0.heap.size ≤ z := fun z hz => hz.elim (fun w => FC.ge hh.sep w) (fun w => by rw [w]; exact hoa)
  have hol := ho.lt
  obtain ⟨sm, hxx⟩ := id hh.2.2.1.1
  have hncs := hnc.warm hC.w
  refine lv_aload_n hx hb dX0_prime_0 rfl (lv_at hl 2 rfl) ?_
  refine lv_aload_n hx hb dX0_prime_1 rfl (lv_at hl 0 rfl) ?_
  refine lv_iload_n hx hb dX0_prime_2 rfl (lv_at hl 1 rfl) ?_
  refine z_goX 2 12 (z_runVx (As := [.int (iI z)]) (rest := [.ref oa]) hC hml hl.1 (m_X1_prime hE H0 (hO.ext (zS_F hS) hMo) ρ σ z hh hi) (lw_V q901 q902 q903 q62 q904) rfl nd_X1_prime rfl (z_rv hC (ci := 0) rfl hxx rfl) rfl (Nat.le_of_ble_eq_true rfl) ⟨Nat.le_of_ble_eq_true rfl, Nat.le_of_ble_eq_true rfl⟩ ⟨zfit (k := 2) (z := 2) rfl rfl (by omega), zfit (k := 12) (z := 12) rfl rfl (by omega)⟩ dX0_prime_3) ⟨zad (k := 2) rfl (by omega), zad (k := 12) rfl (by omega)⟩ hS (fun _ z => Or.inl (Or.inl z)) (fun E ce q9 Hx1 locs hp hF hS1 hce hcv hcl => ?_) (fun r H2 locs hp hF hS1 => ?_)
  · have hXE : X_prime σ z E := hp.1
    have hHx : HC G s0 ρ σ Hx1 := hp.2
    have hox : zAt G oa (zOb 3 [(.long n9), (.double d9), s9]) Hx1 := ho.ext hF hof
    have hS := hS1
    rcases Xi_prime hXE with rfl | rfl
    · refine vx_catch hC.o [] ⟨0, 10, 13, 19⟩ [⟨0, 10, 16, 21⟩] (by rw [htb]; rfl) (fun z hz => nomatch hz) (by decide) (by decide) (hC.t _ q899) (z_cst hC q747) hce hcv hcl ?_
      refine lv_astore_n (lv' := [(3, .ref q9), (0, .ref (ρ (0, 0, 0))), (1, .int (iI z)), (2, .ref oa)]) hx hb dX0_prime_13 rfl hl (by decide) rfl (fun ls hl => ?_)
      refine lv_iconst (v := iI 1) hx hb dX0_prime_14 rfl ?_
      exact z_iret hC hrt hlk hQ hS ⟨zle (z := 2) rfl (by omega), zle (z := 12) rfl (by omega)⟩ ⟨_, rfl, σ, n9, d9, s9, PoC.same hHx, hox, Or.inr ⟨0, rfl, rfl, by decide, hXE⟩⟩ dX0_prime_15
    · refine vx_catch hC.o [⟨0, 10, 13, 19⟩] ⟨0, 10, 16, 21⟩ [] (by rw [htb]; rfl) (fun z hz => by
        simp only [List.mem_cons, List.not_mem_nil, or_false] at hz
        subst hz
        exact Or.inr ⟨by decide, _, hC.t _ q899, hncs.2.2⟩) (by decide) (by decide) (hC.t _ q900) (z_cst hC q924) hce hcv hcl ?_
      refine lv_astore_n (lv' := [(3, .ref q9), (0, .ref (ρ (0, 0, 0))), (1, .int (iI z)), (2, .ref oa)]) hx hb dX0_prime_16 rfl hl (by decide) rfl (fun ls hl => ?_)
      refine lv_iconst (v := iI 2) hx hb dX0_prime_17 rfl ?_
      exact z_iret hC hrt hlk hQ hS ⟨zle (z := 2) rfl (by omega), zle (z := 12) rfl (by omega)⟩ ⟨_, rfl, σ, n9, d9, s9, PoC.same hHx, hox, Or.inr ⟨1, rfl, rfl, by decide, hXE⟩⟩ dX0_prime_18
  obtain ⟨y, rfl, σ1, hR, hpo⟩ := hp
  have hP : va_P G.1 zCl [(oa, zOb 3 [(.long n9), (.double d9), s9])] H2 := zP1 (ho.ext hF hof)
  have hD : va_D (zA (fun z => FC G ρ σ z ∨ z = oa) H0) [(oa, zOb 3 [(.long n9), (.double d9), s9])] := zD1 (Or.inl (Or.inr rfl))
  have hP : va_P G.1 zCl ([(oa, zOb 3 [(.long n9), (.double d9), s9])]) H2 := hP
  have hD : va_D (zA (fun z => FC G ρ σ z ∨ z = oa) H0) ([(oa, zOb 3 [(.long n9), (.double d9), s9])]) := hD
  have hS := hS1
  refine lv_i2l hx hb dX0_prime_6 rfl ?_
  refine z_putnO hC hP hD hS 0 (k := 0) rfl rfl in_X4 tyX4_ok nmX4 (by decide) q886 (fun _ h => h) rfl rfl rfl rfl (Nat.le_of_ble_eq_true rfl) (ws' := [(oa, zOb 3 [(.long (iI y).toInt64), (.double d9), s9])]) rfl dX0_prime_7 (fun H3 locs hP hD hS hF => ?_)
  have hpo := hpo.out hE hol hof hF
  refine lv_goto (tgt := 19) hx hb dX0_prime_10 (by decide) ?_
  refine lv_iconst (v := iI 0) hx hb dX0_prime_19 rfl ?_
  exact z_iret hC hrt hlk hQ hS ⟨zle (z := 2) rfl (by omega), zle (z := 12) rfl (by omega)⟩ ⟨_, rfl, σ1, _, _, _, hpo, hP 0 _ rfl, Or.inl ⟨rfl, ⟨y, hR, rfl⟩⟩⟩ dX0_prime_20

abbrev rm_m_X0_algebra : Room := { frames := 8, cells := 8, slots := 35, locals := 242 }
set_option maxHeartbeats 4000000 in
theorem m_X0_algebra {l : Launch} {s0 : State} {G : zG} (hE : zE l s0 G) (H0 : Heap) (hO : zO s0 H0) (ρ : Ro → Nat) (σ : St) (z : Int) (oa : Nat) (n9 : Int64) (d9 : UInt64) (s9 : Value) (hh : HC G s0 ρ σ H0) (hdm : zMn (ρ (5, 0, 0)) {} H0) (ho : zAt G oa (zOb 3 [(.long n9), (.double d9), s9]) H0) (hoa : s0.heap.size ≤ oa) (hof : ¬ FC G ρ σ oa) (hnc : zNc s0) (hi : zi z) : zMW l s0 yX0_algebra cX0_algebra 4 (some FieldType.int) [((0 : Nat), (10 : Nat), (13 : Nat), (19 : Nat)), ((0 : Nat), (10 : Nat), (16 : Nat), (21 : Nat))] rm_m_X0_algebra [.ref (ρ (0, 0, 0)), .int (iI z), .ref oa] H0 (fun z => FC G ρ σ z ∨ z = oa) (ri (fun kk h1 => ∃ (σ' : St) (n1 : Int64) (d1 : UInt64) (s1 : Value), PoC G s0 H0 ρ σ σ' h1 ∧ zAt G oa (zOb 3 [.long n1, .double d1, s1]) h1 ∧ ((kk = 0 ∧ (∃ y, R_algebra σ z y σ' ∧ n1 = (iI y).toInt64)) ∨ (∃ jx : Nat, kk = ((jx + 1 : Nat) : Int) ∧ σ' = σ ∧ jx < ([IAE, ISE] : List String).length ∧ X_algebra σ z (([IAE, ISE] : List String).getD jx ""))))) (fun _ _ => False) := by
  refine z_metW hE (by decide +kernel) (Nat.le_of_ble_eq_true rfl) ?_
  intro pp ee ss mm args below meth cd Q ls hC hml hrt hlk hnm hH hQ htb hX hS hl
  have hx := hC.x
  have hb := hC.b
  have hl : lv_has ls 4 [(0, .ref (ρ (0, 0, 0))), (1, .int (iI z)), (2, .ref oa)] := hl
  have hP : va_P G.1 zCl [] H0 := va_nil
  have hD : va_D (zA (fun z => FC G ρ σ z ∨ z = oa) H0) [] := va_nilD
  have hMo : ∀ z, (fun z => FC G ρ σ z ∨ z = oa) z → s0.heap.size ≤ z := fun z hz => hz.elim (fun w => FC.ge hh.sep w) (fun w => by rw [w]; exact hoa)
  have hol := ho.lt
  obtain ⟨sm, hxx⟩ := id hh.2.2.1.1
  have hncs := hnc.warm hC.w
  refine lv_aload_n hx hb dX0_algebra_0 rfl (lv_at hl 2 rfl) ?_
  refine lv_aload_n hx hb dX0_algebra_1 rfl (lv_at hl 0 rfl) ?_
  refine lv_iload_n hx hb dX0_algebra_2 rfl (lv_at hl 1 rfl) ?_
  refine z_goX 8 35 (z_runVx (As := [.int (iI z)]) (rest := [.ref oa]) hC hml hl.1 (m_X1_algebra hE H0 (hO.ext (zS_F hS) hMo) ρ σ z hh hi) (lw_V q940 q941 q942 q62 q943) rfl nd_X1_algebra rfl (z_rv hC (ci := 0) rfl hxx rfl) rfl (Nat.le_of_ble_eq_true rfl) ⟨Nat.le_of_ble_eq_true rfl, Nat.le_of_ble_eq_true rfl⟩ ⟨zfit (k := 8) (z := 8) rfl rfl (by omega), zfit (k := 35) (z := 35) rfl rfl (by omega)⟩ dX0_algebra_3) ⟨zad (k := 8) rfl (by omega), zad (k := 35) rfl (by omega)⟩ hS (fun _ z => Or.inl (Or.inl z)) (fun E ce q9 Hx1 locs hp hF hS1 hce hcv hcl => ?_) (fun r H2 locs hp hF hS1 => ?_)
  · have hXE : X_algebra σ z E := hp.1
    have hHx : HC G s0 ρ σ Hx1 := hp.2
    have hox : zAt G oa (zOb 3 [(.long n9), (.double d9), s9]) Hx1 := ho.ext hF hof
    have hS := hS1
    rcases Xi_algebra hXE with rfl | rfl
    · refine vx_catch hC.o [] ⟨0, 10, 13, 19⟩ [⟨0, 10, 16, 21⟩] (by rw [htb]; rfl) (fun z hz => nomatch hz) (by decide) (by decide) (hC.t _ q899) (z_cst hC q747) hce hcv hcl ?_
      refine lv_astore_n (lv' := [(3, .ref q9), (0, .ref (ρ (0, 0, 0))), (1, .int (iI z)), (2, .ref oa)]) hx hb dX0_algebra_13 rfl hl (by decide) rfl (fun ls hl => ?_)
      refine lv_iconst (v := iI 1) hx hb dX0_algebra_14 rfl ?_
      exact z_iret hC hrt hlk hQ hS ⟨zle (z := 8) rfl (by omega), zle (z := 35) rfl (by omega)⟩ ⟨_, rfl, σ, n9, d9, s9, PoC.same hHx, hox, Or.inr ⟨0, rfl, rfl, by decide, hXE⟩⟩ dX0_algebra_15
    · refine vx_catch hC.o [⟨0, 10, 13, 19⟩] ⟨0, 10, 16, 21⟩ [] (by rw [htb]; rfl) (fun z hz => by
        simp only [List.mem_cons, List.not_mem_nil, or_false] at hz
        subst hz
        exact Or.inr ⟨by decide, _, hC.t _ q899, hncs.2.2⟩) (by decide) (by decide) (hC.t _ q900) (z_cst hC q924) hce hcv hcl ?_
      refine lv_astore_n (lv' := [(3, .ref q9), (0, .ref (ρ (0, 0, 0))), (1, .int (iI z)), (2, .ref oa)]) hx hb dX0_algebra_16 rfl hl (by decide) rfl (fun ls hl => ?_)
      refine lv_iconst (v := iI 2) hx hb dX0_algebra_17 rfl ?_
      exact z_iret hC hrt hlk hQ hS ⟨zle (z := 8) rfl (by omega), zle (z := 35) rfl (by omega)⟩ ⟨_, rfl, σ, n9, d9, s9, PoC.same hHx, hox, Or.inr ⟨1, rfl, rfl, by decide, hXE⟩⟩ dX0_algebra_18
  obtain ⟨y, rfl, σ1, hR, hpo⟩ := hp
  have hP : va_P G.1 zCl [(oa, zOb 3 [(.long n9), (.double d9), s9])] H2 := zP1 (ho.ext hF hof)
  have hD : va_D (zA (fun z => FC G ρ σ z ∨ z = oa) H0) [(oa, zOb 3 [(.long n9), (.double d9), s9])] := zD1 (Or.inl (Or.inr rfl))
  have hP : va_P G.1 zCl ([(oa, zOb 3 [(.long n9), (.double d9), s9])]) H2 := hP
  have hD : va_D (zA (fun z => FC G ρ σ z ∨ z = oa) H0) ([(oa, zOb 3 [(.long n9), (.double d9), s9])]) := hD
  have hS := hS1
  refine lv_i2l hx hb dX0_algebra_6 rfl ?_
  refine z_putnO hC hP hD hS 0 (k := 0) rfl rfl in_X4 tyX4_ok nmX4 (by decide) q886 (fun _ h => h) rfl rfl rfl rfl (Nat.le_of_ble_eq_true rfl) (ws' := [(oa, zOb 3 [(.long (iI y).toInt64), (.double d9), s9])]) rfl dX0_algebra_7 (fun H3 locs hP hD hS hF => ?_)
  have hpo := hpo.out hE hol hof hF
  refine lv_goto (tgt := 19) hx hb dX0_algebra_10 (by decide) ?_
  refine lv_iconst (v := iI 0) hx hb dX0_algebra_19 rfl ?_
  exact z_iret hC hrt hlk hQ hS ⟨zle (z := 8) rfl (by omega), zle (z := 35) rfl (by omega)⟩ ⟨_, rfl, σ1, _, _, _, hpo, hP 0 _ rfl, Or.inl ⟨rfl, ⟨y, hR, rfl⟩⟩⟩ dX0_algebra_20

abbrev rm_m_X0_dial : Room := { frames := 9, cells := 22, slots := 304, locals := 267 }
set_option maxHeartbeats 4000000 in
theorem m_X0_dial {l : Launch} {s0 : State} {G : zG} (hE : zE l s0 G) (H0 : Heap) (hO : zO s0 H0) (ρ : Ro → Nat) (σ : St) (i : Int) (z : Int) (oa : Nat) (n9 : Int64) (d9 : UInt64) (s9 : Value) (hh : HC G s0 ρ σ H0) (hdm : zMn (ρ (5, 0, 0)) {} H0) (ho : zAt G oa (zOb 3 [(.long n9), (.double d9), s9]) H0) (hoa : s0.heap.size ≤ oa) (hof : ¬ FC G ρ σ oa) (hnc : zNc s0) (hi : zi i ∧ zi z) : zMW l s0 yX0_dial cX0_dial 5 (some FieldType.int) [((0 : Nat), (11 : Nat), (14 : Nat), (30 : Nat)), ((0 : Nat), (11 : Nat), (18 : Nat), (19 : Nat)), ((0 : Nat), (11 : Nat), (22 : Nat), (21 : Nat))] rm_m_X0_dial [.ref (ρ (0, 0, 0)), .int (iI i), .int (iI z), .ref oa] H0 (fun z => FC G ρ σ z ∨ z = oa) (ri (fun kk h1 => ∃ (σ' : St) (n1 : Int64) (d1 : UInt64) (s1 : Value), PoC G s0 H0 ρ σ σ' h1 ∧ zAt G oa (zOb 3 [.long n1, .double d1, s1]) h1 ∧ ((kk = 0 ∧ (∃ y, R_dial σ i z y σ' ∧ n1 = (iI y).toInt64)) ∨ (∃ jx : Nat, kk = ((jx + 1 : Nat) : Int) ∧ σ' = σ ∧ jx < ([IOB, IAE, ISE] : List String).length ∧ X_dial σ i z (([IOB, IAE, ISE] : List String).getD jx ""))))) (fun _ _ => False) := by
  refine z_metW hE (by decide +kernel) (Nat.le_of_ble_eq_true rfl) ?_
  intro pp ee ss mm args below meth cd Q ls hC hml hrt hlk hnm hH hQ htb hX hS hl
  have hx := hC.x
  have hb := hC.b
  have hl : lv_has ls 5 [(0, .ref (ρ (0, 0, 0))), (1, .int (iI i)), (2, .int (iI z)), (3, .ref oa)] := hl
  have hP : va_P G.1 zCl [] H0 := va_nil
  have hD : va_D (zA (fun z => FC G ρ σ z ∨ z = oa) H0) [] := va_nilD
  have hMo : ∀ z, (fun z => FC G ρ σ z ∨ z = oa) z → s0.heap.size ≤ z := fun z hz => hz.elim (fun w => FC.ge hh.sep w) (fun w => by rw [w]; exact hoa)
  have hol := ho.lt
  obtain ⟨sm, hxx⟩ := id hh.2.2.1.1
  have hncs := hnc.warm hC.w
  refine lv_aload_n hx hb dX0_dial_0 rfl (lv_at hl 3 rfl) ?_
  refine lv_aload_n hx hb dX0_dial_1 rfl (lv_at hl 0 rfl) ?_
  refine lv_iload_n hx hb dX0_dial_2 rfl (lv_at hl 1 rfl) ?_
  refine lv_iload_n hx hb dX0_dial_3 rfl (lv_at hl 2 rfl) ?_
  refine z_goX 22 304 (z_runVx (As := [.int (iI i), .int (iI z)]) (rest := [.ref oa]) hC hml hl.1 (m_X1_dial hE H0 (hO.ext (zS_F hS) hMo) ρ σ i z hh hi) (lw_V q1052 q1053 q1054 q62 q1055) rfl nd_X1_dial rfl (z_rv hC (ci := 0) rfl hxx rfl) rfl (Nat.le_of_ble_eq_true rfl) ⟨Nat.le_of_ble_eq_true rfl, Nat.le_of_ble_eq_true rfl⟩ ⟨zfit (k := 22) (z := 22) rfl rfl (by omega), zfit (k := 304) (z := 304) rfl rfl (by omega)⟩ dX0_dial_4) ⟨zad (k := 22) rfl (by omega), zad (k := 304) rfl (by omega)⟩ hS (fun _ z => Or.inl (Or.inl z)) (fun E ce q9 Hx1 locs hp hF hS1 hce hcv hcl => ?_) (fun r H2 locs hp hF hS1 => ?_)
  · have hXE : X_dial σ i z E := hp.1
    have hHx : HC G s0 ρ σ Hx1 := hp.2
    have hox : zAt G oa (zOb 3 [(.long n9), (.double d9), s9]) Hx1 := ho.ext hF hof
    have hS := hS1
    rcases Xi_dial hXE with rfl | rfl | rfl
    · refine vx_catch hC.o [] ⟨0, 11, 14, 30⟩ [⟨0, 11, 18, 19⟩, ⟨0, 11, 22, 21⟩] (by rw [htb]; rfl) (fun z hz => nomatch hz) (by decide) (by decide) (hC.t _ q1033) (z_cst hC q1065) hce hcv hcl ?_
      refine lv_astore (lv' := [(4, .ref q9), (0, .ref (ρ (0, 0, 0))), (1, .int (iI i)), (2, .int (iI z)), (3, .ref oa)]) hx hb dX0_dial_14 hl (by decide) rfl (fun ls hl => ?_)
      refine lv_iconst (v := iI 1) hx hb dX0_dial_16 rfl ?_
      exact z_iret hC hrt hlk hQ hS ⟨zle (z := 22) rfl (by omega), zle (z := 304) rfl (by omega)⟩ ⟨_, rfl, σ, n9, d9, s9, PoC.same hHx, hox, Or.inr ⟨0, rfl, rfl, by decide, hXE⟩⟩ dX0_dial_17
    · refine vx_catch hC.o [⟨0, 11, 14, 30⟩] ⟨0, 11, 18, 19⟩ [⟨0, 11, 22, 21⟩] (by rw [htb]; rfl) (fun z hz => by
        simp only [List.mem_cons, List.not_mem_nil, or_false] at hz
        subst hz
        exact Or.inr ⟨by decide, _, hC.t _ q1033, hncs.1⟩) (by decide) (by decide) (hC.t _ q899) (z_cst hC q747) hce hcv hcl ?_
      refine lv_astore (lv' := [(4, .ref q9), (0, .ref (ρ (0, 0, 0))), (1, .int (iI i)), (2, .int (iI z)), (3, .ref oa)]) hx hb dX0_dial_18 hl (by decide) rfl (fun ls hl => ?_)
      refine lv_iconst (v := iI 2) hx hb dX0_dial_20 rfl ?_
      exact z_iret hC hrt hlk hQ hS ⟨zle (z := 22) rfl (by omega), zle (z := 304) rfl (by omega)⟩ ⟨_, rfl, σ, n9, d9, s9, PoC.same hHx, hox, Or.inr ⟨1, rfl, rfl, by decide, hXE⟩⟩ dX0_dial_21
    · refine vx_catch hC.o [⟨0, 11, 14, 30⟩, ⟨0, 11, 18, 19⟩] ⟨0, 11, 22, 21⟩ [] (by rw [htb]; rfl) (fun z hz => by
        simp only [List.mem_cons, List.not_mem_nil, or_false] at hz
        rcases hz with rfl | rfl
        · exact Or.inr ⟨by decide, _, hC.t _ q1033, hncs.2.1⟩
        · exact Or.inr ⟨by decide, _, hC.t _ q899, hncs.2.2⟩) (by decide) (by decide) (hC.t _ q900) (z_cst hC q924) hce hcv hcl ?_
      refine lv_astore (lv' := [(4, .ref q9), (0, .ref (ρ (0, 0, 0))), (1, .int (iI i)), (2, .int (iI z)), (3, .ref oa)]) hx hb dX0_dial_22 hl (by decide) rfl (fun ls hl => ?_)
      refine lv_iconst (v := iI 3) hx hb dX0_dial_24 rfl ?_
      exact z_iret hC hrt hlk hQ hS ⟨zle (z := 22) rfl (by omega), zle (z := 304) rfl (by omega)⟩ ⟨_, rfl, σ, n9, d9, s9, PoC.same hHx, hox, Or.inr ⟨2, rfl, rfl, by decide, hXE⟩⟩ dX0_dial_25
  obtain ⟨y, rfl, σ1, hR, hpo⟩ := hp
  have hP : va_P G.1 zCl [(oa, zOb 3 [(.long n9), (.double d9), s9])] H2 := zP1 (ho.ext hF hof)
  have hD : va_D (zA (fun z => FC G ρ σ z ∨ z = oa) H0) [(oa, zOb 3 [(.long n9), (.double d9), s9])] := zD1 (Or.inl (Or.inr rfl))
  have hP : va_P G.1 zCl ([(oa, zOb 3 [(.long n9), (.double d9), s9])]) H2 := hP
  have hD : va_D (zA (fun z => FC G ρ σ z ∨ z = oa) H0) ([(oa, zOb 3 [(.long n9), (.double d9), s9])]) := hD
  have hS := hS1
  refine lv_i2l hx hb dX0_dial_7 rfl ?_
  refine z_putnO hC hP hD hS 0 (k := 0) rfl rfl in_X4 tyX4_ok nmX4 (by decide) q886 (fun _ h => h) rfl rfl rfl rfl (Nat.le_of_ble_eq_true rfl) (ws' := [(oa, zOb 3 [(.long (iI y).toInt64), (.double d9), s9])]) rfl dX0_dial_8 (fun H3 locs hP hD hS hF => ?_)
  have hpo := hpo.out hE hol hof hF
  refine lv_goto (tgt := 26) hx hb dX0_dial_11 (by decide) ?_
  refine lv_iconst (v := iI 0) hx hb dX0_dial_26 rfl ?_
  exact z_iret hC hrt hlk hQ hS ⟨zle (z := 22) rfl (by omega), zle (z := 304) rfl (by omega)⟩ ⟨_, rfl, σ1, _, _, _, hpo, hP 0 _ rfl, Or.inl ⟨rfl, ⟨y, hR, rfl⟩⟩⟩ dX0_dial_27

abbrev rm_m_X0_element : Room := { frames := 9, cells := 5, slots := 41, locals := 243 }
set_option maxHeartbeats 4000000 in
theorem m_X0_element {l : Launch} {s0 : State} {G : zG} (hE : zE l s0 G) (H0 : Heap) (hO : zO s0 H0) (ρ : Ro → Nat) (σ : St) (i : Int) (oa : Nat) (n9 : Int64) (d9 : UInt64) (s9 : Value) (hh : HC G s0 ρ σ H0) (hdm : zMn (ρ (5, 0, 0)) {} H0) (ho : zAt G oa (zOb 3 [(.long n9), (.double d9), s9]) H0) (hoa : s0.heap.size ≤ oa) (hof : ¬ FC G ρ σ oa) (hnc : zNc s0) (hi : zi i) : zMW l s0 yX0_element cX0_element 4 (some FieldType.int) [((0 : Nat), (10 : Nat), (13 : Nat), (30 : Nat)), ((0 : Nat), (10 : Nat), (16 : Nat), (21 : Nat))] rm_m_X0_element [.ref (ρ (0, 0, 0)), .int (iI i), .ref oa] H0 (fun z => FC G ρ σ z ∨ z = oa) (ri (fun kk h1 => ∃ (σ' : St) (n1 : Int64) (d1 : UInt64) (s1 : Value), PoC G s0 H0 ρ σ σ' h1 ∧ zAt G oa (zOb 3 [.long n1, .double d1, s1]) h1 ∧ ((kk = 0 ∧ (∃ y, R_element σ i y σ' ∧ n1 = (iI y).toInt64)) ∨ (∃ jx : Nat, kk = ((jx + 1 : Nat) : Int) ∧ σ' = σ ∧ jx < ([IOB, ISE] : List String).length ∧ X_element σ i (([IOB, ISE] : List String).getD jx ""))))) (fun _ _ => False) := by
  refine z_metW hE (by decide +kernel) (Nat.le_of_ble_eq_true rfl) ?_
  intro pp ee ss mm args below meth cd Q ls hC hml hrt hlk hnm hH hQ htb hX hS hl
  have hx := hC.x
  have hb := hC.b
  have hl : lv_has ls 4 [(0, .ref (ρ (0, 0, 0))), (1, .int (iI i)), (2, .ref oa)] := hl
  have hP : va_P G.1 zCl [] H0 := va_nil
  have hD : va_D (zA (fun z => FC G ρ σ z ∨ z = oa) H0) [] := va_nilD
  have hMo : ∀ z, (fun z => FC G ρ σ z ∨ z = oa) z → s0.heap.size ≤ z := fun z hz => hz.elim (fun w => FC.ge hh.sep w) (fun w => by rw [w]; exact hoa)
  have hol := ho.lt
  obtain ⟨sm, hxx⟩ := id hh.2.2.1.1
  have hncs := hnc.warm hC.w
  refine lv_aload_n hx hb dX0_element_0 rfl (lv_at hl 2 rfl) ?_
  refine lv_aload_n hx hb dX0_element_1 rfl (lv_at hl 0 rfl) ?_
  refine lv_iload_n hx hb dX0_element_2 rfl (lv_at hl 1 rfl) ?_
  refine z_goX 5 41 (z_runVx (As := [.int (iI i)]) (rest := [.ref oa]) hC hml hl.1 (m_X1_element hE H0 (hO.ext (zS_F hS) hMo) ρ σ i hh hi) (lw_V q1127 q1128 q1129 q62 q1130) rfl nd_X1_element rfl (z_rv hC (ci := 0) rfl hxx rfl) rfl (Nat.le_of_ble_eq_true rfl) ⟨Nat.le_of_ble_eq_true rfl, Nat.le_of_ble_eq_true rfl⟩ ⟨zfit (k := 5) (z := 5) rfl rfl (by omega), zfit (k := 41) (z := 41) rfl rfl (by omega)⟩ dX0_element_3) ⟨zad (k := 5) rfl (by omega), zad (k := 41) rfl (by omega)⟩ hS (fun _ z => Or.inl (Or.inl z)) (fun E ce q9 Hx1 locs hp hF hS1 hce hcv hcl => ?_) (fun r H2 locs hp hF hS1 => ?_)
  · have hXE : X_element σ i E := hp.1
    have hHx : HC G s0 ρ σ Hx1 := hp.2
    have hox : zAt G oa (zOb 3 [(.long n9), (.double d9), s9]) Hx1 := ho.ext hF hof
    have hS := hS1
    rcases Xi_element hXE with rfl | rfl
    · refine vx_catch hC.o [] ⟨0, 10, 13, 30⟩ [⟨0, 10, 16, 21⟩] (by rw [htb]; rfl) (fun z hz => nomatch hz) (by decide) (by decide) (hC.t _ q1033) (z_cst hC q1065) hce hcv hcl ?_
      refine lv_astore_n (lv' := [(3, .ref q9), (0, .ref (ρ (0, 0, 0))), (1, .int (iI i)), (2, .ref oa)]) hx hb dX0_element_13 rfl hl (by decide) rfl (fun ls hl => ?_)
      refine lv_iconst (v := iI 1) hx hb dX0_element_14 rfl ?_
      exact z_iret hC hrt hlk hQ hS ⟨zle (z := 5) rfl (by omega), zle (z := 41) rfl (by omega)⟩ ⟨_, rfl, σ, n9, d9, s9, PoC.same hHx, hox, Or.inr ⟨0, rfl, rfl, by decide, hXE⟩⟩ dX0_element_15
    · refine vx_catch hC.o [⟨0, 10, 13, 30⟩] ⟨0, 10, 16, 21⟩ [] (by rw [htb]; rfl) (fun z hz => by
        simp only [List.mem_cons, List.not_mem_nil, or_false] at hz
        subst hz
        exact Or.inr ⟨by decide, _, hC.t _ q1033, hncs.2.1⟩) (by decide) (by decide) (hC.t _ q900) (z_cst hC q924) hce hcv hcl ?_
      refine lv_astore_n (lv' := [(3, .ref q9), (0, .ref (ρ (0, 0, 0))), (1, .int (iI i)), (2, .ref oa)]) hx hb dX0_element_16 rfl hl (by decide) rfl (fun ls hl => ?_)
      refine lv_iconst (v := iI 2) hx hb dX0_element_17 rfl ?_
      exact z_iret hC hrt hlk hQ hS ⟨zle (z := 5) rfl (by omega), zle (z := 41) rfl (by omega)⟩ ⟨_, rfl, σ, n9, d9, s9, PoC.same hHx, hox, Or.inr ⟨1, rfl, rfl, by decide, hXE⟩⟩ dX0_element_18
  obtain ⟨y, rfl, σ1, hR, hpo⟩ := hp
  have hP : va_P G.1 zCl [(oa, zOb 3 [(.long n9), (.double d9), s9])] H2 := zP1 (ho.ext hF hof)
  have hD : va_D (zA (fun z => FC G ρ σ z ∨ z = oa) H0) [(oa, zOb 3 [(.long n9), (.double d9), s9])] := zD1 (Or.inl (Or.inr rfl))
  have hP : va_P G.1 zCl ([(oa, zOb 3 [(.long n9), (.double d9), s9])]) H2 := hP
  have hD : va_D (zA (fun z => FC G ρ σ z ∨ z = oa) H0) ([(oa, zOb 3 [(.long n9), (.double d9), s9])]) := hD
  have hS := hS1
  refine lv_i2l hx hb dX0_element_6 rfl ?_
  refine z_putnO hC hP hD hS 0 (k := 0) rfl rfl in_X4 tyX4_ok nmX4 (by decide) q886 (fun _ h => h) rfl rfl rfl rfl (Nat.le_of_ble_eq_true rfl) (ws' := [(oa, zOb 3 [(.long (iI y).toInt64), (.double d9), s9])]) rfl dX0_element_7 (fun H3 locs hP hD hS hF => ?_)
  have hpo := hpo.out hE hol hof hF
  refine lv_goto (tgt := 19) hx hb dX0_element_10 (by decide) ?_
  refine lv_iconst (v := iI 0) hx hb dX0_element_19 rfl ?_
  exact z_iret hC hrt hlk hQ hS ⟨zle (z := 5) rfl (by omega), zle (z := 41) rfl (by omega)⟩ ⟨_, rfl, σ1, _, _, _, hpo, hP 0 _ rfl, Or.inl ⟨rfl, ⟨y, hR, rfl⟩⟩⟩ dX0_element_20

abbrev rm_m_X0_set : Room := { frames := 9, cells := 3, slots := 18, locals := 157 }
set_option maxHeartbeats 4000000 in
theorem m_X0_set {l : Launch} {s0 : State} {G : zG} (hE : zE l s0 G) (H0 : Heap) (hO : zO s0 H0) (ρ : Ro → Nat) (σ : St) (i : Int) (u : Int) (z : Int) (oa : Nat) (n9 : Int64) (d9 : UInt64) (s9 : Value) (hh : HC G s0 ρ σ H0) (hdm : zMn (ρ (5, 0, 0)) {} H0) (ho : zAt G oa (zOb 3 [(.long n9), (.double d9), s9]) H0) (hoa : s0.heap.size ≤ oa) (hof : ¬ FC G ρ σ oa) (hnc : zNc s0) (hi : zi i ∧ zi u ∧ zi z) : zMW l s0 yX0_set cX0_set 6 (some FieldType.int) [((0 : Nat), (13 : Nat), (16 : Nat), (30 : Nat)), ((0 : Nat), (13 : Nat), (20 : Nat), (19 : Nat))] rm_m_X0_set [.ref (ρ (0, 0, 0)), .int (iI i), .int (iI u), .int (iI z), .ref oa] H0 (fun z => FC G ρ σ z ∨ z = oa) (ri (fun kk h1 => ∃ (σ' : St) (n1 : Int64) (d1 : UInt64) (s1 : Value), PoC G s0 H0 ρ σ σ' h1 ∧ zAt G oa (zOb 3 [.long n1, .double d1, s1]) h1 ∧ ((kk = 0 ∧ (∃ y, R_set σ i u z y σ' ∧ n1 = (iI y).toInt64)) ∨ (∃ jx : Nat, kk = ((jx + 1 : Nat) : Int) ∧ σ' = σ ∧ jx < ([IOB, IAE] : List String).length ∧ X_set σ i u z (([IOB, IAE] : List String).getD jx ""))))) (fun _ _ => False) := by
  refine z_metW hE (by decide +kernel) (Nat.le_of_ble_eq_true rfl) ?_
  intro pp ee ss mm args below meth cd Q ls hC hml hrt hlk hnm hH hQ htb hX hS hl
  have hx := hC.x
  have hb := hC.b
  have hl : lv_has ls 6 [(0, .ref (ρ (0, 0, 0))), (1, .int (iI i)), (2, .int (iI u)), (3, .int (iI z)), (4, .ref oa)] := hl
  have hP : va_P G.1 zCl [] H0 := va_nil
  have hD : va_D (zA (fun z => FC G ρ σ z ∨ z = oa) H0) [] := va_nilD
  have hMo : ∀ z, (fun z => FC G ρ σ z ∨ z = oa) z → s0.heap.size ≤ z := fun z hz => hz.elim (fun w => FC.ge hh.sep w) (fun w => by rw [w]; exact hoa)
  have hol := ho.lt
  obtain ⟨sm, hxx⟩ := id hh.2.2.1.1
  have hncs := hnc.warm hC.w
  refine lv_aload hx hb dX0_set_0 (lv_at hl 4 rfl) ?_
  refine lv_aload_n hx hb dX0_set_2 rfl (lv_at hl 0 rfl) ?_
  refine lv_iload_n hx hb dX0_set_3 rfl (lv_at hl 1 rfl) ?_
  refine lv_iload_n hx hb dX0_set_4 rfl (lv_at hl 2 rfl) ?_
  refine lv_iload_n hx hb dX0_set_5 rfl (lv_at hl 3 rfl) ?_
  refine z_goX 3 18 (z_runVx (As := [.int (iI i), .int (iI u), .int (iI z)]) (rest := [.ref oa]) hC hml hl.1 (m_X1_set hE H0 (hO.ext (zS_F hS) hMo) ρ σ i u z hh hi) (lw_V q1135 q1136 q1137 q62 q1138) rfl nd_X1_set rfl (z_rv hC (ci := 0) rfl hxx rfl) rfl (Nat.le_of_ble_eq_true rfl) ⟨Nat.le_of_ble_eq_true rfl, Nat.le_of_ble_eq_true rfl⟩ ⟨zfit (k := 3) (z := 3) rfl rfl (by omega), zfit (k := 18) (z := 18) rfl rfl (by omega)⟩ dX0_set_6) ⟨zad (k := 3) rfl (by omega), zad (k := 18) rfl (by omega)⟩ hS (fun _ z => Or.inl (Or.inl z)) (fun E ce q9 Hx1 locs hp hF hS1 hce hcv hcl => ?_) (fun r H2 locs hp hF hS1 => ?_)
  · have hXE : X_set σ i u z E := hp.1
    have hHx : HC G s0 ρ σ Hx1 := hp.2
    have hox : zAt G oa (zOb 3 [(.long n9), (.double d9), s9]) Hx1 := ho.ext hF hof
    have hS := hS1
    rcases Xi_set hXE with rfl | rfl
    · refine vx_catch hC.o [] ⟨0, 13, 16, 30⟩ [⟨0, 13, 20, 19⟩] (by rw [htb]; rfl) (fun z hz => nomatch hz) (by decide) (by decide) (hC.t _ q1033) (z_cst hC q1065) hce hcv hcl ?_
      refine lv_astore (lv' := [(5, .ref q9), (0, .ref (ρ (0, 0, 0))), (1, .int (iI i)), (2, .int (iI u)), (3, .int (iI z)), (4, .ref oa)]) hx hb dX0_set_16 hl (by decide) rfl (fun ls hl => ?_)
      refine lv_iconst (v := iI 1) hx hb dX0_set_18 rfl ?_
      exact z_iret hC hrt hlk hQ hS ⟨zle (z := 3) rfl (by omega), zle (z := 18) rfl (by omega)⟩ ⟨_, rfl, σ, n9, d9, s9, PoC.same hHx, hox, Or.inr ⟨0, rfl, rfl, by decide, hXE⟩⟩ dX0_set_19
    · refine vx_catch hC.o [⟨0, 13, 16, 30⟩] ⟨0, 13, 20, 19⟩ [] (by rw [htb]; rfl) (fun z hz => by
        simp only [List.mem_cons, List.not_mem_nil, or_false] at hz
        subst hz
        exact Or.inr ⟨by decide, _, hC.t _ q1033, hncs.1⟩) (by decide) (by decide) (hC.t _ q899) (z_cst hC q747) hce hcv hcl ?_
      refine lv_astore (lv' := [(5, .ref q9), (0, .ref (ρ (0, 0, 0))), (1, .int (iI i)), (2, .int (iI u)), (3, .int (iI z)), (4, .ref oa)]) hx hb dX0_set_20 hl (by decide) rfl (fun ls hl => ?_)
      refine lv_iconst (v := iI 2) hx hb dX0_set_22 rfl ?_
      exact z_iret hC hrt hlk hQ hS ⟨zle (z := 3) rfl (by omega), zle (z := 18) rfl (by omega)⟩ ⟨_, rfl, σ, n9, d9, s9, PoC.same hHx, hox, Or.inr ⟨1, rfl, rfl, by decide, hXE⟩⟩ dX0_set_23
  obtain ⟨y, rfl, σ1, hR, hpo⟩ := hp
  have hP : va_P G.1 zCl [(oa, zOb 3 [(.long n9), (.double d9), s9])] H2 := zP1 (ho.ext hF hof)
  have hD : va_D (zA (fun z => FC G ρ σ z ∨ z = oa) H0) [(oa, zOb 3 [(.long n9), (.double d9), s9])] := zD1 (Or.inl (Or.inr rfl))
  have hP : va_P G.1 zCl ([(oa, zOb 3 [(.long n9), (.double d9), s9])]) H2 := hP
  have hD : va_D (zA (fun z => FC G ρ σ z ∨ z = oa) H0) ([(oa, zOb 3 [(.long n9), (.double d9), s9])]) := hD
  have hS := hS1
  refine lv_i2l hx hb dX0_set_9 rfl ?_
  refine z_putnO hC hP hD hS 0 (k := 0) rfl rfl in_X4 tyX4_ok nmX4 (by decide) q886 (fun _ h => h) rfl rfl rfl rfl (Nat.le_of_ble_eq_true rfl) (ws' := [(oa, zOb 3 [(.long (iI y).toInt64), (.double d9), s9])]) rfl dX0_set_10 (fun H3 locs hP hD hS hF => ?_)
  have hpo := hpo.out hE hol hof hF
  refine lv_goto (tgt := 24) hx hb dX0_set_13 (by decide) ?_
  refine lv_iconst (v := iI 0) hx hb dX0_set_24 rfl ?_
  exact z_iret hC hrt hlk hQ hS ⟨zle (z := 3) rfl (by omega), zle (z := 18) rfl (by omega)⟩ ⟨_, rfl, σ1, _, _, _, hpo, hP 0 _ rfl, Or.inl ⟨rfl, ⟨y, hR, rfl⟩⟩⟩ dX0_set_25

abbrev rm_m_X0_sum : Room := { frames := 9, cells := 7, slots := 49, locals := 158 }
set_option maxHeartbeats 4000000 in
theorem m_X0_sum {l : Launch} {s0 : State} {G : zG} (hE : zE l s0 G) (H0 : Heap) (hO : zO s0 H0) (ρ : Ro → Nat) (σ : St) (i : Int) (j : Int) (k : Int) (oa : Nat) (n9 : Int64) (d9 : UInt64) (s9 : Value) (hh : HC G s0 ρ σ H0) (hdm : zMn (ρ (5, 0, 0)) {} H0) (ho : zAt G oa (zOb 3 [(.long n9), (.double d9), s9]) H0) (hoa : s0.heap.size ≤ oa) (hof : ¬ FC G ρ σ oa) (hnc : zNc s0) (hi : zi i ∧ zi j ∧ zi k) : zMW l s0 yX0_sum cX0_sum 6 (some FieldType.int) [((0 : Nat), (13 : Nat), (16 : Nat), (30 : Nat)), ((0 : Nat), (13 : Nat), (20 : Nat), (19 : Nat))] rm_m_X0_sum [.ref (ρ (0, 0, 0)), .int (iI i), .int (iI j), .int (iI k), .ref oa] H0 (fun z => FC G ρ σ z ∨ z = oa) (ri (fun kk h1 => ∃ (σ' : St) (n1 : Int64) (d1 : UInt64) (s1 : Value), PoC G s0 H0 ρ σ σ' h1 ∧ zAt G oa (zOb 3 [.long n1, .double d1, s1]) h1 ∧ ((kk = 0 ∧ (∃ y, R_sum σ i j k y σ' ∧ n1 = (iI y).toInt64)) ∨ (∃ jx : Nat, kk = ((jx + 1 : Nat) : Int) ∧ σ' = σ ∧ jx < ([IOB, IAE] : List String).length ∧ X_sum σ i j k (([IOB, IAE] : List String).getD jx ""))))) (fun _ _ => False) := by
  refine z_metW hE (by decide +kernel) (Nat.le_of_ble_eq_true rfl) ?_
  intro pp ee ss mm args below meth cd Q ls hC hml hrt hlk hnm hH hQ htb hX hS hl
  have hx := hC.x
  have hb := hC.b
  have hl : lv_has ls 6 [(0, .ref (ρ (0, 0, 0))), (1, .int (iI i)), (2, .int (iI j)), (3, .int (iI k)), (4, .ref oa)] := hl
  have hP : va_P G.1 zCl [] H0 := va_nil
  have hD : va_D (zA (fun z => FC G ρ σ z ∨ z = oa) H0) [] := va_nilD
  have hMo : ∀ z, (fun z => FC G ρ σ z ∨ z = oa) z → s0.heap.size ≤ z := fun z hz => hz.elim (fun w => FC.ge hh.sep w) (fun w => by rw [w]; exact hoa)
  have hol := ho.lt
  obtain ⟨sm, hxx⟩ := id hh.2.2.1.1
  have hncs := hnc.warm hC.w
  refine lv_aload hx hb dX0_sum_0 (lv_at hl 4 rfl) ?_
  refine lv_aload_n hx hb dX0_sum_2 rfl (lv_at hl 0 rfl) ?_
  refine lv_iload_n hx hb dX0_sum_3 rfl (lv_at hl 1 rfl) ?_
  refine lv_iload_n hx hb dX0_sum_4 rfl (lv_at hl 2 rfl) ?_
  refine lv_iload_n hx hb dX0_sum_5 rfl (lv_at hl 3 rfl) ?_
  refine z_goX 7 49 (z_runVx (As := [.int (iI i), .int (iI j), .int (iI k)]) (rest := [.ref oa]) hC hml hl.1 (m_X1_sum hE H0 (hO.ext (zS_F hS) hMo) ρ σ i j k hh hi) (lw_V q1146 q1147 q1148 q62 q1149) rfl nd_X1_sum rfl (z_rv hC (ci := 0) rfl hxx rfl) rfl (Nat.le_of_ble_eq_true rfl) ⟨Nat.le_of_ble_eq_true rfl, Nat.le_of_ble_eq_true rfl⟩ ⟨zfit (k := 7) (z := 7) rfl rfl (by omega), zfit (k := 49) (z := 49) rfl rfl (by omega)⟩ dX0_sum_6) ⟨zad (k := 7) rfl (by omega), zad (k := 49) rfl (by omega)⟩ hS (fun _ z => Or.inl (Or.inl z)) (fun E ce q9 Hx1 locs hp hF hS1 hce hcv hcl => ?_) (fun r H2 locs hp hF hS1 => ?_)
  · have hXE : X_sum σ i j k E := hp.1
    have hHx : HC G s0 ρ σ Hx1 := hp.2
    have hox : zAt G oa (zOb 3 [(.long n9), (.double d9), s9]) Hx1 := ho.ext hF hof
    have hS := hS1
    rcases Xi_sum hXE with rfl | rfl
    · refine vx_catch hC.o [] ⟨0, 13, 16, 30⟩ [⟨0, 13, 20, 19⟩] (by rw [htb]; rfl) (fun z hz => nomatch hz) (by decide) (by decide) (hC.t _ q1033) (z_cst hC q1065) hce hcv hcl ?_
      refine lv_astore (lv' := [(5, .ref q9), (0, .ref (ρ (0, 0, 0))), (1, .int (iI i)), (2, .int (iI j)), (3, .int (iI k)), (4, .ref oa)]) hx hb dX0_sum_16 hl (by decide) rfl (fun ls hl => ?_)
      refine lv_iconst (v := iI 1) hx hb dX0_sum_18 rfl ?_
      exact z_iret hC hrt hlk hQ hS ⟨zle (z := 7) rfl (by omega), zle (z := 49) rfl (by omega)⟩ ⟨_, rfl, σ, n9, d9, s9, PoC.same hHx, hox, Or.inr ⟨0, rfl, rfl, by decide, hXE⟩⟩ dX0_sum_19
    · refine vx_catch hC.o [⟨0, 13, 16, 30⟩] ⟨0, 13, 20, 19⟩ [] (by rw [htb]; rfl) (fun z hz => by
        simp only [List.mem_cons, List.not_mem_nil, or_false] at hz
        subst hz
        exact Or.inr ⟨by decide, _, hC.t _ q1033, hncs.1⟩) (by decide) (by decide) (hC.t _ q899) (z_cst hC q747) hce hcv hcl ?_
      refine lv_astore (lv' := [(5, .ref q9), (0, .ref (ρ (0, 0, 0))), (1, .int (iI i)), (2, .int (iI j)), (3, .int (iI k)), (4, .ref oa)]) hx hb dX0_sum_20 hl (by decide) rfl (fun ls hl => ?_)
      refine lv_iconst (v := iI 2) hx hb dX0_sum_22 rfl ?_
      exact z_iret hC hrt hlk hQ hS ⟨zle (z := 7) rfl (by omega), zle (z := 49) rfl (by omega)⟩ ⟨_, rfl, σ, n9, d9, s9, PoC.same hHx, hox, Or.inr ⟨1, rfl, rfl, by decide, hXE⟩⟩ dX0_sum_23
  obtain ⟨y, rfl, σ1, hR, hpo⟩ := hp
  have hP : va_P G.1 zCl [(oa, zOb 3 [(.long n9), (.double d9), s9])] H2 := zP1 (ho.ext hF hof)
  have hD : va_D (zA (fun z => FC G ρ σ z ∨ z = oa) H0) [(oa, zOb 3 [(.long n9), (.double d9), s9])] := zD1 (Or.inl (Or.inr rfl))
  have hP : va_P G.1 zCl ([(oa, zOb 3 [(.long n9), (.double d9), s9])]) H2 := hP
  have hD : va_D (zA (fun z => FC G ρ σ z ∨ z = oa) H0) ([(oa, zOb 3 [(.long n9), (.double d9), s9])]) := hD
  have hS := hS1
  refine lv_i2l hx hb dX0_sum_9 rfl ?_
  refine z_putnO hC hP hD hS 0 (k := 0) rfl rfl in_X4 tyX4_ok nmX4 (by decide) q886 (fun _ h => h) rfl rfl rfl rfl (Nat.le_of_ble_eq_true rfl) (ws' := [(oa, zOb 3 [(.long (iI y).toInt64), (.double d9), s9])]) rfl dX0_sum_10 (fun H3 locs hP hD hS hF => ?_)
  have hpo := hpo.out hE hol hof hF
  refine lv_goto (tgt := 24) hx hb dX0_sum_13 (by decide) ?_
  refine lv_iconst (v := iI 0) hx hb dX0_sum_24 rfl ?_
  exact z_iret hC hrt hlk hQ hS ⟨zle (z := 7) rfl (by omega), zle (z := 49) rfl (by omega)⟩ ⟨_, rfl, σ1, _, _, _, hpo, hP 0 _ rfl, Or.inl ⟨rfl, ⟨y, hR, rfl⟩⟩⟩ dX0_sum_25

abbrev rm_m_X0_product : Room := { frames := 9, cells := 7, slots := 49, locals := 158 }
set_option maxHeartbeats 4000000 in
theorem m_X0_product {l : Launch} {s0 : State} {G : zG} (hE : zE l s0 G) (H0 : Heap) (hO : zO s0 H0) (ρ : Ro → Nat) (σ : St) (i : Int) (j : Int) (k : Int) (oa : Nat) (n9 : Int64) (d9 : UInt64) (s9 : Value) (hh : HC G s0 ρ σ H0) (hdm : zMn (ρ (5, 0, 0)) {} H0) (ho : zAt G oa (zOb 3 [(.long n9), (.double d9), s9]) H0) (hoa : s0.heap.size ≤ oa) (hof : ¬ FC G ρ σ oa) (hnc : zNc s0) (hi : zi i ∧ zi j ∧ zi k) : zMW l s0 yX0_product cX0_product 6 (some FieldType.int) [((0 : Nat), (13 : Nat), (16 : Nat), (30 : Nat)), ((0 : Nat), (13 : Nat), (20 : Nat), (19 : Nat))] rm_m_X0_product [.ref (ρ (0, 0, 0)), .int (iI i), .int (iI j), .int (iI k), .ref oa] H0 (fun z => FC G ρ σ z ∨ z = oa) (ri (fun kk h1 => ∃ (σ' : St) (n1 : Int64) (d1 : UInt64) (s1 : Value), PoC G s0 H0 ρ σ σ' h1 ∧ zAt G oa (zOb 3 [.long n1, .double d1, s1]) h1 ∧ ((kk = 0 ∧ (∃ y, R_product σ i j k y σ' ∧ n1 = (iI y).toInt64)) ∨ (∃ jx : Nat, kk = ((jx + 1 : Nat) : Int) ∧ σ' = σ ∧ jx < ([IOB, IAE] : List String).length ∧ X_product σ i j k (([IOB, IAE] : List String).getD jx ""))))) (fun _ _ => False) := by
  refine z_metW hE (by decide +kernel) (Nat.le_of_ble_eq_true rfl) ?_
  intro pp ee ss mm args below meth cd Q ls hC hml hrt hlk hnm hH hQ htb hX hS hl
  have hx := hC.x
  have hb := hC.b
  have hl : lv_has ls 6 [(0, .ref (ρ (0, 0, 0))), (1, .int (iI i)), (2, .int (iI j)), (3, .int (iI k)), (4, .ref oa)] := hl
  have hP : va_P G.1 zCl [] H0 := va_nil
  have hD : va_D (zA (fun z => FC G ρ σ z ∨ z = oa) H0) [] := va_nilD
  have hMo : ∀ z, (fun z => FC G ρ σ z ∨ z = oa) z → s0.heap.size ≤ z := fun z hz => hz.elim (fun w => FC.ge hh.sep w) (fun w => by rw [w]; exact hoa)
  have hol := ho.lt
  obtain ⟨sm, hxx⟩ := id hh.2.2.1.1
  have hncs := hnc.warm hC.w
  refine lv_aload hx hb dX0_product_0 (lv_at hl 4 rfl) ?_
  refine lv_aload_n hx hb dX0_product_2 rfl (lv_at hl 0 rfl) ?_
  refine lv_iload_n hx hb dX0_product_3 rfl (lv_at hl 1 rfl) ?_
  refine lv_iload_n hx hb dX0_product_4 rfl (lv_at hl 2 rfl) ?_
  refine lv_iload_n hx hb dX0_product_5 rfl (lv_at hl 3 rfl) ?_
  refine z_goX 7 49 (z_runVx (As := [.int (iI i), .int (iI j), .int (iI k)]) (rest := [.ref oa]) hC hml hl.1 (m_X1_product hE H0 (hO.ext (zS_F hS) hMo) ρ σ i j k hh hi) (lw_V q1161 q1162 q1163 q62 q1164) rfl nd_X1_product rfl (z_rv hC (ci := 0) rfl hxx rfl) rfl (Nat.le_of_ble_eq_true rfl) ⟨Nat.le_of_ble_eq_true rfl, Nat.le_of_ble_eq_true rfl⟩ ⟨zfit (k := 7) (z := 7) rfl rfl (by omega), zfit (k := 49) (z := 49) rfl rfl (by omega)⟩ dX0_product_6) ⟨zad (k := 7) rfl (by omega), zad (k := 49) rfl (by omega)⟩ hS (fun _ z => Or.inl (Or.inl z)) (fun E ce q9 Hx1 locs hp hF hS1 hce hcv hcl => ?_) (fun r H2 locs hp hF hS1 => ?_)
  · have hXE : X_product σ i j k E := hp.1
    have hHx : HC G s0 ρ σ Hx1 := hp.2
    have hox : zAt G oa (zOb 3 [(.long n9), (.double d9), s9]) Hx1 := ho.ext hF hof
    have hS := hS1
    rcases Xi_product hXE with rfl | rfl
    · refine vx_catch hC.o [] ⟨0, 13, 16, 30⟩ [⟨0, 13, 20, 19⟩] (by rw [htb]; rfl) (fun z hz => nomatch hz) (by decide) (by decide) (hC.t _ q1033) (z_cst hC q1065) hce hcv hcl ?_
      refine lv_astore (lv' := [(5, .ref q9), (0, .ref (ρ (0, 0, 0))), (1, .int (iI i)), (2, .int (iI j)), (3, .int (iI k)), (4, .ref oa)]) hx hb dX0_product_16 hl (by decide) rfl (fun ls hl => ?_)
      refine lv_iconst (v := iI 1) hx hb dX0_product_18 rfl ?_
      exact z_iret hC hrt hlk hQ hS ⟨zle (z := 7) rfl (by omega), zle (z := 49) rfl (by omega)⟩ ⟨_, rfl, σ, n9, d9, s9, PoC.same hHx, hox, Or.inr ⟨0, rfl, rfl, by decide, hXE⟩⟩ dX0_product_19
    · refine vx_catch hC.o [⟨0, 13, 16, 30⟩] ⟨0, 13, 20, 19⟩ [] (by rw [htb]; rfl) (fun z hz => by
        simp only [List.mem_cons, List.not_mem_nil, or_false] at hz
        subst hz
        exact Or.inr ⟨by decide, _, hC.t _ q1033, hncs.1⟩) (by decide) (by decide) (hC.t _ q899) (z_cst hC q747) hce hcv hcl ?_
      refine lv_astore (lv' := [(5, .ref q9), (0, .ref (ρ (0, 0, 0))), (1, .int (iI i)), (2, .int (iI j)), (3, .int (iI k)), (4, .ref oa)]) hx hb dX0_product_20 hl (by decide) rfl (fun ls hl => ?_)
      refine lv_iconst (v := iI 2) hx hb dX0_product_22 rfl ?_
      exact z_iret hC hrt hlk hQ hS ⟨zle (z := 7) rfl (by omega), zle (z := 49) rfl (by omega)⟩ ⟨_, rfl, σ, n9, d9, s9, PoC.same hHx, hox, Or.inr ⟨1, rfl, rfl, by decide, hXE⟩⟩ dX0_product_23
  obtain ⟨y, rfl, σ1, hR, hpo⟩ := hp
  have hP : va_P G.1 zCl [(oa, zOb 3 [(.long n9), (.double d9), s9])] H2 := zP1 (ho.ext hF hof)
  have hD : va_D (zA (fun z => FC G ρ σ z ∨ z = oa) H0) [(oa, zOb 3 [(.long n9), (.double d9), s9])] := zD1 (Or.inl (Or.inr rfl))
  have hP : va_P G.1 zCl ([(oa, zOb 3 [(.long n9), (.double d9), s9])]) H2 := hP
  have hD : va_D (zA (fun z => FC G ρ σ z ∨ z = oa) H0) ([(oa, zOb 3 [(.long n9), (.double d9), s9])]) := hD
  have hS := hS1
  refine lv_i2l hx hb dX0_product_9 rfl ?_
  refine z_putnO hC hP hD hS 0 (k := 0) rfl rfl in_X4 tyX4_ok nmX4 (by decide) q886 (fun _ h => h) rfl rfl rfl rfl (Nat.le_of_ble_eq_true rfl) (ws' := [(oa, zOb 3 [(.long (iI y).toInt64), (.double d9), s9])]) rfl dX0_product_10 (fun H3 locs hP hD hS hF => ?_)
  have hpo := hpo.out hE hol hof hF
  refine lv_goto (tgt := 24) hx hb dX0_product_13 (by decide) ?_
  refine lv_iconst (v := iI 0) hx hb dX0_product_24 rfl ?_
  exact z_iret hC hrt hlk hQ hS ⟨zle (z := 7) rfl (by omega), zle (z := 49) rfl (by omega)⟩ ⟨_, rfl, σ1, _, _, _, hpo, hP 0 _ rfl, Or.inl ⟨rfl, ⟨y, hR, rfl⟩⟩⟩ dX0_product_25

abbrev rm_m_X0_scale : Room := { frames := 9, cells := 6, slots := 43, locals := 157 }
set_option maxHeartbeats 4000000 in
theorem m_X0_scale {l : Launch} {s0 : State} {G : zG} (hE : zE l s0 G) (H0 : Heap) (hO : zO s0 H0) (ρ : Ro → Nat) (σ : St) (i : Int) (j : Int) (t : Int) (oa : Nat) (n9 : Int64) (d9 : UInt64) (s9 : Value) (hh : HC G s0 ρ σ H0) (hdm : zMn (ρ (5, 0, 0)) {} H0) (ho : zAt G oa (zOb 3 [(.long n9), (.double d9), s9]) H0) (hoa : s0.heap.size ≤ oa) (hof : ¬ FC G ρ σ oa) (hnc : zNc s0) (hi : zi i ∧ zi j ∧ zi t) : zMW l s0 yX0_scale cX0_scale 6 (some FieldType.int) [((0 : Nat), (13 : Nat), (16 : Nat), (30 : Nat)), ((0 : Nat), (13 : Nat), (20 : Nat), (19 : Nat))] rm_m_X0_scale [.ref (ρ (0, 0, 0)), .int (iI i), .int (iI j), .int (iI t), .ref oa] H0 (fun z => FC G ρ σ z ∨ z = oa) (ri (fun kk h1 => ∃ (σ' : St) (n1 : Int64) (d1 : UInt64) (s1 : Value), PoC G s0 H0 ρ σ σ' h1 ∧ zAt G oa (zOb 3 [.long n1, .double d1, s1]) h1 ∧ ((kk = 0 ∧ (∃ y, R_scale σ i j t y σ' ∧ n1 = (iI y).toInt64)) ∨ (∃ jx : Nat, kk = ((jx + 1 : Nat) : Int) ∧ σ' = σ ∧ jx < ([IOB, IAE] : List String).length ∧ X_scale σ i j t (([IOB, IAE] : List String).getD jx ""))))) (fun _ _ => False) := by
  refine z_metW hE (by decide +kernel) (Nat.le_of_ble_eq_true rfl) ?_
  intro pp ee ss mm args below meth cd Q ls hC hml hrt hlk hnm hH hQ htb hX hS hl
  have hx := hC.x
  have hb := hC.b
  have hl : lv_has ls 6 [(0, .ref (ρ (0, 0, 0))), (1, .int (iI i)), (2, .int (iI j)), (3, .int (iI t)), (4, .ref oa)] := hl
  have hP : va_P G.1 zCl [] H0 := va_nil
  have hD : va_D (zA (fun z => FC G ρ σ z ∨ z = oa) H0) [] := va_nilD
  have hMo : ∀ z, (fun z => FC G ρ σ z ∨ z = oa) z → s0.heap.size ≤ z := fun z hz => hz.elim (fun w => FC.ge hh.sep w) (fun w => by rw [w]; exact hoa)
  have hol := ho.lt
  obtain ⟨sm, hxx⟩ := id hh.2.2.1.1
  have hncs := hnc.warm hC.w
  refine lv_aload hx hb dX0_scale_0 (lv_at hl 4 rfl) ?_
  refine lv_aload_n hx hb dX0_scale_2 rfl (lv_at hl 0 rfl) ?_
  refine lv_iload_n hx hb dX0_scale_3 rfl (lv_at hl 1 rfl) ?_
  refine lv_iload_n hx hb dX0_scale_4 rfl (lv_at hl 2 rfl) ?_
  refine lv_iload_n hx hb dX0_scale_5 rfl (lv_at hl 3 rfl) ?_
  refine z_goX 6 43 (z_runVx (As := [.int (iI i), .int (iI j), .int (iI t)]) (rest := [.ref oa]) hC hml hl.1 (m_X1_scale hE H0 (hO.ext (zS_F hS) hMo) ρ σ i j t hh hi) (lw_V q1168 q1169 q1170 q62 q1171) rfl nd_X1_scale rfl (z_rv hC (ci := 0) rfl hxx rfl) rfl (Nat.le_of_ble_eq_true rfl) ⟨Nat.le_of_ble_eq_true rfl, Nat.le_of_ble_eq_true rfl⟩ ⟨zfit (k := 6) (z := 6) rfl rfl (by omega), zfit (k := 43) (z := 43) rfl rfl (by omega)⟩ dX0_scale_6) ⟨zad (k := 6) rfl (by omega), zad (k := 43) rfl (by omega)⟩ hS (fun _ z => Or.inl (Or.inl z)) (fun E ce q9 Hx1 locs hp hF hS1 hce hcv hcl => ?_) (fun r H2 locs hp hF hS1 => ?_)
  · have hXE : X_scale σ i j t E := hp.1
    have hHx : HC G s0 ρ σ Hx1 := hp.2
    have hox : zAt G oa (zOb 3 [(.long n9), (.double d9), s9]) Hx1 := ho.ext hF hof
    have hS := hS1
    rcases Xi_scale hXE with rfl | rfl
    · refine vx_catch hC.o [] ⟨0, 13, 16, 30⟩ [⟨0, 13, 20, 19⟩] (by rw [htb]; rfl) (fun z hz => nomatch hz) (by decide) (by decide) (hC.t _ q1033) (z_cst hC q1065) hce hcv hcl ?_
      refine lv_astore (lv' := [(5, .ref q9), (0, .ref (ρ (0, 0, 0))), (1, .int (iI i)), (2, .int (iI j)), (3, .int (iI t)), (4, .ref oa)]) hx hb dX0_scale_16 hl (by decide) rfl (fun ls hl => ?_)
      refine lv_iconst (v := iI 1) hx hb dX0_scale_18 rfl ?_
      exact z_iret hC hrt hlk hQ hS ⟨zle (z := 6) rfl (by omega), zle (z := 43) rfl (by omega)⟩ ⟨_, rfl, σ, n9, d9, s9, PoC.same hHx, hox, Or.inr ⟨0, rfl, rfl, by decide, hXE⟩⟩ dX0_scale_19
    · refine vx_catch hC.o [⟨0, 13, 16, 30⟩] ⟨0, 13, 20, 19⟩ [] (by rw [htb]; rfl) (fun z hz => by
        simp only [List.mem_cons, List.not_mem_nil, or_false] at hz
        subst hz
        exact Or.inr ⟨by decide, _, hC.t _ q1033, hncs.1⟩) (by decide) (by decide) (hC.t _ q899) (z_cst hC q747) hce hcv hcl ?_
      refine lv_astore (lv' := [(5, .ref q9), (0, .ref (ρ (0, 0, 0))), (1, .int (iI i)), (2, .int (iI j)), (3, .int (iI t)), (4, .ref oa)]) hx hb dX0_scale_20 hl (by decide) rfl (fun ls hl => ?_)
      refine lv_iconst (v := iI 2) hx hb dX0_scale_22 rfl ?_
      exact z_iret hC hrt hlk hQ hS ⟨zle (z := 6) rfl (by omega), zle (z := 43) rfl (by omega)⟩ ⟨_, rfl, σ, n9, d9, s9, PoC.same hHx, hox, Or.inr ⟨1, rfl, rfl, by decide, hXE⟩⟩ dX0_scale_23
  obtain ⟨y, rfl, σ1, hR, hpo⟩ := hp
  have hP : va_P G.1 zCl [(oa, zOb 3 [(.long n9), (.double d9), s9])] H2 := zP1 (ho.ext hF hof)
  have hD : va_D (zA (fun z => FC G ρ σ z ∨ z = oa) H0) [(oa, zOb 3 [(.long n9), (.double d9), s9])] := zD1 (Or.inl (Or.inr rfl))
  have hP : va_P G.1 zCl ([(oa, zOb 3 [(.long n9), (.double d9), s9])]) H2 := hP
  have hD : va_D (zA (fun z => FC G ρ σ z ∨ z = oa) H0) ([(oa, zOb 3 [(.long n9), (.double d9), s9])]) := hD
  have hS := hS1
  refine lv_i2l hx hb dX0_scale_9 rfl ?_
  refine z_putnO hC hP hD hS 0 (k := 0) rfl rfl in_X4 tyX4_ok nmX4 (by decide) q886 (fun _ h => h) rfl rfl rfl rfl (Nat.le_of_ble_eq_true rfl) (ws' := [(oa, zOb 3 [(.long (iI y).toInt64), (.double d9), s9])]) rfl dX0_scale_10 (fun H3 locs hP hD hS hF => ?_)
  have hpo := hpo.out hE hol hof hF
  refine lv_goto (tgt := 24) hx hb dX0_scale_13 (by decide) ?_
  refine lv_iconst (v := iI 0) hx hb dX0_scale_24 rfl ?_
  exact z_iret hC hrt hlk hQ hS ⟨zle (z := 6) rfl (by omega), zle (z := 43) rfl (by omega)⟩ ⟨_, rfl, σ1, _, _, _, hpo, hP 0 _ rfl, Or.inl ⟨rfl, ⟨y, hR, rfl⟩⟩⟩ dX0_scale_25

abbrev rm_m_X0_conjugate : Room := { frames := 9, cells := 5, slots := 37, locals := 156 }
set_option maxHeartbeats 4000000 in
theorem m_X0_conjugate {l : Launch} {s0 : State} {G : zG} (hE : zE l s0 G) (H0 : Heap) (hO : zO s0 H0) (ρ : Ro → Nat) (σ : St) (i : Int) (j : Int) (oa : Nat) (n9 : Int64) (d9 : UInt64) (s9 : Value) (hh : HC G s0 ρ σ H0) (hdm : zMn (ρ (5, 0, 0)) {} H0) (ho : zAt G oa (zOb 3 [(.long n9), (.double d9), s9]) H0) (hoa : s0.heap.size ≤ oa) (hof : ¬ FC G ρ σ oa) (hnc : zNc s0) (hi : zi i ∧ zi j) : zMW l s0 yX0_conjugate cX0_conjugate 5 (some FieldType.int) [((0 : Nat), (11 : Nat), (14 : Nat), (30 : Nat)), ((0 : Nat), (11 : Nat), (18 : Nat), (19 : Nat))] rm_m_X0_conjugate [.ref (ρ (0, 0, 0)), .int (iI i), .int (iI j), .ref oa] H0 (fun z => FC G ρ σ z ∨ z = oa) (ri (fun kk h1 => ∃ (σ' : St) (n1 : Int64) (d1 : UInt64) (s1 : Value), PoC G s0 H0 ρ σ σ' h1 ∧ zAt G oa (zOb 3 [.long n1, .double d1, s1]) h1 ∧ ((kk = 0 ∧ (∃ y, R_conjugate σ i j y σ' ∧ n1 = (iI y).toInt64)) ∨ (∃ jx : Nat, kk = ((jx + 1 : Nat) : Int) ∧ σ' = σ ∧ jx < ([IOB, IAE] : List String).length ∧ X_conjugate σ i j (([IOB, IAE] : List String).getD jx ""))))) (fun _ _ => False) := by
  refine z_metW hE (by decide +kernel) (Nat.le_of_ble_eq_true rfl) ?_
  intro pp ee ss mm args below meth cd Q ls hC hml hrt hlk hnm hH hQ htb hX hS hl
  have hx := hC.x
  have hb := hC.b
  have hl : lv_has ls 5 [(0, .ref (ρ (0, 0, 0))), (1, .int (iI i)), (2, .int (iI j)), (3, .ref oa)] := hl
  have hP : va_P G.1 zCl [] H0 := va_nil
  have hD : va_D (zA (fun z => FC G ρ σ z ∨ z = oa) H0) [] := va_nilD
  have hMo : ∀ z, (fun z => FC G ρ σ z ∨ z = oa) z → s0.heap.size ≤ z := fun z hz => hz.elim (fun w => FC.ge hh.sep w) (fun w => by rw [w]; exact hoa)
  have hol := ho.lt
  obtain ⟨sm, hxx⟩ := id hh.2.2.1.1
  have hncs := hnc.warm hC.w
  refine lv_aload_n hx hb dX0_conjugate_0 rfl (lv_at hl 3 rfl) ?_
  refine lv_aload_n hx hb dX0_conjugate_1 rfl (lv_at hl 0 rfl) ?_
  refine lv_iload_n hx hb dX0_conjugate_2 rfl (lv_at hl 1 rfl) ?_
  refine lv_iload_n hx hb dX0_conjugate_3 rfl (lv_at hl 2 rfl) ?_
  refine z_goX 5 37 (z_runVx (As := [.int (iI i), .int (iI j)]) (rest := [.ref oa]) hC hml hl.1 (m_X1_conjugate hE H0 (hO.ext (zS_F hS) hMo) ρ σ i j hh hi) (lw_V q1179 q1180 q1181 q62 q1182) rfl nd_X1_conjugate rfl (z_rv hC (ci := 0) rfl hxx rfl) rfl (Nat.le_of_ble_eq_true rfl) ⟨Nat.le_of_ble_eq_true rfl, Nat.le_of_ble_eq_true rfl⟩ ⟨zfit (k := 5) (z := 5) rfl rfl (by omega), zfit (k := 37) (z := 37) rfl rfl (by omega)⟩ dX0_conjugate_4) ⟨zad (k := 5) rfl (by omega), zad (k := 37) rfl (by omega)⟩ hS (fun _ z => Or.inl (Or.inl z)) (fun E ce q9 Hx1 locs hp hF hS1 hce hcv hcl => ?_) (fun r H2 locs hp hF hS1 => ?_)
  · have hXE : X_conjugate σ i j E := hp.1
    have hHx : HC G s0 ρ σ Hx1 := hp.2
    have hox : zAt G oa (zOb 3 [(.long n9), (.double d9), s9]) Hx1 := ho.ext hF hof
    have hS := hS1
    rcases Xi_conjugate hXE with rfl | rfl
    · refine vx_catch hC.o [] ⟨0, 11, 14, 30⟩ [⟨0, 11, 18, 19⟩] (by rw [htb]; rfl) (fun z hz => nomatch hz) (by decide) (by decide) (hC.t _ q1033) (z_cst hC q1065) hce hcv hcl ?_
      refine lv_astore (lv' := [(4, .ref q9), (0, .ref (ρ (0, 0, 0))), (1, .int (iI i)), (2, .int (iI j)), (3, .ref oa)]) hx hb dX0_conjugate_14 hl (by decide) rfl (fun ls hl => ?_)
      refine lv_iconst (v := iI 1) hx hb dX0_conjugate_16 rfl ?_
      exact z_iret hC hrt hlk hQ hS ⟨zle (z := 5) rfl (by omega), zle (z := 37) rfl (by omega)⟩ ⟨_, rfl, σ, n9, d9, s9, PoC.same hHx, hox, Or.inr ⟨0, rfl, rfl, by decide, hXE⟩⟩ dX0_conjugate_17
    · refine vx_catch hC.o [⟨0, 11, 14, 30⟩] ⟨0, 11, 18, 19⟩ [] (by rw [htb]; rfl) (fun z hz => by
        simp only [List.mem_cons, List.not_mem_nil, or_false] at hz
        subst hz
        exact Or.inr ⟨by decide, _, hC.t _ q1033, hncs.1⟩) (by decide) (by decide) (hC.t _ q899) (z_cst hC q747) hce hcv hcl ?_
      refine lv_astore (lv' := [(4, .ref q9), (0, .ref (ρ (0, 0, 0))), (1, .int (iI i)), (2, .int (iI j)), (3, .ref oa)]) hx hb dX0_conjugate_18 hl (by decide) rfl (fun ls hl => ?_)
      refine lv_iconst (v := iI 2) hx hb dX0_conjugate_20 rfl ?_
      exact z_iret hC hrt hlk hQ hS ⟨zle (z := 5) rfl (by omega), zle (z := 37) rfl (by omega)⟩ ⟨_, rfl, σ, n9, d9, s9, PoC.same hHx, hox, Or.inr ⟨1, rfl, rfl, by decide, hXE⟩⟩ dX0_conjugate_21
  obtain ⟨y, rfl, σ1, hR, hpo⟩ := hp
  have hP : va_P G.1 zCl [(oa, zOb 3 [(.long n9), (.double d9), s9])] H2 := zP1 (ho.ext hF hof)
  have hD : va_D (zA (fun z => FC G ρ σ z ∨ z = oa) H0) [(oa, zOb 3 [(.long n9), (.double d9), s9])] := zD1 (Or.inl (Or.inr rfl))
  have hP : va_P G.1 zCl ([(oa, zOb 3 [(.long n9), (.double d9), s9])]) H2 := hP
  have hD : va_D (zA (fun z => FC G ρ σ z ∨ z = oa) H0) ([(oa, zOb 3 [(.long n9), (.double d9), s9])]) := hD
  have hS := hS1
  refine lv_i2l hx hb dX0_conjugate_7 rfl ?_
  refine z_putnO hC hP hD hS 0 (k := 0) rfl rfl in_X4 tyX4_ok nmX4 (by decide) q886 (fun _ h => h) rfl rfl rfl rfl (Nat.le_of_ble_eq_true rfl) (ws' := [(oa, zOb 3 [(.long (iI y).toInt64), (.double d9), s9])]) rfl dX0_conjugate_8 (fun H3 locs hP hD hS hF => ?_)
  have hpo := hpo.out hE hol hof hF
  refine lv_goto (tgt := 22) hx hb dX0_conjugate_11 (by decide) ?_
  refine lv_iconst (v := iI 0) hx hb dX0_conjugate_22 rfl ?_
  exact z_iret hC hrt hlk hQ hS ⟨zle (z := 5) rfl (by omega), zle (z := 37) rfl (by omega)⟩ ⟨_, rfl, σ1, _, _, _, hpo, hP 0 _ rfl, Or.inl ⟨rfl, ⟨y, hR, rfl⟩⟩⟩ dX0_conjugate_23

abbrev rm_m_X0_power : Room := { frames := 9, cells := 126, slots := 1224, locals := 157 }
set_option maxHeartbeats 4000000 in
theorem m_X0_power {l : Launch} {s0 : State} {G : zG} (hE : zE l s0 G) (H0 : Heap) (hO : zO s0 H0) (ρ : Ro → Nat) (σ : St) (i : Int) (j : Int) (t : Int) (oa : Nat) (n9 : Int64) (d9 : UInt64) (s9 : Value) (hh : HC G s0 ρ σ H0) (hdm : zMn (ρ (5, 0, 0)) {} H0) (ho : zAt G oa (zOb 3 [(.long n9), (.double d9), s9]) H0) (hoa : s0.heap.size ≤ oa) (hof : ¬ FC G ρ σ oa) (hnc : zNc s0) (hi : zi i ∧ zi j ∧ zi t) : zMW l s0 yX0_power cX0_power 6 (some FieldType.int) [((0 : Nat), (13 : Nat), (16 : Nat), (30 : Nat)), ((0 : Nat), (13 : Nat), (20 : Nat), (19 : Nat))] rm_m_X0_power [.ref (ρ (0, 0, 0)), .int (iI i), .int (iI j), .int (iI t), .ref oa] H0 (fun z => FC G ρ σ z ∨ z = oa) (ri (fun kk h1 => ∃ (σ' : St) (n1 : Int64) (d1 : UInt64) (s1 : Value), PoC G s0 H0 ρ σ σ' h1 ∧ zAt G oa (zOb 3 [.long n1, .double d1, s1]) h1 ∧ ((kk = 0 ∧ (∃ y, R_power σ i j t y σ' ∧ n1 = (iI y).toInt64)) ∨ (∃ jx : Nat, kk = ((jx + 1 : Nat) : Int) ∧ σ' = σ ∧ jx < ([IOB, IAE] : List String).length ∧ X_power σ i j t (([IOB, IAE] : List String).getD jx ""))))) (fun _ _ => False) := by
  refine z_metW hE (by decide +kernel) (Nat.le_of_ble_eq_true rfl) ?_
  intro pp ee ss mm args below meth cd Q ls hC hml hrt hlk hnm hH hQ htb hX hS hl
  have hx := hC.x
  have hb := hC.b
  have hl : lv_has ls 6 [(0, .ref (ρ (0, 0, 0))), (1, .int (iI i)), (2, .int (iI j)), (3, .int (iI t)), (4, .ref oa)] := hl
  have hP : va_P G.1 zCl [] H0 := va_nil
  have hD : va_D (zA (fun z => FC G ρ σ z ∨ z = oa) H0) [] := va_nilD
  have hMo : ∀ z, (fun z => FC G ρ σ z ∨ z = oa) z → s0.heap.size ≤ z := fun z hz => hz.elim (fun w => FC.ge hh.sep w) (fun w => by rw [w]; exact hoa)
  have hol := ho.lt
  obtain ⟨sm, hxx⟩ := id hh.2.2.1.1
  have hncs := hnc.warm hC.w
  refine lv_aload hx hb dX0_power_0 (lv_at hl 4 rfl) ?_
  refine lv_aload_n hx hb dX0_power_2 rfl (lv_at hl 0 rfl) ?_
  refine lv_iload_n hx hb dX0_power_3 rfl (lv_at hl 1 rfl) ?_
  refine lv_iload_n hx hb dX0_power_4 rfl (lv_at hl 2 rfl) ?_
  refine lv_iload_n hx hb dX0_power_5 rfl (lv_at hl 3 rfl) ?_
  refine z_goX 126 1224 (z_runVx (As := [.int (iI i), .int (iI j), .int (iI t)]) (rest := [.ref oa]) hC hml hl.1 (m_X1_power hE H0 (hO.ext (zS_F hS) hMo) ρ σ i j t hh hi) (lw_V q1187 q1188 q1189 q62 q1190) rfl nd_X1_power rfl (z_rv hC (ci := 0) rfl hxx rfl) rfl (Nat.le_of_ble_eq_true rfl) ⟨Nat.le_of_ble_eq_true rfl, Nat.le_of_ble_eq_true rfl⟩ ⟨zfit (k := 126) (z := 126) rfl rfl (by omega), zfit (k := 1224) (z := 1224) rfl rfl (by omega)⟩ dX0_power_6) ⟨zad (k := 126) rfl (by omega), zad (k := 1224) rfl (by omega)⟩ hS (fun _ z => Or.inl (Or.inl z)) (fun E ce q9 Hx1 locs hp hF hS1 hce hcv hcl => ?_) (fun r H2 locs hp hF hS1 => ?_)
  · have hXE : X_power σ i j t E := hp.1
    have hHx : HC G s0 ρ σ Hx1 := hp.2
    have hox : zAt G oa (zOb 3 [(.long n9), (.double d9), s9]) Hx1 := ho.ext hF hof
    have hS := hS1
    rcases Xi_power hXE with rfl | rfl
    · refine vx_catch hC.o [] ⟨0, 13, 16, 30⟩ [⟨0, 13, 20, 19⟩] (by rw [htb]; rfl) (fun z hz => nomatch hz) (by decide) (by decide) (hC.t _ q1033) (z_cst hC q1065) hce hcv hcl ?_
      refine lv_astore (lv' := [(5, .ref q9), (0, .ref (ρ (0, 0, 0))), (1, .int (iI i)), (2, .int (iI j)), (3, .int (iI t)), (4, .ref oa)]) hx hb dX0_power_16 hl (by decide) rfl (fun ls hl => ?_)
      refine lv_iconst (v := iI 1) hx hb dX0_power_18 rfl ?_
      exact z_iret hC hrt hlk hQ hS ⟨zle (z := 126) rfl (by omega), zle (z := 1224) rfl (by omega)⟩ ⟨_, rfl, σ, n9, d9, s9, PoC.same hHx, hox, Or.inr ⟨0, rfl, rfl, by decide, hXE⟩⟩ dX0_power_19
    · refine vx_catch hC.o [⟨0, 13, 16, 30⟩] ⟨0, 13, 20, 19⟩ [] (by rw [htb]; rfl) (fun z hz => by
        simp only [List.mem_cons, List.not_mem_nil, or_false] at hz
        subst hz
        exact Or.inr ⟨by decide, _, hC.t _ q1033, hncs.1⟩) (by decide) (by decide) (hC.t _ q899) (z_cst hC q747) hce hcv hcl ?_
      refine lv_astore (lv' := [(5, .ref q9), (0, .ref (ρ (0, 0, 0))), (1, .int (iI i)), (2, .int (iI j)), (3, .int (iI t)), (4, .ref oa)]) hx hb dX0_power_20 hl (by decide) rfl (fun ls hl => ?_)
      refine lv_iconst (v := iI 2) hx hb dX0_power_22 rfl ?_
      exact z_iret hC hrt hlk hQ hS ⟨zle (z := 126) rfl (by omega), zle (z := 1224) rfl (by omega)⟩ ⟨_, rfl, σ, n9, d9, s9, PoC.same hHx, hox, Or.inr ⟨1, rfl, rfl, by decide, hXE⟩⟩ dX0_power_23
  obtain ⟨y, rfl, σ1, hR, hpo⟩ := hp
  have hP : va_P G.1 zCl [(oa, zOb 3 [(.long n9), (.double d9), s9])] H2 := zP1 (ho.ext hF hof)
  have hD : va_D (zA (fun z => FC G ρ σ z ∨ z = oa) H0) [(oa, zOb 3 [(.long n9), (.double d9), s9])] := zD1 (Or.inl (Or.inr rfl))
  have hP : va_P G.1 zCl ([(oa, zOb 3 [(.long n9), (.double d9), s9])]) H2 := hP
  have hD : va_D (zA (fun z => FC G ρ σ z ∨ z = oa) H0) ([(oa, zOb 3 [(.long n9), (.double d9), s9])]) := hD
  have hS := hS1
  refine lv_i2l hx hb dX0_power_9 rfl ?_
  refine z_putnO hC hP hD hS 0 (k := 0) rfl rfl in_X4 tyX4_ok nmX4 (by decide) q886 (fun _ h => h) rfl rfl rfl rfl (Nat.le_of_ble_eq_true rfl) (ws' := [(oa, zOb 3 [(.long (iI y).toInt64), (.double d9), s9])]) rfl dX0_power_10 (fun H3 locs hP hD hS hF => ?_)
  have hpo := hpo.out hE hol hof hF
  refine lv_goto (tgt := 24) hx hb dX0_power_13 (by decide) ?_
  refine lv_iconst (v := iI 0) hx hb dX0_power_24 rfl ?_
  exact z_iret hC hrt hlk hQ hS ⟨zle (z := 126) rfl (by omega), zle (z := 1224) rfl (by omega)⟩ ⟨_, rfl, σ1, _, _, _, hpo, hP 0 _ rfl, Or.inl ⟨rfl, ⟨y, hR, rfl⟩⟩⟩ dX0_power_25

abbrev rm_m_X0_invert : Room := { frames := 9, cells := 13, slots := 101, locals := 156 }
set_option maxHeartbeats 4000000 in
theorem m_X0_invert {l : Launch} {s0 : State} {G : zG} (hE : zE l s0 G) (H0 : Heap) (hO : zO s0 H0) (ρ : Ro → Nat) (σ : St) (i : Int) (j : Int) (oa : Nat) (n9 : Int64) (d9 : UInt64) (s9 : Value) (hh : HC G s0 ρ σ H0) (hdm : zMn (ρ (5, 0, 0)) {} H0) (ho : zAt G oa (zOb 3 [(.long n9), (.double d9), s9]) H0) (hoa : s0.heap.size ≤ oa) (hof : ¬ FC G ρ σ oa) (hnc : zNc s0) (hi : zi i ∧ zi j) : zMW l s0 yX0_invert cX0_invert 5 (some FieldType.int) [((0 : Nat), (11 : Nat), (14 : Nat), (30 : Nat)), ((0 : Nat), (11 : Nat), (18 : Nat), (19 : Nat)), ((0 : Nat), (11 : Nat), (22 : Nat), (21 : Nat))] rm_m_X0_invert [.ref (ρ (0, 0, 0)), .int (iI i), .int (iI j), .ref oa] H0 (fun z => FC G ρ σ z ∨ z = oa) (ri (fun kk h1 => ∃ (σ' : St) (n1 : Int64) (d1 : UInt64) (s1 : Value), PoC G s0 H0 ρ σ σ' h1 ∧ zAt G oa (zOb 3 [.long n1, .double d1, s1]) h1 ∧ ((kk = 0 ∧ (∃ y, R_invert σ i j y σ' ∧ n1 = (iI y).toInt64)) ∨ (∃ jx : Nat, kk = ((jx + 1 : Nat) : Int) ∧ σ' = σ ∧ jx < ([IOB, IAE, ISE] : List String).length ∧ X_invert σ i j (([IOB, IAE, ISE] : List String).getD jx ""))))) (fun _ _ => False) := by
  refine z_metW hE (by decide +kernel) (Nat.le_of_ble_eq_true rfl) ?_
  intro pp ee ss mm args below meth cd Q ls hC hml hrt hlk hnm hH hQ htb hX hS hl
  have hx := hC.x
  have hb := hC.b
  have hl : lv_has ls 5 [(0, .ref (ρ (0, 0, 0))), (1, .int (iI i)), (2, .int (iI j)), (3, .ref oa)] := hl
  have hP : va_P G.1 zCl [] H0 := va_nil
  have hD : va_D (zA (fun z => FC G ρ σ z ∨ z = oa) H0) [] := va_nilD
  have hMo : ∀ z, (fun z => FC G ρ σ z ∨ z = oa) z → s0.heap.size ≤ z := fun z hz => hz.elim (fun w => FC.ge hh.sep w) (fun w => by rw [w]; exact hoa)
  have hol := ho.lt
  obtain ⟨sm, hxx⟩ := id hh.2.2.1.1
  have hncs := hnc.warm hC.w
  refine lv_aload_n hx hb dX0_invert_0 rfl (lv_at hl 3 rfl) ?_
  refine lv_aload_n hx hb dX0_invert_1 rfl (lv_at hl 0 rfl) ?_
  refine lv_iload_n hx hb dX0_invert_2 rfl (lv_at hl 1 rfl) ?_
  refine lv_iload_n hx hb dX0_invert_3 rfl (lv_at hl 2 rfl) ?_
  refine z_goX 13 101 (z_runVx (As := [.int (iI i), .int (iI j)]) (rest := [.ref oa]) hC hml hl.1 (m_X1_invert hE H0 (hO.ext (zS_F hS) hMo) ρ σ i j hh hi) (lw_V q1198 q1199 q1200 q62 q1201) rfl nd_X1_invert rfl (z_rv hC (ci := 0) rfl hxx rfl) rfl (Nat.le_of_ble_eq_true rfl) ⟨Nat.le_of_ble_eq_true rfl, Nat.le_of_ble_eq_true rfl⟩ ⟨zfit (k := 13) (z := 13) rfl rfl (by omega), zfit (k := 101) (z := 101) rfl rfl (by omega)⟩ dX0_invert_4) ⟨zad (k := 13) rfl (by omega), zad (k := 101) rfl (by omega)⟩ hS (fun _ z => Or.inl (Or.inl z)) (fun E ce q9 Hx1 locs hp hF hS1 hce hcv hcl => ?_) (fun r H2 locs hp hF hS1 => ?_)
  · have hXE : X_invert σ i j E := hp.1
    have hHx : HC G s0 ρ σ Hx1 := hp.2
    have hox : zAt G oa (zOb 3 [(.long n9), (.double d9), s9]) Hx1 := ho.ext hF hof
    have hS := hS1
    rcases Xi_invert hXE with rfl | rfl | rfl
    · refine vx_catch hC.o [] ⟨0, 11, 14, 30⟩ [⟨0, 11, 18, 19⟩, ⟨0, 11, 22, 21⟩] (by rw [htb]; rfl) (fun z hz => nomatch hz) (by decide) (by decide) (hC.t _ q1033) (z_cst hC q1065) hce hcv hcl ?_
      refine lv_astore (lv' := [(4, .ref q9), (0, .ref (ρ (0, 0, 0))), (1, .int (iI i)), (2, .int (iI j)), (3, .ref oa)]) hx hb dX0_invert_14 hl (by decide) rfl (fun ls hl => ?_)
      refine lv_iconst (v := iI 1) hx hb dX0_invert_16 rfl ?_
      exact z_iret hC hrt hlk hQ hS ⟨zle (z := 13) rfl (by omega), zle (z := 101) rfl (by omega)⟩ ⟨_, rfl, σ, n9, d9, s9, PoC.same hHx, hox, Or.inr ⟨0, rfl, rfl, by decide, hXE⟩⟩ dX0_invert_17
    · refine vx_catch hC.o [⟨0, 11, 14, 30⟩] ⟨0, 11, 18, 19⟩ [⟨0, 11, 22, 21⟩] (by rw [htb]; rfl) (fun z hz => by
        simp only [List.mem_cons, List.not_mem_nil, or_false] at hz
        subst hz
        exact Or.inr ⟨by decide, _, hC.t _ q1033, hncs.1⟩) (by decide) (by decide) (hC.t _ q899) (z_cst hC q747) hce hcv hcl ?_
      refine lv_astore (lv' := [(4, .ref q9), (0, .ref (ρ (0, 0, 0))), (1, .int (iI i)), (2, .int (iI j)), (3, .ref oa)]) hx hb dX0_invert_18 hl (by decide) rfl (fun ls hl => ?_)
      refine lv_iconst (v := iI 2) hx hb dX0_invert_20 rfl ?_
      exact z_iret hC hrt hlk hQ hS ⟨zle (z := 13) rfl (by omega), zle (z := 101) rfl (by omega)⟩ ⟨_, rfl, σ, n9, d9, s9, PoC.same hHx, hox, Or.inr ⟨1, rfl, rfl, by decide, hXE⟩⟩ dX0_invert_21
    · refine vx_catch hC.o [⟨0, 11, 14, 30⟩, ⟨0, 11, 18, 19⟩] ⟨0, 11, 22, 21⟩ [] (by rw [htb]; rfl) (fun z hz => by
        simp only [List.mem_cons, List.not_mem_nil, or_false] at hz
        rcases hz with rfl | rfl
        · exact Or.inr ⟨by decide, _, hC.t _ q1033, hncs.2.1⟩
        · exact Or.inr ⟨by decide, _, hC.t _ q899, hncs.2.2⟩) (by decide) (by decide) (hC.t _ q900) (z_cst hC q924) hce hcv hcl ?_
      refine lv_astore (lv' := [(4, .ref q9), (0, .ref (ρ (0, 0, 0))), (1, .int (iI i)), (2, .int (iI j)), (3, .ref oa)]) hx hb dX0_invert_22 hl (by decide) rfl (fun ls hl => ?_)
      refine lv_iconst (v := iI 3) hx hb dX0_invert_24 rfl ?_
      exact z_iret hC hrt hlk hQ hS ⟨zle (z := 13) rfl (by omega), zle (z := 101) rfl (by omega)⟩ ⟨_, rfl, σ, n9, d9, s9, PoC.same hHx, hox, Or.inr ⟨2, rfl, rfl, by decide, hXE⟩⟩ dX0_invert_25
  obtain ⟨y, rfl, σ1, hR, hpo⟩ := hp
  have hP : va_P G.1 zCl [(oa, zOb 3 [(.long n9), (.double d9), s9])] H2 := zP1 (ho.ext hF hof)
  have hD : va_D (zA (fun z => FC G ρ σ z ∨ z = oa) H0) [(oa, zOb 3 [(.long n9), (.double d9), s9])] := zD1 (Or.inl (Or.inr rfl))
  have hP : va_P G.1 zCl ([(oa, zOb 3 [(.long n9), (.double d9), s9])]) H2 := hP
  have hD : va_D (zA (fun z => FC G ρ σ z ∨ z = oa) H0) ([(oa, zOb 3 [(.long n9), (.double d9), s9])]) := hD
  have hS := hS1
  refine lv_i2l hx hb dX0_invert_7 rfl ?_
  refine z_putnO hC hP hD hS 0 (k := 0) rfl rfl in_X4 tyX4_ok nmX4 (by decide) q886 (fun _ h => h) rfl rfl rfl rfl (Nat.le_of_ble_eq_true rfl) (ws' := [(oa, zOb 3 [(.long (iI y).toInt64), (.double d9), s9])]) rfl dX0_invert_8 (fun H3 locs hP hD hS hF => ?_)
  have hpo := hpo.out hE hol hof hF
  refine lv_goto (tgt := 26) hx hb dX0_invert_11 (by decide) ?_
  refine lv_iconst (v := iI 0) hx hb dX0_invert_26 rfl ?_
  exact z_iret hC hrt hlk hQ hS ⟨zle (z := 13) rfl (by omega), zle (z := 101) rfl (by omega)⟩ ⟨_, rfl, σ1, _, _, _, hpo, hP 0 _ rfl, Or.inl ⟨rfl, ⟨y, hR, rfl⟩⟩⟩ dX0_invert_27

abbrev rm_m_X0_series : Room := { frames := 9, cells := 224, slots := 2224, locals := 158 }
set_option maxHeartbeats 4000000 in
theorem m_X0_series {l : Launch} {s0 : State} {G : zG} (hE : zE l s0 G) (H0 : Heap) (hO : zO s0 H0) (ρ : Ro → Nat) (σ : St) (i : Int) (j : Int) (oa : Nat) (n9 : Int64) (d9 : UInt64) (s9 : Value) (hh : HC G s0 ρ σ H0) (hdm : zMn (ρ (5, 0, 0)) {} H0) (ho : zAt G oa (zOb 3 [(.long n9), (.double d9), s9]) H0) (hoa : s0.heap.size ≤ oa) (hof : ¬ FC G ρ σ oa) (hnc : zNc s0) (hi : zi i ∧ zi j) : zMW l s0 yX0_series cX0_series 5 (some FieldType.int) [((0 : Nat), (11 : Nat), (14 : Nat), (30 : Nat)), ((0 : Nat), (11 : Nat), (18 : Nat), (19 : Nat)), ((0 : Nat), (11 : Nat), (22 : Nat), (21 : Nat))] rm_m_X0_series [.ref (ρ (0, 0, 0)), .int (iI i), .int (iI j), .ref oa] H0 (fun z => FC G ρ σ z ∨ z = oa) (ri (fun kk h1 => ∃ (σ' : St) (n1 : Int64) (d1 : UInt64) (s1 : Value), PoC G s0 H0 ρ σ σ' h1 ∧ zAt G oa (zOb 3 [.long n1, .double d1, s1]) h1 ∧ ((kk = 0 ∧ (∃ y, R_series σ i j y σ' ∧ n1 = (iI y).toInt64)) ∨ (∃ jx : Nat, kk = ((jx + 1 : Nat) : Int) ∧ σ' = σ ∧ jx < ([IOB, IAE, ISE] : List String).length ∧ X_series σ i j (([IOB, IAE, ISE] : List String).getD jx ""))))) (fun _ _ => False) := by
  refine z_metW hE (by decide +kernel) (Nat.le_of_ble_eq_true rfl) ?_
  intro pp ee ss mm args below meth cd Q ls hC hml hrt hlk hnm hH hQ htb hX hS hl
  have hx := hC.x
  have hb := hC.b
  have hl : lv_has ls 5 [(0, .ref (ρ (0, 0, 0))), (1, .int (iI i)), (2, .int (iI j)), (3, .ref oa)] := hl
  have hP : va_P G.1 zCl [] H0 := va_nil
  have hD : va_D (zA (fun z => FC G ρ σ z ∨ z = oa) H0) [] := va_nilD
  have hMo : ∀ z, (fun z => FC G ρ σ z ∨ z = oa) z → s0.heap.size ≤ z := fun z hz => hz.elim (fun w => FC.ge hh.sep w) (fun w => by rw [w]; exact hoa)
  have hol := ho.lt
  obtain ⟨sm, hxx⟩ := id hh.2.2.1.1
  have hncs := hnc.warm hC.w
  refine lv_aload_n hx hb dX0_series_0 rfl (lv_at hl 3 rfl) ?_
  refine lv_aload_n hx hb dX0_series_1 rfl (lv_at hl 0 rfl) ?_
  refine lv_iload_n hx hb dX0_series_2 rfl (lv_at hl 1 rfl) ?_
  refine lv_iload_n hx hb dX0_series_3 rfl (lv_at hl 2 rfl) ?_
  refine z_goX 224 2224 (z_runVx (As := [.int (iI i), .int (iI j)]) (rest := [.ref oa]) hC hml hl.1 (m_X1_series hE H0 (hO.ext (zS_F hS) hMo) ρ σ i j hh hi) (lw_V q1242 q1243 q1244 q62 q1245) rfl nd_X1_series rfl (z_rv hC (ci := 0) rfl hxx rfl) rfl (Nat.le_of_ble_eq_true rfl) ⟨Nat.le_of_ble_eq_true rfl, Nat.le_of_ble_eq_true rfl⟩ ⟨zfit (k := 224) (z := 224) rfl rfl (by omega), zfit (k := 2224) (z := 2224) rfl rfl (by omega)⟩ dX0_series_4) ⟨zad (k := 224) rfl (by omega), zad (k := 2224) rfl (by omega)⟩ hS (fun _ z => Or.inl (Or.inl z)) (fun E ce q9 Hx1 locs hp hF hS1 hce hcv hcl => ?_) (fun r H2 locs hp hF hS1 => ?_)
  · have hXE : X_series σ i j E := hp.1
    have hHx : HC G s0 ρ σ Hx1 := hp.2
    have hox : zAt G oa (zOb 3 [(.long n9), (.double d9), s9]) Hx1 := ho.ext hF hof
    have hS := hS1
    rcases Xi_series hXE with rfl | rfl | rfl
    · refine vx_catch hC.o [] ⟨0, 11, 14, 30⟩ [⟨0, 11, 18, 19⟩, ⟨0, 11, 22, 21⟩] (by rw [htb]; rfl) (fun z hz => nomatch hz) (by decide) (by decide) (hC.t _ q1033) (z_cst hC q1065) hce hcv hcl ?_
      refine lv_astore (lv' := [(4, .ref q9), (0, .ref (ρ (0, 0, 0))), (1, .int (iI i)), (2, .int (iI j)), (3, .ref oa)]) hx hb dX0_series_14 hl (by decide) rfl (fun ls hl => ?_)
      refine lv_iconst (v := iI 1) hx hb dX0_series_16 rfl ?_
      exact z_iret hC hrt hlk hQ hS ⟨zle (z := 224) rfl (by omega), zle (z := 2224) rfl (by omega)⟩ ⟨_, rfl, σ, n9, d9, s9, PoC.same hHx, hox, Or.inr ⟨0, rfl, rfl, by decide, hXE⟩⟩ dX0_series_17
    · refine vx_catch hC.o [⟨0, 11, 14, 30⟩] ⟨0, 11, 18, 19⟩ [⟨0, 11, 22, 21⟩] (by rw [htb]; rfl) (fun z hz => by
        simp only [List.mem_cons, List.not_mem_nil, or_false] at hz
        subst hz
        exact Or.inr ⟨by decide, _, hC.t _ q1033, hncs.1⟩) (by decide) (by decide) (hC.t _ q899) (z_cst hC q747) hce hcv hcl ?_
      refine lv_astore (lv' := [(4, .ref q9), (0, .ref (ρ (0, 0, 0))), (1, .int (iI i)), (2, .int (iI j)), (3, .ref oa)]) hx hb dX0_series_18 hl (by decide) rfl (fun ls hl => ?_)
      refine lv_iconst (v := iI 2) hx hb dX0_series_20 rfl ?_
      exact z_iret hC hrt hlk hQ hS ⟨zle (z := 224) rfl (by omega), zle (z := 2224) rfl (by omega)⟩ ⟨_, rfl, σ, n9, d9, s9, PoC.same hHx, hox, Or.inr ⟨1, rfl, rfl, by decide, hXE⟩⟩ dX0_series_21
    · refine vx_catch hC.o [⟨0, 11, 14, 30⟩, ⟨0, 11, 18, 19⟩] ⟨0, 11, 22, 21⟩ [] (by rw [htb]; rfl) (fun z hz => by
        simp only [List.mem_cons, List.not_mem_nil, or_false] at hz
        rcases hz with rfl | rfl
        · exact Or.inr ⟨by decide, _, hC.t _ q1033, hncs.2.1⟩
        · exact Or.inr ⟨by decide, _, hC.t _ q899, hncs.2.2⟩) (by decide) (by decide) (hC.t _ q900) (z_cst hC q924) hce hcv hcl ?_
      refine lv_astore (lv' := [(4, .ref q9), (0, .ref (ρ (0, 0, 0))), (1, .int (iI i)), (2, .int (iI j)), (3, .ref oa)]) hx hb dX0_series_22 hl (by decide) rfl (fun ls hl => ?_)
      refine lv_iconst (v := iI 3) hx hb dX0_series_24 rfl ?_
      exact z_iret hC hrt hlk hQ hS ⟨zle (z := 224) rfl (by omega), zle (z := 2224) rfl (by omega)⟩ ⟨_, rfl, σ, n9, d9, s9, PoC.same hHx, hox, Or.inr ⟨2, rfl, rfl, by decide, hXE⟩⟩ dX0_series_25
  obtain ⟨y, rfl, σ1, hR, hpo⟩ := hp
  have hP : va_P G.1 zCl [(oa, zOb 3 [(.long n9), (.double d9), s9])] H2 := zP1 (ho.ext hF hof)
  have hD : va_D (zA (fun z => FC G ρ σ z ∨ z = oa) H0) [(oa, zOb 3 [(.long n9), (.double d9), s9])] := zD1 (Or.inl (Or.inr rfl))
  have hP : va_P G.1 zCl ([(oa, zOb 3 [(.long n9), (.double d9), s9])]) H2 := hP
  have hD : va_D (zA (fun z => FC G ρ σ z ∨ z = oa) H0) ([(oa, zOb 3 [(.long n9), (.double d9), s9])]) := hD
  have hS := hS1
  refine lv_i2l hx hb dX0_series_7 rfl ?_
  refine z_putnO hC hP hD hS 0 (k := 0) rfl rfl in_X4 tyX4_ok nmX4 (by decide) q886 (fun _ h => h) rfl rfl rfl rfl (Nat.le_of_ble_eq_true rfl) (ws' := [(oa, zOb 3 [(.long (iI y).toInt64), (.double d9), s9])]) rfl dX0_series_8 (fun H3 locs hP hD hS hF => ?_)
  have hpo := hpo.out hE hol hof hF
  refine lv_goto (tgt := 26) hx hb dX0_series_11 (by decide) ?_
  refine lv_iconst (v := iI 0) hx hb dX0_series_26 rfl ?_
  exact z_iret hC hrt hlk hQ hS ⟨zle (z := 224) rfl (by omega), zle (z := 2224) rfl (by omega)⟩ ⟨_, rfl, σ1, _, _, _, hpo, hP 0 _ rfl, Or.inl ⟨rfl, ⟨y, hR, rfl⟩⟩⟩ dX0_series_27

abbrev rm_m_X0_killer : Room := { frames := 9, cells := 25, slots := 332, locals := 156 }
set_option maxHeartbeats 4000000 in
theorem m_X0_killer {l : Launch} {s0 : State} {G : zG} (hE : zE l s0 G) (H0 : Heap) (hO : zO s0 H0) (ρ : Ro → Nat) (σ : St) (i : Int) (j : Int) (oa : Nat) (n9 : Int64) (d9 : UInt64) (s9 : Value) (hh : HC G s0 ρ σ H0) (hdm : zMn (ρ (5, 0, 0)) {} H0) (ho : zAt G oa (zOb 3 [(.long n9), (.double d9), s9]) H0) (hoa : s0.heap.size ≤ oa) (hof : ¬ FC G ρ σ oa) (hnc : zNc s0) (hi : zi i ∧ zi j) : zMW l s0 yX0_killer cX0_killer 5 (some FieldType.int) [((0 : Nat), (11 : Nat), (14 : Nat), (30 : Nat)), ((0 : Nat), (11 : Nat), (18 : Nat), (19 : Nat)), ((0 : Nat), (11 : Nat), (22 : Nat), (21 : Nat))] rm_m_X0_killer [.ref (ρ (0, 0, 0)), .int (iI i), .int (iI j), .ref oa] H0 (fun z => FC G ρ σ z ∨ z = oa) (ri (fun kk h1 => ∃ (σ' : St) (n1 : Int64) (d1 : UInt64) (s1 : Value), PoC G s0 H0 ρ σ σ' h1 ∧ zAt G oa (zOb 3 [.long n1, .double d1, s1]) h1 ∧ ((kk = 0 ∧ (∃ y, R_killer σ i j y σ' ∧ n1 = (iI y).toInt64)) ∨ (∃ jx : Nat, kk = ((jx + 1 : Nat) : Int) ∧ σ' = σ ∧ jx < ([IOB, IAE, ISE] : List String).length ∧ X_killer σ i j (([IOB, IAE, ISE] : List String).getD jx ""))))) (fun _ _ => False) := by
  refine z_metW hE (by decide +kernel) (Nat.le_of_ble_eq_true rfl) ?_
  intro pp ee ss mm args below meth cd Q ls hC hml hrt hlk hnm hH hQ htb hX hS hl
  have hx := hC.x
  have hb := hC.b
  have hl : lv_has ls 5 [(0, .ref (ρ (0, 0, 0))), (1, .int (iI i)), (2, .int (iI j)), (3, .ref oa)] := hl
  have hP : va_P G.1 zCl [] H0 := va_nil
  have hD : va_D (zA (fun z => FC G ρ σ z ∨ z = oa) H0) [] := va_nilD
  have hMo : ∀ z, (fun z => FC G ρ σ z ∨ z = oa) z → s0.heap.size ≤ z := fun z hz => hz.elim (fun w => FC.ge hh.sep w) (fun w => by rw [w]; exact hoa)
  have hol := ho.lt
  obtain ⟨sm, hxx⟩ := id hh.2.2.1.1
  have hncs := hnc.warm hC.w
  refine lv_aload_n hx hb dX0_killer_0 rfl (lv_at hl 3 rfl) ?_
  refine lv_aload_n hx hb dX0_killer_1 rfl (lv_at hl 0 rfl) ?_
  refine lv_iload_n hx hb dX0_killer_2 rfl (lv_at hl 1 rfl) ?_
  refine lv_iload_n hx hb dX0_killer_3 rfl (lv_at hl 2 rfl) ?_
  refine z_goX 25 332 (z_runVx (As := [.int (iI i), .int (iI j)]) (rest := [.ref oa]) hC hml hl.1 (m_X1_killer hE H0 (hO.ext (zS_F hS) hMo) ρ σ i j hh hi) (lw_V q1254 q1255 q1256 q62 q1257) rfl nd_X1_killer rfl (z_rv hC (ci := 0) rfl hxx rfl) rfl (Nat.le_of_ble_eq_true rfl) ⟨Nat.le_of_ble_eq_true rfl, Nat.le_of_ble_eq_true rfl⟩ ⟨zfit (k := 25) (z := 25) rfl rfl (by omega), zfit (k := 332) (z := 332) rfl rfl (by omega)⟩ dX0_killer_4) ⟨zad (k := 25) rfl (by omega), zad (k := 332) rfl (by omega)⟩ hS (fun _ z => Or.inl (Or.inl z)) (fun E ce q9 Hx1 locs hp hF hS1 hce hcv hcl => ?_) (fun r H2 locs hp hF hS1 => ?_)
  · have hXE : X_killer σ i j E := hp.1
    have hHx : HC G s0 ρ σ Hx1 := hp.2
    have hox : zAt G oa (zOb 3 [(.long n9), (.double d9), s9]) Hx1 := ho.ext hF hof
    have hS := hS1
    rcases Xi_killer hXE with rfl | rfl | rfl
    · refine vx_catch hC.o [] ⟨0, 11, 14, 30⟩ [⟨0, 11, 18, 19⟩, ⟨0, 11, 22, 21⟩] (by rw [htb]; rfl) (fun z hz => nomatch hz) (by decide) (by decide) (hC.t _ q1033) (z_cst hC q1065) hce hcv hcl ?_
      refine lv_astore (lv' := [(4, .ref q9), (0, .ref (ρ (0, 0, 0))), (1, .int (iI i)), (2, .int (iI j)), (3, .ref oa)]) hx hb dX0_killer_14 hl (by decide) rfl (fun ls hl => ?_)
      refine lv_iconst (v := iI 1) hx hb dX0_killer_16 rfl ?_
      exact z_iret hC hrt hlk hQ hS ⟨zle (z := 25) rfl (by omega), zle (z := 332) rfl (by omega)⟩ ⟨_, rfl, σ, n9, d9, s9, PoC.same hHx, hox, Or.inr ⟨0, rfl, rfl, by decide, hXE⟩⟩ dX0_killer_17
    · refine vx_catch hC.o [⟨0, 11, 14, 30⟩] ⟨0, 11, 18, 19⟩ [⟨0, 11, 22, 21⟩] (by rw [htb]; rfl) (fun z hz => by
        simp only [List.mem_cons, List.not_mem_nil, or_false] at hz
        subst hz
        exact Or.inr ⟨by decide, _, hC.t _ q1033, hncs.1⟩) (by decide) (by decide) (hC.t _ q899) (z_cst hC q747) hce hcv hcl ?_
      refine lv_astore (lv' := [(4, .ref q9), (0, .ref (ρ (0, 0, 0))), (1, .int (iI i)), (2, .int (iI j)), (3, .ref oa)]) hx hb dX0_killer_18 hl (by decide) rfl (fun ls hl => ?_)
      refine lv_iconst (v := iI 2) hx hb dX0_killer_20 rfl ?_
      exact z_iret hC hrt hlk hQ hS ⟨zle (z := 25) rfl (by omega), zle (z := 332) rfl (by omega)⟩ ⟨_, rfl, σ, n9, d9, s9, PoC.same hHx, hox, Or.inr ⟨1, rfl, rfl, by decide, hXE⟩⟩ dX0_killer_21
    · refine vx_catch hC.o [⟨0, 11, 14, 30⟩, ⟨0, 11, 18, 19⟩] ⟨0, 11, 22, 21⟩ [] (by rw [htb]; rfl) (fun z hz => by
        simp only [List.mem_cons, List.not_mem_nil, or_false] at hz
        rcases hz with rfl | rfl
        · exact Or.inr ⟨by decide, _, hC.t _ q1033, hncs.2.1⟩
        · exact Or.inr ⟨by decide, _, hC.t _ q899, hncs.2.2⟩) (by decide) (by decide) (hC.t _ q900) (z_cst hC q924) hce hcv hcl ?_
      refine lv_astore (lv' := [(4, .ref q9), (0, .ref (ρ (0, 0, 0))), (1, .int (iI i)), (2, .int (iI j)), (3, .ref oa)]) hx hb dX0_killer_22 hl (by decide) rfl (fun ls hl => ?_)
      refine lv_iconst (v := iI 3) hx hb dX0_killer_24 rfl ?_
      exact z_iret hC hrt hlk hQ hS ⟨zle (z := 25) rfl (by omega), zle (z := 332) rfl (by omega)⟩ ⟨_, rfl, σ, n9, d9, s9, PoC.same hHx, hox, Or.inr ⟨2, rfl, rfl, by decide, hXE⟩⟩ dX0_killer_25
  obtain ⟨y, rfl, σ1, hR, hpo⟩ := hp
  have hP : va_P G.1 zCl [(oa, zOb 3 [(.long n9), (.double d9), s9])] H2 := zP1 (ho.ext hF hof)
  have hD : va_D (zA (fun z => FC G ρ σ z ∨ z = oa) H0) [(oa, zOb 3 [(.long n9), (.double d9), s9])] := zD1 (Or.inl (Or.inr rfl))
  have hP : va_P G.1 zCl ([(oa, zOb 3 [(.long n9), (.double d9), s9])]) H2 := hP
  have hD : va_D (zA (fun z => FC G ρ σ z ∨ z = oa) H0) ([(oa, zOb 3 [(.long n9), (.double d9), s9])]) := hD
  have hS := hS1
  refine lv_i2l hx hb dX0_killer_7 rfl ?_
  refine z_putnO hC hP hD hS 0 (k := 0) rfl rfl in_X4 tyX4_ok nmX4 (by decide) q886 (fun _ h => h) rfl rfl rfl rfl (Nat.le_of_ble_eq_true rfl) (ws' := [(oa, zOb 3 [(.long (iI y).toInt64), (.double d9), s9])]) rfl dX0_killer_8 (fun H3 locs hP hD hS hF => ?_)
  have hpo := hpo.out hE hol hof hF
  refine lv_goto (tgt := 26) hx hb dX0_killer_11 (by decide) ?_
  refine lv_iconst (v := iI 0) hx hb dX0_killer_26 rfl ?_
  exact z_iret hC hrt hlk hQ hS ⟨zle (z := 25) rfl (by omega), zle (z := 332) rfl (by omega)⟩ ⟨_, rfl, σ1, _, _, _, hpo, hP 0 _ rfl, Or.inl ⟨rfl, ⟨y, hR, rfl⟩⟩⟩ dX0_killer_27

abbrev rm_m_X0_hang : Room := { frames := 9, cells := 100, slots := 1000, locals := 246 }
set_option maxHeartbeats 4000000 in
theorem m_X0_hang {l : Launch} {s0 : State} {G : zG} (hE : zE l s0 G) (H0 : Heap) (hO : zO s0 H0) (ρ : Ro → Nat) (σ : St) (i : Int) (oa : Nat) (n9 : Int64) (d9 : UInt64) (s9 : Value) (hh : HC G s0 ρ σ H0) (hdm : zMn (ρ (5, 0, 0)) {} H0) (ho : zAt G oa (zOb 3 [(.long n9), (.double d9), s9]) H0) (hoa : s0.heap.size ≤ oa) (hof : ¬ FC G ρ σ oa) (hnc : zNc s0) (hi : zi i) : zMW l s0 yX0_hang cX0_hang 4 (some FieldType.int) [((0 : Nat), (10 : Nat), (13 : Nat), (30 : Nat)), ((0 : Nat), (10 : Nat), (16 : Nat), (21 : Nat))] rm_m_X0_hang [.ref (ρ (0, 0, 0)), .int (iI i), .ref oa] H0 (fun z => FC G ρ σ z ∨ z = oa) (ri (fun kk h1 => ∃ (σ' : St) (n1 : Int64) (d1 : UInt64) (s1 : Value), PoC G s0 H0 ρ σ σ' h1 ∧ zAt G oa (zOb 3 [.long n1, .double d1, s1]) h1 ∧ ((kk = 0 ∧ (∃ y, R_hang σ i y σ' ∧ n1 = (iI y).toInt64)) ∨ (∃ jx : Nat, kk = ((jx + 1 : Nat) : Int) ∧ σ' = σ ∧ jx < ([IOB, ISE] : List String).length ∧ X_hang σ i (([IOB, ISE] : List String).getD jx ""))))) (fun _ _ => False) := by
  refine z_metW hE (by decide +kernel) (Nat.le_of_ble_eq_true rfl) ?_
  intro pp ee ss mm args below meth cd Q ls hC hml hrt hlk hnm hH hQ htb hX hS hl
  have hx := hC.x
  have hb := hC.b
  have hl : lv_has ls 4 [(0, .ref (ρ (0, 0, 0))), (1, .int (iI i)), (2, .ref oa)] := hl
  have hP : va_P G.1 zCl [] H0 := va_nil
  have hD : va_D (zA (fun z => FC G ρ σ z ∨ z = oa) H0) [] := va_nilD
  have hMo : ∀ z, (fun z => FC G ρ σ z ∨ z = oa) z → s0.heap.size ≤ z := fun z hz => hz.elim (fun w => FC.ge hh.sep w) (fun w => by rw [w]; exact hoa)
  have hol := ho.lt
  obtain ⟨sm, hxx⟩ := id hh.2.2.1.1
  have hncs := hnc.warm hC.w
  refine lv_aload_n hx hb dX0_hang_0 rfl (lv_at hl 2 rfl) ?_
  refine lv_aload_n hx hb dX0_hang_1 rfl (lv_at hl 0 rfl) ?_
  refine lv_iload_n hx hb dX0_hang_2 rfl (lv_at hl 1 rfl) ?_
  refine z_goX 100 1000 (z_runVw (As := [.int (iI i)]) (rest := [.ref oa]) hC hml hl.1 (m_X1_hang hE H0 (hO.ext (zS_F hS) hMo) ρ σ i hh hdm hi) (lw_VW q1269 q1270 q1271 q62 q1272) rfl nd_X1_hang rfl (z_rv hC (ci := 0) rfl hxx rfl) rfl (Nat.le_of_ble_eq_true rfl) ⟨Nat.le_of_ble_eq_true rfl, Nat.le_of_ble_eq_true rfl⟩ ⟨zfit (k := 100) (z := 100) rfl rfl (by omega), zfit (k := 1000) (z := 1000) rfl rfl (by omega)⟩ dX0_hang_3) ⟨zad (k := 100) rfl (by omega), zad (k := 1000) rfl (by omega)⟩ hS (fun _ z => Or.inl (Or.inl z)) (fun E ce q9 Hx1 locs hp hF hS1 hce hcv hcl => ?_) (fun r H2 locs hp hF hS1 => ?_)
  · have hXE : X_hang σ i E := hp.1
    have hHx : HC G s0 ρ σ Hx1 := hp.2
    have hox : zAt G oa (zOb 3 [(.long n9), (.double d9), s9]) Hx1 := ho.ext hF hof
    have hS := hS1
    rcases Xi_hang hXE with rfl | rfl
    · refine vx_catch hC.o [] ⟨0, 10, 13, 30⟩ [⟨0, 10, 16, 21⟩] (by rw [htb]; rfl) (fun z hz => nomatch hz) (by decide) (by decide) (hC.t _ q1033) (z_cst hC q1065) hce hcv hcl ?_
      refine lv_astore_n (lv' := [(3, .ref q9), (0, .ref (ρ (0, 0, 0))), (1, .int (iI i)), (2, .ref oa)]) hx hb dX0_hang_13 rfl hl (by decide) rfl (fun ls hl => ?_)
      refine lv_iconst (v := iI 1) hx hb dX0_hang_14 rfl ?_
      exact z_iret hC hrt hlk hQ hS ⟨zle (z := 100) rfl (by omega), zle (z := 1000) rfl (by omega)⟩ ⟨_, rfl, σ, n9, d9, s9, PoC.same hHx, hox, Or.inr ⟨0, rfl, rfl, by decide, hXE⟩⟩ dX0_hang_15
    · refine vx_catch hC.o [⟨0, 10, 13, 30⟩] ⟨0, 10, 16, 21⟩ [] (by rw [htb]; rfl) (fun z hz => by
        simp only [List.mem_cons, List.not_mem_nil, or_false] at hz
        subst hz
        exact Or.inr ⟨by decide, _, hC.t _ q1033, hncs.2.1⟩) (by decide) (by decide) (hC.t _ q900) (z_cst hC q924) hce hcv hcl ?_
      refine lv_astore_n (lv' := [(3, .ref q9), (0, .ref (ρ (0, 0, 0))), (1, .int (iI i)), (2, .ref oa)]) hx hb dX0_hang_16 rfl hl (by decide) rfl (fun ls hl => ?_)
      refine lv_iconst (v := iI 2) hx hb dX0_hang_17 rfl ?_
      exact z_iret hC hrt hlk hQ hS ⟨zle (z := 100) rfl (by omega), zle (z := 1000) rfl (by omega)⟩ ⟨_, rfl, σ, n9, d9, s9, PoC.same hHx, hox, Or.inr ⟨1, rfl, rfl, by decide, hXE⟩⟩ dX0_hang_18
  obtain ⟨y, rfl, σ1, hR, hpo⟩ := hp
  have hP : va_P G.1 zCl [(oa, zOb 3 [(.long n9), (.double d9), s9])] H2 := zP1 (ho.ext hF hof)
  have hD : va_D (zA (fun z => FC G ρ σ z ∨ z = oa) H0) [(oa, zOb 3 [(.long n9), (.double d9), s9])] := zD1 (Or.inl (Or.inr rfl))
  have hP : va_P G.1 zCl ([(oa, zOb 3 [(.long n9), (.double d9), s9])]) H2 := hP
  have hD : va_D (zA (fun z => FC G ρ σ z ∨ z = oa) H0) ([(oa, zOb 3 [(.long n9), (.double d9), s9])]) := hD
  have hS := hS1
  refine lv_i2l hx hb dX0_hang_6 rfl ?_
  refine z_putnO hC hP hD hS 0 (k := 0) rfl rfl in_X4 tyX4_ok nmX4 (by decide) q886 (fun _ h => h) rfl rfl rfl rfl (Nat.le_of_ble_eq_true rfl) (ws' := [(oa, zOb 3 [(.long (iI y).toInt64), (.double d9), s9])]) rfl dX0_hang_7 (fun H3 locs hP hD hS hF => ?_)
  have hpo := hpo.out hE hol hof hF
  refine lv_goto (tgt := 19) hx hb dX0_hang_10 (by decide) ?_
  refine lv_iconst (v := iI 0) hx hb dX0_hang_19 rfl ?_
  exact z_iret hC hrt hlk hQ hS ⟨zle (z := 100) rfl (by omega), zle (z := 1000) rfl (by omega)⟩ ⟨_, rfl, σ1, _, _, _, hpo, hP 0 _ rfl, Or.inl ⟨rfl, ⟨y, hR, rfl⟩⟩⟩ dX0_hang_20

abbrev rm_m_X0_clear : Room := { frames := 9, cells := 100, slots := 1000, locals := 10285 }
set_option maxHeartbeats 4000000 in
theorem m_X0_clear {l : Launch} {s0 : State} {G : zG} (hE : zE l s0 G) (H0 : Heap) (hO : zO s0 H0) (ρ : Ro → Nat) (σ : St) (i : Int) (oa : Nat) (n9 : Int64) (d9 : UInt64) (s9 : Value) (hh : HC G s0 ρ σ H0) (hdm : zMn (ρ (5, 0, 0)) {} H0) (ho : zAt G oa (zOb 3 [(.long n9), (.double d9), s9]) H0) (hoa : s0.heap.size ≤ oa) (hof : ¬ FC G ρ σ oa) (hnc : zNc s0) (hi : zi i) : zMW l s0 yX0_clear cX0_clear 4 (some FieldType.int) [((0 : Nat), (10 : Nat), (13 : Nat), (30 : Nat))] rm_m_X0_clear [.ref (ρ (0, 0, 0)), .int (iI i), .ref oa] H0 (fun z => FC G ρ σ z ∨ z = oa) (ri (fun kk h1 => ∃ (σ' : St) (n1 : Int64) (d1 : UInt64) (s1 : Value), PoC G s0 H0 ρ σ σ' h1 ∧ zAt G oa (zOb 3 [.long n1, .double d1, s1]) h1 ∧ ((kk = 0 ∧ (∃ y, R_clear σ i y σ' ∧ n1 = (iI y).toInt64)) ∨ (∃ jx : Nat, kk = ((jx + 1 : Nat) : Int) ∧ σ' = σ ∧ jx < ([IOB] : List String).length ∧ X_clear σ i (([IOB] : List String).getD jx ""))))) (fun _ _ => False) := by
  refine z_metW hE (by decide +kernel) (Nat.le_of_ble_eq_true rfl) ?_
  intro pp ee ss mm args below meth cd Q ls hC hml hrt hlk hnm hH hQ htb hX hS hl
  have hx := hC.x
  have hb := hC.b
  have hl : lv_has ls 4 [(0, .ref (ρ (0, 0, 0))), (1, .int (iI i)), (2, .ref oa)] := hl
  have hP : va_P G.1 zCl [] H0 := va_nil
  have hD : va_D (zA (fun z => FC G ρ σ z ∨ z = oa) H0) [] := va_nilD
  have hMo : ∀ z, (fun z => FC G ρ σ z ∨ z = oa) z → s0.heap.size ≤ z := fun z hz => hz.elim (fun w => FC.ge hh.sep w) (fun w => by rw [w]; exact hoa)
  have hol := ho.lt
  obtain ⟨sm, hxx⟩ := id hh.2.2.1.1
  have hncs := hnc.warm hC.w
  refine lv_aload_n hx hb dX0_clear_0 rfl (lv_at hl 2 rfl) ?_
  refine lv_aload_n hx hb dX0_clear_1 rfl (lv_at hl 0 rfl) ?_
  refine lv_iload_n hx hb dX0_clear_2 rfl (lv_at hl 1 rfl) ?_
  refine z_goX 100 1000 (z_runVw (As := [.int (iI i)]) (rest := [.ref oa]) hC hml hl.1 (m_X1_clear hE H0 (hO.ext (zS_F hS) hMo) ρ σ i hh hdm hi) (lw_VW q1306 q1307 q1308 q62 q1309) rfl nd_X1_clear rfl (z_rv hC (ci := 0) rfl hxx rfl) rfl (Nat.le_of_ble_eq_true rfl) ⟨Nat.le_of_ble_eq_true rfl, Nat.le_of_ble_eq_true rfl⟩ ⟨zfit (k := 100) (z := 100) rfl rfl (by omega), zfit (k := 1000) (z := 1000) rfl rfl (by omega)⟩ dX0_clear_3) ⟨zad (k := 100) rfl (by omega), zad (k := 1000) rfl (by omega)⟩ hS (fun _ z => Or.inl (Or.inl z)) (fun E ce q9 Hx1 locs hp hF hS1 hce hcv hcl => ?_) (fun r H2 locs hp hF hS1 => ?_)
  · have hXE : X_clear σ i E := hp.1
    have hHx : HC G s0 ρ σ Hx1 := hp.2
    have hox : zAt G oa (zOb 3 [(.long n9), (.double d9), s9]) Hx1 := ho.ext hF hof
    have hS := hS1
    obtain rfl := Xi_clear hXE
    refine vx_catch hC.o [] ⟨0, 10, 13, 30⟩ [] (by rw [htb]; rfl) (fun z hz => nomatch hz) (by decide) (by decide) (hC.t _ q1033) (z_cst hC q1065) hce hcv hcl ?_
    refine lv_astore_n (lv' := [(3, .ref q9), (0, .ref (ρ (0, 0, 0))), (1, .int (iI i)), (2, .ref oa)]) hx hb dX0_clear_13 rfl hl (by decide) rfl (fun ls hl => ?_)
    refine lv_iconst (v := iI 1) hx hb dX0_clear_14 rfl ?_
    exact z_iret hC hrt hlk hQ hS ⟨zle (z := 100) rfl (by omega), zle (z := 1000) rfl (by omega)⟩ ⟨_, rfl, σ, n9, d9, s9, PoC.same hHx, hox, Or.inr ⟨0, rfl, rfl, by decide, hXE⟩⟩ dX0_clear_15
  obtain ⟨y, rfl, σ1, hR, hpo⟩ := hp
  have hP : va_P G.1 zCl [(oa, zOb 3 [(.long n9), (.double d9), s9])] H2 := zP1 (ho.ext hF hof)
  have hD : va_D (zA (fun z => FC G ρ σ z ∨ z = oa) H0) [(oa, zOb 3 [(.long n9), (.double d9), s9])] := zD1 (Or.inl (Or.inr rfl))
  have hP : va_P G.1 zCl ([(oa, zOb 3 [(.long n9), (.double d9), s9])]) H2 := hP
  have hD : va_D (zA (fun z => FC G ρ σ z ∨ z = oa) H0) ([(oa, zOb 3 [(.long n9), (.double d9), s9])]) := hD
  have hS := hS1
  refine lv_i2l hx hb dX0_clear_6 rfl ?_
  refine z_putnO hC hP hD hS 0 (k := 0) rfl rfl in_X4 tyX4_ok nmX4 (by decide) q886 (fun _ h => h) rfl rfl rfl rfl (Nat.le_of_ble_eq_true rfl) (ws' := [(oa, zOb 3 [(.long (iI y).toInt64), (.double d9), s9])]) rfl dX0_clear_7 (fun H3 locs hP hD hS hF => ?_)
  have hpo := hpo.out hE hol hof hF
  refine lv_goto (tgt := 16) hx hb dX0_clear_10 (by decide) ?_
  refine lv_iconst (v := iI 0) hx hb dX0_clear_16 rfl ?_
  exact z_iret hC hrt hlk hQ hS ⟨zle (z := 100) rfl (by omega), zle (z := 1000) rfl (by omega)⟩ ⟨_, rfl, σ1, _, _, _, hpo, hP 0 _ rfl, Or.inl ⟨rfl, ⟨y, hR, rfl⟩⟩⟩ dX0_clear_17

abbrev rm_m_X0_mirror : Room := { frames := 9, cells := 16, slots := 131, locals := 158 }
set_option maxHeartbeats 4000000 in
theorem m_X0_mirror {l : Launch} {s0 : State} {G : zG} (hE : zE l s0 G) (H0 : Heap) (hO : zO s0 H0) (ρ : Ro → Nat) (σ : St) (i : Int) (j : Int) (k : Int) (oa : Nat) (n9 : Int64) (d9 : UInt64) (s9 : Value) (hh : HC G s0 ρ σ H0) (hdm : zMn (ρ (5, 0, 0)) {} H0) (ho : zAt G oa (zOb 3 [(.long n9), (.double d9), s9]) H0) (hoa : s0.heap.size ≤ oa) (hof : ¬ FC G ρ σ oa) (hnc : zNc s0) (hi : zi i ∧ zi j ∧ zi k) : zMW l s0 yX0_mirror cX0_mirror 6 (some FieldType.int) [((0 : Nat), (13 : Nat), (16 : Nat), (30 : Nat)), ((0 : Nat), (13 : Nat), (20 : Nat), (19 : Nat)), ((0 : Nat), (13 : Nat), (24 : Nat), (21 : Nat))] rm_m_X0_mirror [.ref (ρ (0, 0, 0)), .int (iI i), .int (iI j), .int (iI k), .ref oa] H0 (fun z => FC G ρ σ z ∨ z = oa) (ri (fun kk h1 => ∃ (σ' : St) (n1 : Int64) (d1 : UInt64) (s1 : Value), PoC G s0 H0 ρ σ σ' h1 ∧ zAt G oa (zOb 3 [.long n1, .double d1, s1]) h1 ∧ ((kk = 0 ∧ (∃ y, R_mirror σ i j k y σ' ∧ n1 = (iI y).toInt64)) ∨ (∃ jx : Nat, kk = ((jx + 1 : Nat) : Int) ∧ σ' = σ ∧ jx < ([IOB, IAE, ISE] : List String).length ∧ X_mirror σ i j k (([IOB, IAE, ISE] : List String).getD jx ""))))) (fun _ _ => False) := by
  refine z_metW hE (by decide +kernel) (Nat.le_of_ble_eq_true rfl) ?_
  intro pp ee ss mm args below meth cd Q ls hC hml hrt hlk hnm hH hQ htb hX hS hl
  have hx := hC.x
  have hb := hC.b
  have hl : lv_has ls 6 [(0, .ref (ρ (0, 0, 0))), (1, .int (iI i)), (2, .int (iI j)), (3, .int (iI k)), (4, .ref oa)] := hl
  have hP : va_P G.1 zCl [] H0 := va_nil
  have hD : va_D (zA (fun z => FC G ρ σ z ∨ z = oa) H0) [] := va_nilD
  have hMo : ∀ z, (fun z => FC G ρ σ z ∨ z = oa) z → s0.heap.size ≤ z := fun z hz => hz.elim (fun w => FC.ge hh.sep w) (fun w => by rw [w]; exact hoa)
  have hol := ho.lt
  obtain ⟨sm, hxx⟩ := id hh.2.2.1.1
  have hncs := hnc.warm hC.w
  refine lv_aload hx hb dX0_mirror_0 (lv_at hl 4 rfl) ?_
  refine lv_aload_n hx hb dX0_mirror_2 rfl (lv_at hl 0 rfl) ?_
  refine lv_iload_n hx hb dX0_mirror_3 rfl (lv_at hl 1 rfl) ?_
  refine lv_iload_n hx hb dX0_mirror_4 rfl (lv_at hl 2 rfl) ?_
  refine lv_iload_n hx hb dX0_mirror_5 rfl (lv_at hl 3 rfl) ?_
  refine z_goX 16 131 (z_runVx (As := [.int (iI i), .int (iI j), .int (iI k)]) (rest := [.ref oa]) hC hml hl.1 (m_X1_mirror hE H0 (hO.ext (zS_F hS) hMo) ρ σ i j k hh hi) (lw_V q1356 q1357 q1358 q62 q1359) rfl nd_X1_mirror rfl (z_rv hC (ci := 0) rfl hxx rfl) rfl (Nat.le_of_ble_eq_true rfl) ⟨Nat.le_of_ble_eq_true rfl, Nat.le_of_ble_eq_true rfl⟩ ⟨zfit (k := 16) (z := 16) rfl rfl (by omega), zfit (k := 131) (z := 131) rfl rfl (by omega)⟩ dX0_mirror_6) ⟨zad (k := 16) rfl (by omega), zad (k := 131) rfl (by omega)⟩ hS (fun _ z => Or.inl (Or.inl z)) (fun E ce q9 Hx1 locs hp hF hS1 hce hcv hcl => ?_) (fun r H2 locs hp hF hS1 => ?_)
  · have hXE : X_mirror σ i j k E := hp.1
    have hHx : HC G s0 ρ σ Hx1 := hp.2
    have hox : zAt G oa (zOb 3 [(.long n9), (.double d9), s9]) Hx1 := ho.ext hF hof
    have hS := hS1
    rcases Xi_mirror hXE with rfl | rfl | rfl
    · refine vx_catch hC.o [] ⟨0, 13, 16, 30⟩ [⟨0, 13, 20, 19⟩, ⟨0, 13, 24, 21⟩] (by rw [htb]; rfl) (fun z hz => nomatch hz) (by decide) (by decide) (hC.t _ q1033) (z_cst hC q1065) hce hcv hcl ?_
      refine lv_astore (lv' := [(5, .ref q9), (0, .ref (ρ (0, 0, 0))), (1, .int (iI i)), (2, .int (iI j)), (3, .int (iI k)), (4, .ref oa)]) hx hb dX0_mirror_16 hl (by decide) rfl (fun ls hl => ?_)
      refine lv_iconst (v := iI 1) hx hb dX0_mirror_18 rfl ?_
      exact z_iret hC hrt hlk hQ hS ⟨zle (z := 16) rfl (by omega), zle (z := 131) rfl (by omega)⟩ ⟨_, rfl, σ, n9, d9, s9, PoC.same hHx, hox, Or.inr ⟨0, rfl, rfl, by decide, hXE⟩⟩ dX0_mirror_19
    · refine vx_catch hC.o [⟨0, 13, 16, 30⟩] ⟨0, 13, 20, 19⟩ [⟨0, 13, 24, 21⟩] (by rw [htb]; rfl) (fun z hz => by
        simp only [List.mem_cons, List.not_mem_nil, or_false] at hz
        subst hz
        exact Or.inr ⟨by decide, _, hC.t _ q1033, hncs.1⟩) (by decide) (by decide) (hC.t _ q899) (z_cst hC q747) hce hcv hcl ?_
      refine lv_astore (lv' := [(5, .ref q9), (0, .ref (ρ (0, 0, 0))), (1, .int (iI i)), (2, .int (iI j)), (3, .int (iI k)), (4, .ref oa)]) hx hb dX0_mirror_20 hl (by decide) rfl (fun ls hl => ?_)
      refine lv_iconst (v := iI 2) hx hb dX0_mirror_22 rfl ?_
      exact z_iret hC hrt hlk hQ hS ⟨zle (z := 16) rfl (by omega), zle (z := 131) rfl (by omega)⟩ ⟨_, rfl, σ, n9, d9, s9, PoC.same hHx, hox, Or.inr ⟨1, rfl, rfl, by decide, hXE⟩⟩ dX0_mirror_23
    · refine vx_catch hC.o [⟨0, 13, 16, 30⟩, ⟨0, 13, 20, 19⟩] ⟨0, 13, 24, 21⟩ [] (by rw [htb]; rfl) (fun z hz => by
        simp only [List.mem_cons, List.not_mem_nil, or_false] at hz
        rcases hz with rfl | rfl
        · exact Or.inr ⟨by decide, _, hC.t _ q1033, hncs.2.1⟩
        · exact Or.inr ⟨by decide, _, hC.t _ q899, hncs.2.2⟩) (by decide) (by decide) (hC.t _ q900) (z_cst hC q924) hce hcv hcl ?_
      refine lv_astore (lv' := [(5, .ref q9), (0, .ref (ρ (0, 0, 0))), (1, .int (iI i)), (2, .int (iI j)), (3, .int (iI k)), (4, .ref oa)]) hx hb dX0_mirror_24 hl (by decide) rfl (fun ls hl => ?_)
      refine lv_iconst (v := iI 3) hx hb dX0_mirror_26 rfl ?_
      exact z_iret hC hrt hlk hQ hS ⟨zle (z := 16) rfl (by omega), zle (z := 131) rfl (by omega)⟩ ⟨_, rfl, σ, n9, d9, s9, PoC.same hHx, hox, Or.inr ⟨2, rfl, rfl, by decide, hXE⟩⟩ dX0_mirror_27
  obtain ⟨y, rfl, σ1, hR, hpo⟩ := hp
  have hP : va_P G.1 zCl [(oa, zOb 3 [(.long n9), (.double d9), s9])] H2 := zP1 (ho.ext hF hof)
  have hD : va_D (zA (fun z => FC G ρ σ z ∨ z = oa) H0) [(oa, zOb 3 [(.long n9), (.double d9), s9])] := zD1 (Or.inl (Or.inr rfl))
  have hP : va_P G.1 zCl ([(oa, zOb 3 [(.long n9), (.double d9), s9])]) H2 := hP
  have hD : va_D (zA (fun z => FC G ρ σ z ∨ z = oa) H0) ([(oa, zOb 3 [(.long n9), (.double d9), s9])]) := hD
  have hS := hS1
  refine lv_i2l hx hb dX0_mirror_9 rfl ?_
  refine z_putnO hC hP hD hS 0 (k := 0) rfl rfl in_X4 tyX4_ok nmX4 (by decide) q886 (fun _ h => h) rfl rfl rfl rfl (Nat.le_of_ble_eq_true rfl) (ws' := [(oa, zOb 3 [(.long (iI y).toInt64), (.double d9), s9])]) rfl dX0_mirror_10 (fun H3 locs hP hD hS hF => ?_)
  have hpo := hpo.out hE hol hof hF
  refine lv_goto (tgt := 28) hx hb dX0_mirror_13 (by decide) ?_
  refine lv_iconst (v := iI 0) hx hb dX0_mirror_28 rfl ?_
  exact z_iret hC hrt hlk hQ hS ⟨zle (z := 16) rfl (by omega), zle (z := 131) rfl (by omega)⟩ ⟨_, rfl, σ1, _, _, _, hpo, hP 0 _ rfl, Or.inl ⟨rfl, ⟨y, hR, rfl⟩⟩⟩ dX0_mirror_29

abbrev rm_m_X0_turn : Room := { frames := 9, cells := 100, slots := 1000, locals := 159 }
set_option maxHeartbeats 4000000 in
theorem m_X0_turn {l : Launch} {s0 : State} {G : zG} (hE : zE l s0 G) (H0 : Heap) (hO : zO s0 H0) (ρ : Ro → Nat) (σ : St) (i : Int) (j : Int) (oa : Nat) (n9 : Int64) (d9 : UInt64) (s9 : Value) (hh : HC G s0 ρ σ H0) (hdm : zMn (ρ (5, 0, 0)) {} H0) (ho : zAt G oa (zOb 3 [(.long n9), (.double d9), s9]) H0) (hoa : s0.heap.size ≤ oa) (hof : ¬ FC G ρ σ oa) (hnc : zNc s0) (hi : zi i ∧ zi j) : zMW l s0 yX0_turn cX0_turn 5 (some FieldType.int) [((0 : Nat), (11 : Nat), (14 : Nat), (30 : Nat)), ((0 : Nat), (11 : Nat), (18 : Nat), (19 : Nat)), ((0 : Nat), (11 : Nat), (22 : Nat), (21 : Nat))] rm_m_X0_turn [.ref (ρ (0, 0, 0)), .int (iI i), .int (iI j), .ref oa] H0 (fun z => FC G ρ σ z ∨ z = oa) (ri (fun kk h1 => ∃ (σ' : St) (n1 : Int64) (d1 : UInt64) (s1 : Value), PoC G s0 H0 ρ σ σ' h1 ∧ zAt G oa (zOb 3 [.long n1, .double d1, s1]) h1 ∧ ((kk = 0 ∧ (∃ y, R_turn σ i j y σ' ∧ n1 = (iI y).toInt64)) ∨ (∃ jx : Nat, kk = ((jx + 1 : Nat) : Int) ∧ σ' = σ ∧ jx < ([IOB, IAE, ISE] : List String).length ∧ X_turn σ i j (([IOB, IAE, ISE] : List String).getD jx ""))))) (fun _ _ => False) := by
  refine z_metW hE (by decide +kernel) (Nat.le_of_ble_eq_true rfl) ?_
  intro pp ee ss mm args below meth cd Q ls hC hml hrt hlk hnm hH hQ htb hX hS hl
  have hx := hC.x
  have hb := hC.b
  have hl : lv_has ls 5 [(0, .ref (ρ (0, 0, 0))), (1, .int (iI i)), (2, .int (iI j)), (3, .ref oa)] := hl
  have hP : va_P G.1 zCl [] H0 := va_nil
  have hD : va_D (zA (fun z => FC G ρ σ z ∨ z = oa) H0) [] := va_nilD
  have hMo : ∀ z, (fun z => FC G ρ σ z ∨ z = oa) z → s0.heap.size ≤ z := fun z hz => hz.elim (fun w => FC.ge hh.sep w) (fun w => by rw [w]; exact hoa)
  have hol := ho.lt
  obtain ⟨sm, hxx⟩ := id hh.2.2.1.1
  have hncs := hnc.warm hC.w
  refine lv_aload_n hx hb dX0_turn_0 rfl (lv_at hl 3 rfl) ?_
  refine lv_aload_n hx hb dX0_turn_1 rfl (lv_at hl 0 rfl) ?_
  refine lv_iload_n hx hb dX0_turn_2 rfl (lv_at hl 1 rfl) ?_
  refine lv_iload_n hx hb dX0_turn_3 rfl (lv_at hl 2 rfl) ?_
  refine z_goX 100 1000 (z_runVx (As := [.int (iI i), .int (iI j)]) (rest := [.ref oa]) hC hml hl.1 (m_X1_turn hE H0 (hO.ext (zS_F hS) hMo) ρ σ i j hh hi) (lw_V q1368 q1369 q1370 q62 q1371) rfl nd_X1_turn rfl (z_rv hC (ci := 0) rfl hxx rfl) rfl (Nat.le_of_ble_eq_true rfl) ⟨Nat.le_of_ble_eq_true rfl, Nat.le_of_ble_eq_true rfl⟩ ⟨zfit (k := 100) (z := 100) rfl rfl (by omega), zfit (k := 1000) (z := 1000) rfl rfl (by omega)⟩ dX0_turn_4) ⟨zad (k := 100) rfl (by omega), zad (k := 1000) rfl (by omega)⟩ hS (fun _ z => Or.inl (Or.inl z)) (fun E ce q9 Hx1 locs hp hF hS1 hce hcv hcl => ?_) (fun r H2 locs hp hF hS1 => ?_)
  · have hXE : X_turn σ i j E := hp.1
    have hHx : HC G s0 ρ σ Hx1 := hp.2
    have hox : zAt G oa (zOb 3 [(.long n9), (.double d9), s9]) Hx1 := ho.ext hF hof
    have hS := hS1
    rcases Xi_turn hXE with rfl | rfl | rfl
    · refine vx_catch hC.o [] ⟨0, 11, 14, 30⟩ [⟨0, 11, 18, 19⟩, ⟨0, 11, 22, 21⟩] (by rw [htb]; rfl) (fun z hz => nomatch hz) (by decide) (by decide) (hC.t _ q1033) (z_cst hC q1065) hce hcv hcl ?_
      refine lv_astore (lv' := [(4, .ref q9), (0, .ref (ρ (0, 0, 0))), (1, .int (iI i)), (2, .int (iI j)), (3, .ref oa)]) hx hb dX0_turn_14 hl (by decide) rfl (fun ls hl => ?_)
      refine lv_iconst (v := iI 1) hx hb dX0_turn_16 rfl ?_
      exact z_iret hC hrt hlk hQ hS ⟨zle (z := 100) rfl (by omega), zle (z := 1000) rfl (by omega)⟩ ⟨_, rfl, σ, n9, d9, s9, PoC.same hHx, hox, Or.inr ⟨0, rfl, rfl, by decide, hXE⟩⟩ dX0_turn_17
    · refine vx_catch hC.o [⟨0, 11, 14, 30⟩] ⟨0, 11, 18, 19⟩ [⟨0, 11, 22, 21⟩] (by rw [htb]; rfl) (fun z hz => by
        simp only [List.mem_cons, List.not_mem_nil, or_false] at hz
        subst hz
        exact Or.inr ⟨by decide, _, hC.t _ q1033, hncs.1⟩) (by decide) (by decide) (hC.t _ q899) (z_cst hC q747) hce hcv hcl ?_
      refine lv_astore (lv' := [(4, .ref q9), (0, .ref (ρ (0, 0, 0))), (1, .int (iI i)), (2, .int (iI j)), (3, .ref oa)]) hx hb dX0_turn_18 hl (by decide) rfl (fun ls hl => ?_)
      refine lv_iconst (v := iI 2) hx hb dX0_turn_20 rfl ?_
      exact z_iret hC hrt hlk hQ hS ⟨zle (z := 100) rfl (by omega), zle (z := 1000) rfl (by omega)⟩ ⟨_, rfl, σ, n9, d9, s9, PoC.same hHx, hox, Or.inr ⟨1, rfl, rfl, by decide, hXE⟩⟩ dX0_turn_21
    · refine vx_catch hC.o [⟨0, 11, 14, 30⟩, ⟨0, 11, 18, 19⟩] ⟨0, 11, 22, 21⟩ [] (by rw [htb]; rfl) (fun z hz => by
        simp only [List.mem_cons, List.not_mem_nil, or_false] at hz
        rcases hz with rfl | rfl
        · exact Or.inr ⟨by decide, _, hC.t _ q1033, hncs.2.1⟩
        · exact Or.inr ⟨by decide, _, hC.t _ q899, hncs.2.2⟩) (by decide) (by decide) (hC.t _ q900) (z_cst hC q924) hce hcv hcl ?_
      refine lv_astore (lv' := [(4, .ref q9), (0, .ref (ρ (0, 0, 0))), (1, .int (iI i)), (2, .int (iI j)), (3, .ref oa)]) hx hb dX0_turn_22 hl (by decide) rfl (fun ls hl => ?_)
      refine lv_iconst (v := iI 3) hx hb dX0_turn_24 rfl ?_
      exact z_iret hC hrt hlk hQ hS ⟨zle (z := 100) rfl (by omega), zle (z := 1000) rfl (by omega)⟩ ⟨_, rfl, σ, n9, d9, s9, PoC.same hHx, hox, Or.inr ⟨2, rfl, rfl, by decide, hXE⟩⟩ dX0_turn_25
  obtain ⟨y, rfl, σ1, hR, hpo⟩ := hp
  have hP : va_P G.1 zCl [(oa, zOb 3 [(.long n9), (.double d9), s9])] H2 := zP1 (ho.ext hF hof)
  have hD : va_D (zA (fun z => FC G ρ σ z ∨ z = oa) H0) [(oa, zOb 3 [(.long n9), (.double d9), s9])] := zD1 (Or.inl (Or.inr rfl))
  have hP : va_P G.1 zCl ([(oa, zOb 3 [(.long n9), (.double d9), s9])]) H2 := hP
  have hD : va_D (zA (fun z => FC G ρ σ z ∨ z = oa) H0) ([(oa, zOb 3 [(.long n9), (.double d9), s9])]) := hD
  have hS := hS1
  refine lv_i2l hx hb dX0_turn_7 rfl ?_
  refine z_putnO hC hP hD hS 0 (k := 0) rfl rfl in_X4 tyX4_ok nmX4 (by decide) q886 (fun _ h => h) rfl rfl rfl rfl (Nat.le_of_ble_eq_true rfl) (ws' := [(oa, zOb 3 [(.long (iI y).toInt64), (.double d9), s9])]) rfl dX0_turn_8 (fun H3 locs hP hD hS hF => ?_)
  have hpo := hpo.out hE hol hof hF
  refine lv_goto (tgt := 26) hx hb dX0_turn_11 (by decide) ?_
  refine lv_iconst (v := iI 0) hx hb dX0_turn_26 rfl ?_
  exact z_iret hC hrt hlk hQ hS ⟨zle (z := 100) rfl (by omega), zle (z := 1000) rfl (by omega)⟩ ⟨_, rfl, σ1, _, _, _, hpo, hP 0 _ rfl, Or.inl ⟨rfl, ⟨y, hR, rfl⟩⟩⟩ dX0_turn_27

abbrev rm_m_X0_versor : Room := { frames := 9, cells := 100, slots := 1000, locals := 157 }
set_option maxHeartbeats 4000000 in
theorem m_X0_versor {l : Launch} {s0 : State} {G : zG} (hE : zE l s0 G) (H0 : Heap) (hO : zO s0 H0) (ρ : Ro → Nat) (σ : St) (i : Int) (oa : Nat) (n9 : Int64) (d9 : UInt64) (s9 : Value) (hh : HC G s0 ρ σ H0) (hdm : zMn (ρ (5, 0, 0)) {} H0) (ho : zAt G oa (zOb 3 [(.long n9), (.double d9), s9]) H0) (hoa : s0.heap.size ≤ oa) (hof : ¬ FC G ρ σ oa) (hnc : zNc s0) (hi : zi i) : zMW l s0 yX0_versor cX0_versor 4 (some FieldType.int) [((0 : Nat), (10 : Nat), (13 : Nat), (30 : Nat)), ((0 : Nat), (10 : Nat), (16 : Nat), (21 : Nat))] rm_m_X0_versor [.ref (ρ (0, 0, 0)), .int (iI i), .ref oa] H0 (fun z => FC G ρ σ z ∨ z = oa) (ri (fun kk h1 => ∃ (σ' : St) (n1 : Int64) (d1 : UInt64) (s1 : Value), PoC G s0 H0 ρ σ σ' h1 ∧ zAt G oa (zOb 3 [.long n1, .double d1, s1]) h1 ∧ ((kk = 0 ∧ (∃ y, R_versor σ i y σ' ∧ n1 = (iI y).toInt64)) ∨ (∃ jx : Nat, kk = ((jx + 1 : Nat) : Int) ∧ σ' = σ ∧ jx < ([IOB, ISE] : List String).length ∧ X_versor σ i (([IOB, ISE] : List String).getD jx ""))))) (fun _ _ => False) := by
  refine z_metW hE (by decide +kernel) (Nat.le_of_ble_eq_true rfl) ?_
  intro pp ee ss mm args below meth cd Q ls hC hml hrt hlk hnm hH hQ htb hX hS hl
  have hx := hC.x
  have hb := hC.b
  have hl : lv_has ls 4 [(0, .ref (ρ (0, 0, 0))), (1, .int (iI i)), (2, .ref oa)] := hl
  have hP : va_P G.1 zCl [] H0 := va_nil
  have hD : va_D (zA (fun z => FC G ρ σ z ∨ z = oa) H0) [] := va_nilD
  have hMo : ∀ z, (fun z => FC G ρ σ z ∨ z = oa) z → s0.heap.size ≤ z := fun z hz => hz.elim (fun w => FC.ge hh.sep w) (fun w => by rw [w]; exact hoa)
  have hol := ho.lt
  obtain ⟨sm, hxx⟩ := id hh.2.2.1.1
  have hncs := hnc.warm hC.w
  refine lv_aload_n hx hb dX0_versor_0 rfl (lv_at hl 2 rfl) ?_
  refine lv_aload_n hx hb dX0_versor_1 rfl (lv_at hl 0 rfl) ?_
  refine lv_iload_n hx hb dX0_versor_2 rfl (lv_at hl 1 rfl) ?_
  refine z_goX 100 1000 (z_runVx (As := [.int (iI i)]) (rest := [.ref oa]) hC hml hl.1 (m_X1_versor hE H0 (hO.ext (zS_F hS) hMo) ρ σ i hh hi) (lw_V q1375 q1376 q1377 q62 q1378) rfl nd_X1_versor rfl (z_rv hC (ci := 0) rfl hxx rfl) rfl (Nat.le_of_ble_eq_true rfl) ⟨Nat.le_of_ble_eq_true rfl, Nat.le_of_ble_eq_true rfl⟩ ⟨zfit (k := 100) (z := 100) rfl rfl (by omega), zfit (k := 1000) (z := 1000) rfl rfl (by omega)⟩ dX0_versor_3) ⟨zad (k := 100) rfl (by omega), zad (k := 1000) rfl (by omega)⟩ hS (fun _ z => Or.inl (Or.inl z)) (fun E ce q9 Hx1 locs hp hF hS1 hce hcv hcl => ?_) (fun r H2 locs hp hF hS1 => ?_)
  · have hXE : X_versor σ i E := hp.1
    have hHx : HC G s0 ρ σ Hx1 := hp.2
    have hox : zAt G oa (zOb 3 [(.long n9), (.double d9), s9]) Hx1 := ho.ext hF hof
    have hS := hS1
    rcases Xi_versor hXE with rfl | rfl
    · refine vx_catch hC.o [] ⟨0, 10, 13, 30⟩ [⟨0, 10, 16, 21⟩] (by rw [htb]; rfl) (fun z hz => nomatch hz) (by decide) (by decide) (hC.t _ q1033) (z_cst hC q1065) hce hcv hcl ?_
      refine lv_astore_n (lv' := [(3, .ref q9), (0, .ref (ρ (0, 0, 0))), (1, .int (iI i)), (2, .ref oa)]) hx hb dX0_versor_13 rfl hl (by decide) rfl (fun ls hl => ?_)
      refine lv_iconst (v := iI 1) hx hb dX0_versor_14 rfl ?_
      exact z_iret hC hrt hlk hQ hS ⟨zle (z := 100) rfl (by omega), zle (z := 1000) rfl (by omega)⟩ ⟨_, rfl, σ, n9, d9, s9, PoC.same hHx, hox, Or.inr ⟨0, rfl, rfl, by decide, hXE⟩⟩ dX0_versor_15
    · refine vx_catch hC.o [⟨0, 10, 13, 30⟩] ⟨0, 10, 16, 21⟩ [] (by rw [htb]; rfl) (fun z hz => by
        simp only [List.mem_cons, List.not_mem_nil, or_false] at hz
        subst hz
        exact Or.inr ⟨by decide, _, hC.t _ q1033, hncs.2.1⟩) (by decide) (by decide) (hC.t _ q900) (z_cst hC q924) hce hcv hcl ?_
      refine lv_astore_n (lv' := [(3, .ref q9), (0, .ref (ρ (0, 0, 0))), (1, .int (iI i)), (2, .ref oa)]) hx hb dX0_versor_16 rfl hl (by decide) rfl (fun ls hl => ?_)
      refine lv_iconst (v := iI 2) hx hb dX0_versor_17 rfl ?_
      exact z_iret hC hrt hlk hQ hS ⟨zle (z := 100) rfl (by omega), zle (z := 1000) rfl (by omega)⟩ ⟨_, rfl, σ, n9, d9, s9, PoC.same hHx, hox, Or.inr ⟨1, rfl, rfl, by decide, hXE⟩⟩ dX0_versor_18
  obtain ⟨y, rfl, σ1, hR, hpo⟩ := hp
  have hP : va_P G.1 zCl [(oa, zOb 3 [(.long n9), (.double d9), s9])] H2 := zP1 (ho.ext hF hof)
  have hD : va_D (zA (fun z => FC G ρ σ z ∨ z = oa) H0) [(oa, zOb 3 [(.long n9), (.double d9), s9])] := zD1 (Or.inl (Or.inr rfl))
  have hP : va_P G.1 zCl ([(oa, zOb 3 [(.long n9), (.double d9), s9])]) H2 := hP
  have hD : va_D (zA (fun z => FC G ρ σ z ∨ z = oa) H0) ([(oa, zOb 3 [(.long n9), (.double d9), s9])]) := hD
  have hS := hS1
  refine lv_i2l hx hb dX0_versor_6 rfl ?_
  refine z_putnO hC hP hD hS 0 (k := 0) rfl rfl in_X4 tyX4_ok nmX4 (by decide) q886 (fun _ h => h) rfl rfl rfl rfl (Nat.le_of_ble_eq_true rfl) (ws' := [(oa, zOb 3 [(.long (iI y).toInt64), (.double d9), s9])]) rfl dX0_versor_7 (fun H3 locs hP hD hS hF => ?_)
  have hpo := hpo.out hE hol hof hF
  refine lv_goto (tgt := 19) hx hb dX0_versor_10 (by decide) ?_
  refine lv_iconst (v := iI 0) hx hb dX0_versor_19 rfl ?_
  exact z_iret hC hrt hlk hQ hS ⟨zle (z := 100) rfl (by omega), zle (z := 1000) rfl (by omega)⟩ ⟨_, rfl, σ1, _, _, _, hpo, hP 0 _ rfl, Or.inl ⟨rfl, ⟨y, hR, rfl⟩⟩⟩ dX0_versor_20

abbrev rm_m_X0_run : Room := { frames := 10, cells := 200, slots := 2000, locals := 271 }
set_option maxHeartbeats 4000000 in
theorem m_X0_run {l : Launch} {s0 : State} {G : zG} (hE : zE l s0 G) (H0 : Heap) (hO : zO s0 H0) (ρ : Ro → Nat) (σ : St) (i : Int) (w : Int) (oa : Nat) (n9 : Int64) (d9 : UInt64) (s9 : Value) (hh : HC G s0 ρ σ H0) (hdm : zMn (ρ (5, 0, 0)) {} H0) (ho : zAt G oa (zOb 3 [(.long n9), (.double d9), s9]) H0) (hoa : s0.heap.size ≤ oa) (hof : ¬ FC G ρ σ oa) (hnc : zNc s0) (hi : zi i ∧ zi w) : zMW l s0 yX0_run cX0_run 5 (some FieldType.int) [((0 : Nat), (11 : Nat), (14 : Nat), (30 : Nat)), ((0 : Nat), (11 : Nat), (18 : Nat), (19 : Nat))] rm_m_X0_run [.ref (ρ (0, 0, 0)), .int (iI i), .int (iI w), .ref oa] H0 (fun z => FC G ρ σ z ∨ z = oa) (ri (fun kk h1 => ∃ (σ' : St) (n1 : Int64) (d1 : UInt64) (s1 : Value), PoC G s0 H0 ρ σ σ' h1 ∧ zAt G oa (zOb 3 [.long n1, .double d1, s1]) h1 ∧ ((kk = 0 ∧ (∃ y, R_run σ i w y σ' ∧ n1 = (iI y).toInt64)) ∨ (∃ jx : Nat, kk = ((jx + 1 : Nat) : Int) ∧ σ' = σ ∧ jx < ([IOB, IAE] : List String).length ∧ X_run σ i w (([IOB, IAE] : List String).getD jx ""))))) (fun _ _ => False) := by
  refine z_metW hE (by decide +kernel) (Nat.le_of_ble_eq_true rfl) ?_
  intro pp ee ss mm args below meth cd Q ls hC hml hrt hlk hnm hH hQ htb hX hS hl
  have hx := hC.x
  have hb := hC.b
  have hl : lv_has ls 5 [(0, .ref (ρ (0, 0, 0))), (1, .int (iI i)), (2, .int (iI w)), (3, .ref oa)] := hl
  have hP : va_P G.1 zCl [] H0 := va_nil
  have hD : va_D (zA (fun z => FC G ρ σ z ∨ z = oa) H0) [] := va_nilD
  have hMo : ∀ z, (fun z => FC G ρ σ z ∨ z = oa) z → s0.heap.size ≤ z := fun z hz => hz.elim (fun w => FC.ge hh.sep w) (fun w => by rw [w]; exact hoa)
  have hol := ho.lt
  obtain ⟨sm, hxx⟩ := id hh.2.2.1.1
  have hncs := hnc.warm hC.w
  refine lv_aload_n hx hb dX0_run_0 rfl (lv_at hl 3 rfl) ?_
  refine lv_aload_n hx hb dX0_run_1 rfl (lv_at hl 0 rfl) ?_
  refine lv_iload_n hx hb dX0_run_2 rfl (lv_at hl 1 rfl) ?_
  refine lv_iload_n hx hb dX0_run_3 rfl (lv_at hl 2 rfl) ?_
  refine z_goX 200 2000 (z_runVx (As := [.int (iI i), .int (iI w)]) (rest := [.ref oa]) hC hml hl.1 (m_X1_run hE H0 (hO.ext (zS_F hS) hMo) ρ σ i w hh hi) (lw_V q1383 q1384 q1385 q62 q1386) rfl nd_X1_run rfl (z_rv hC (ci := 0) rfl hxx rfl) rfl (Nat.le_of_ble_eq_true rfl) ⟨Nat.le_of_ble_eq_true rfl, Nat.le_of_ble_eq_true rfl⟩ ⟨zfit (k := 200) (z := 200) rfl rfl (by omega), zfit (k := 2000) (z := 2000) rfl rfl (by omega)⟩ dX0_run_4) ⟨zad (k := 200) rfl (by omega), zad (k := 2000) rfl (by omega)⟩ hS (fun _ z => Or.inl (Or.inl z)) (fun E ce q9 Hx1 locs hp hF hS1 hce hcv hcl => ?_) (fun r H2 locs hp hF hS1 => ?_)
  · have hXE : X_run σ i w E := hp.1
    have hHx : HC G s0 ρ σ Hx1 := hp.2
    have hox : zAt G oa (zOb 3 [(.long n9), (.double d9), s9]) Hx1 := ho.ext hF hof
    have hS := hS1
    rcases Xi_run hXE with rfl | rfl
    · refine vx_catch hC.o [] ⟨0, 11, 14, 30⟩ [⟨0, 11, 18, 19⟩] (by rw [htb]; rfl) (fun z hz => nomatch hz) (by decide) (by decide) (hC.t _ q1033) (z_cst hC q1065) hce hcv hcl ?_
      refine lv_astore (lv' := [(4, .ref q9), (0, .ref (ρ (0, 0, 0))), (1, .int (iI i)), (2, .int (iI w)), (3, .ref oa)]) hx hb dX0_run_14 hl (by decide) rfl (fun ls hl => ?_)
      refine lv_iconst (v := iI 1) hx hb dX0_run_16 rfl ?_
      exact z_iret hC hrt hlk hQ hS ⟨zle (z := 200) rfl (by omega), zle (z := 2000) rfl (by omega)⟩ ⟨_, rfl, σ, n9, d9, s9, PoC.same hHx, hox, Or.inr ⟨0, rfl, rfl, by decide, hXE⟩⟩ dX0_run_17
    · refine vx_catch hC.o [⟨0, 11, 14, 30⟩] ⟨0, 11, 18, 19⟩ [] (by rw [htb]; rfl) (fun z hz => by
        simp only [List.mem_cons, List.not_mem_nil, or_false] at hz
        subst hz
        exact Or.inr ⟨by decide, _, hC.t _ q1033, hncs.1⟩) (by decide) (by decide) (hC.t _ q899) (z_cst hC q747) hce hcv hcl ?_
      refine lv_astore (lv' := [(4, .ref q9), (0, .ref (ρ (0, 0, 0))), (1, .int (iI i)), (2, .int (iI w)), (3, .ref oa)]) hx hb dX0_run_18 hl (by decide) rfl (fun ls hl => ?_)
      refine lv_iconst (v := iI 2) hx hb dX0_run_20 rfl ?_
      exact z_iret hC hrt hlk hQ hS ⟨zle (z := 200) rfl (by omega), zle (z := 2000) rfl (by omega)⟩ ⟨_, rfl, σ, n9, d9, s9, PoC.same hHx, hox, Or.inr ⟨1, rfl, rfl, by decide, hXE⟩⟩ dX0_run_21
  obtain ⟨y, rfl, σ1, hR, hpo⟩ := hp
  have hP : va_P G.1 zCl [(oa, zOb 3 [(.long n9), (.double d9), s9])] H2 := zP1 (ho.ext hF hof)
  have hD : va_D (zA (fun z => FC G ρ σ z ∨ z = oa) H0) [(oa, zOb 3 [(.long n9), (.double d9), s9])] := zD1 (Or.inl (Or.inr rfl))
  have hP : va_P G.1 zCl ([(oa, zOb 3 [(.long n9), (.double d9), s9])]) H2 := hP
  have hD : va_D (zA (fun z => FC G ρ σ z ∨ z = oa) H0) ([(oa, zOb 3 [(.long n9), (.double d9), s9])]) := hD
  have hS := hS1
  refine lv_i2l hx hb dX0_run_7 rfl ?_
  refine z_putnO hC hP hD hS 0 (k := 0) rfl rfl in_X4 tyX4_ok nmX4 (by decide) q886 (fun _ h => h) rfl rfl rfl rfl (Nat.le_of_ble_eq_true rfl) (ws' := [(oa, zOb 3 [(.long (iI y).toInt64), (.double d9), s9])]) rfl dX0_run_8 (fun H3 locs hP hD hS hF => ?_)
  have hpo := hpo.out hE hol hof hF
  refine lv_goto (tgt := 22) hx hb dX0_run_11 (by decide) ?_
  refine lv_iconst (v := iI 0) hx hb dX0_run_22 rfl ?_
  exact z_iret hC hrt hlk hQ hS ⟨zle (z := 200) rfl (by omega), zle (z := 2000) rfl (by omega)⟩ ⟨_, rfl, σ1, _, _, _, hpo, hP 0 _ rfl, Or.inl ⟨rfl, ⟨y, hR, rfl⟩⟩⟩ dX0_run_23

abbrev rm_m_X0_at : Room := { frames := 9, cells := 2, slots := 12, locals := 155 }
set_option maxHeartbeats 4000000 in
theorem m_X0_at {l : Launch} {s0 : State} {G : zG} (hE : zE l s0 G) (H0 : Heap) (hO : zO s0 H0) (ρ : Ro → Nat) (σ : St) (i : Int) (u : Int) (oa : Nat) (n9 : Int64) (d9 : UInt64) (s9 : Value) (hh : HC G s0 ρ σ H0) (hdm : zMn (ρ (5, 0, 0)) {} H0) (ho : zAt G oa (zOb 3 [(.long n9), (.double d9), s9]) H0) (hoa : s0.heap.size ≤ oa) (hof : ¬ FC G ρ σ oa) (hnc : zNc s0) (hi : zi i ∧ zi u) : zMW l s0 yX0_at cX0_at 5 (some FieldType.int) [((0 : Nat), (11 : Nat), (14 : Nat), (30 : Nat))] rm_m_X0_at [.ref (ρ (0, 0, 0)), .int (iI i), .int (iI u), .ref oa] H0 (fun z => FC G ρ σ z ∨ z = oa) (ri (fun kk h1 => ∃ (σ' : St) (n1 : Int64) (d1 : UInt64) (s1 : Value), PoC G s0 H0 ρ σ σ' h1 ∧ zAt G oa (zOb 3 [.long n1, .double d1, s1]) h1 ∧ ((kk = 0 ∧ (∃ y, R_at σ i u y σ' ∧ n1 = (iI y).toInt64)) ∨ (∃ jx : Nat, kk = ((jx + 1 : Nat) : Int) ∧ σ' = σ ∧ jx < ([IOB] : List String).length ∧ X_at σ i u (([IOB] : List String).getD jx ""))))) (fun _ _ => False) := by
  refine z_metW hE (by decide +kernel) (Nat.le_of_ble_eq_true rfl) ?_
  intro pp ee ss mm args below meth cd Q ls hC hml hrt hlk hnm hH hQ htb hX hS hl
  have hx := hC.x
  have hb := hC.b
  have hl : lv_has ls 5 [(0, .ref (ρ (0, 0, 0))), (1, .int (iI i)), (2, .int (iI u)), (3, .ref oa)] := hl
  have hP : va_P G.1 zCl [] H0 := va_nil
  have hD : va_D (zA (fun z => FC G ρ σ z ∨ z = oa) H0) [] := va_nilD
  have hMo : ∀ z, (fun z => FC G ρ σ z ∨ z = oa) z → s0.heap.size ≤ z := fun z hz => hz.elim (fun w => FC.ge hh.sep w) (fun w => by rw [w]; exact hoa)
  have hol := ho.lt
  obtain ⟨sm, hxx⟩ := id hh.2.2.1.1
  have hncs := hnc.warm hC.w
  refine lv_aload_n hx hb dX0_at_0 rfl (lv_at hl 3 rfl) ?_
  refine lv_aload_n hx hb dX0_at_1 rfl (lv_at hl 0 rfl) ?_
  refine lv_iload_n hx hb dX0_at_2 rfl (lv_at hl 1 rfl) ?_
  refine lv_iload_n hx hb dX0_at_3 rfl (lv_at hl 2 rfl) ?_
  refine z_goX 2 12 (z_runVx (As := [.int (iI i), .int (iI u)]) (rest := [.ref oa]) hC hml hl.1 (m_X1_at hE H0 (hO.ext (zS_F hS) hMo) ρ σ i u hh hi) (lw_V q1406 q1407 q1408 q62 q1409) rfl nd_X1_at rfl (z_rv hC (ci := 0) rfl hxx rfl) rfl (Nat.le_of_ble_eq_true rfl) ⟨Nat.le_of_ble_eq_true rfl, Nat.le_of_ble_eq_true rfl⟩ ⟨zfit (k := 2) (z := 2) rfl rfl (by omega), zfit (k := 12) (z := 12) rfl rfl (by omega)⟩ dX0_at_4) ⟨zad (k := 2) rfl (by omega), zad (k := 12) rfl (by omega)⟩ hS (fun _ z => z.elim) (fun E ce q9 Hx1 locs hp hF hS1 hce hcv hcl => ?_) (fun r H2 locs hp hF hS1 => ?_)
  · have hXE : X_at σ i u E := hp
    have hHx : HC G s0 ρ σ Hx1 := hh.ext0 hE hF
    have hox : zAt G oa (zOb 3 [(.long n9), (.double d9), s9]) Hx1 := ho.ext hF id
    have hS := hS1
    obtain rfl := Xi_at hXE
    refine vx_catch hC.o [] ⟨0, 11, 14, 30⟩ [] (by rw [htb]; rfl) (fun z hz => nomatch hz) (by decide) (by decide) (hC.t _ q1033) (z_cst hC q1065) hce hcv hcl ?_
    refine lv_astore (lv' := [(4, .ref q9), (0, .ref (ρ (0, 0, 0))), (1, .int (iI i)), (2, .int (iI u)), (3, .ref oa)]) hx hb dX0_at_14 hl (by decide) rfl (fun ls hl => ?_)
    refine lv_iconst (v := iI 1) hx hb dX0_at_16 rfl ?_
    exact z_iret hC hrt hlk hQ hS ⟨zle (z := 2) rfl (by omega), zle (z := 12) rfl (by omega)⟩ ⟨_, rfl, σ, n9, d9, s9, PoC.same hHx, hox, Or.inr ⟨0, rfl, rfl, by decide, hXE⟩⟩ dX0_at_17
  obtain ⟨y, rfl, hR⟩ := hp
  have hP : va_P G.1 zCl [(oa, zOb 3 [(.long n9), (.double d9), s9])] H2 := zP1 (ho.ext hF id)
  have hD : va_D (zA (fun z => FC G ρ σ z ∨ z = oa) H0) [(oa, zOb 3 [(.long n9), (.double d9), s9])] := zD1 (Or.inl (Or.inr rfl))
  have hpo : PoC G s0 H0 ρ σ σ H2 := PoC.same (hh.ext0 hE hF)
  have hP : va_P G.1 zCl ([(oa, zOb 3 [(.long n9), (.double d9), s9])]) H2 := hP
  have hD : va_D (zA (fun z => FC G ρ σ z ∨ z = oa) H0) ([(oa, zOb 3 [(.long n9), (.double d9), s9])]) := hD
  have hS := hS1
  refine lv_i2l hx hb dX0_at_7 rfl ?_
  refine z_putnO hC hP hD hS 0 (k := 0) rfl rfl in_X4 tyX4_ok nmX4 (by decide) q886 (fun _ h => h) rfl rfl rfl rfl (Nat.le_of_ble_eq_true rfl) (ws' := [(oa, zOb 3 [(.long (iI y).toInt64), (.double d9), s9])]) rfl dX0_at_8 (fun H3 locs hP hD hS hF => ?_)
  have hpo := hpo.out hE hol hof hF
  refine lv_goto (tgt := 18) hx hb dX0_at_11 (by decide) ?_
  refine lv_iconst (v := iI 0) hx hb dX0_at_18 rfl ?_
  exact z_iret hC hrt hlk hQ hS ⟨zle (z := 2) rfl (by omega), zle (z := 12) rfl (by omega)⟩ ⟨_, rfl, σ, _, _, _, hpo, hP 0 _ rfl, Or.inl ⟨rfl, ⟨y, ⟨rfl, hR⟩, rfl⟩⟩⟩ dX0_at_19

abbrev rm_m_X0_ofElement : Room := { frames := 9, cells := 126, slots := 1232, locals := 167 }
set_option maxHeartbeats 4000000 in
theorem m_X0_ofElement {l : Launch} {s0 : State} {G : zG} (hE : zE l s0 G) (H0 : Heap) (hO : zO s0 H0) (ρ : Ro → Nat) (σ : St) (i : Int) (w : Int) (oa : Nat) (n9 : Int64) (d9 : UInt64) (s9 : Value) (hh : HC G s0 ρ σ H0) (hdm : zMn (ρ (5, 0, 0)) {} H0) (ho : zAt G oa (zOb 3 [(.long n9), (.double d9), s9]) H0) (hoa : s0.heap.size ≤ oa) (hof : ¬ FC G ρ σ oa) (hnc : zNc s0) (hi : zi i ∧ zi w) : zMW l s0 yX0_ofElement cX0_ofElement 5 (some FieldType.int) [((0 : Nat), (11 : Nat), (14 : Nat), (30 : Nat)), ((0 : Nat), (11 : Nat), (18 : Nat), (19 : Nat))] rm_m_X0_ofElement [.ref (ρ (0, 0, 0)), .int (iI i), .int (iI w), .ref oa] H0 (fun z => FC G ρ σ z ∨ z = oa) (ri (fun kk h1 => ∃ (σ' : St) (n1 : Int64) (d1 : UInt64) (s1 : Value), PoC G s0 H0 ρ σ σ' h1 ∧ zAt G oa (zOb 3 [.long n1, .double d1, s1]) h1 ∧ ((kk = 0 ∧ (∃ y, R_ofElement σ i w y σ' ∧ n1 = (iI y).toInt64)) ∨ (∃ jx : Nat, kk = ((jx + 1 : Nat) : Int) ∧ σ' = σ ∧ jx < ([IOB, IAE] : List String).length ∧ X_ofElement σ i w (([IOB, IAE] : List String).getD jx ""))))) (fun _ _ => False) := by
  refine z_metW hE (by decide +kernel) (Nat.le_of_ble_eq_true rfl) ?_
  intro pp ee ss mm args below meth cd Q ls hC hml hrt hlk hnm hH hQ htb hX hS hl
  have hx := hC.x
  have hb := hC.b
  have hl : lv_has ls 5 [(0, .ref (ρ (0, 0, 0))), (1, .int (iI i)), (2, .int (iI w)), (3, .ref oa)] := hl
  have hP : va_P G.1 zCl [] H0 := va_nil
  have hD : va_D (zA (fun z => FC G ρ σ z ∨ z = oa) H0) [] := va_nilD
  have hMo : ∀ z, (fun z => FC G ρ σ z ∨ z = oa) z → s0.heap.size ≤ z := fun z hz => hz.elim (fun w => FC.ge hh.sep w) (fun w => by rw [w]; exact hoa)
  have hol := ho.lt
  obtain ⟨sm, hxx⟩ := id hh.2.2.1.1
  have hncs := hnc.warm hC.w
  refine lv_aload_n hx hb dX0_ofElement_0 rfl (lv_at hl 3 rfl) ?_
  refine lv_aload_n hx hb dX0_ofElement_1 rfl (lv_at hl 0 rfl) ?_
  refine lv_iload_n hx hb dX0_ofElement_2 rfl (lv_at hl 1 rfl) ?_
  refine lv_iload_n hx hb dX0_ofElement_3 rfl (lv_at hl 2 rfl) ?_
  refine z_goX 126 1232 (z_runVx (As := [.int (iI i), .int (iI w)]) (rest := [.ref oa]) hC hml hl.1 (m_X1_ofElement hE H0 (hO.ext (zS_F hS) hMo) ρ σ i w hh hi) (lw_V q1413 q1414 q1415 q62 q1416) rfl nd_X1_ofElement rfl (z_rv hC (ci := 0) rfl hxx rfl) rfl (Nat.le_of_ble_eq_true rfl) ⟨Nat.le_of_ble_eq_true rfl, Nat.le_of_ble_eq_true rfl⟩ ⟨zfit (k := 126) (z := 126) rfl rfl (by omega), zfit (k := 1232) (z := 1232) rfl rfl (by omega)⟩ dX0_ofElement_4) ⟨zad (k := 126) rfl (by omega), zad (k := 1232) rfl (by omega)⟩ hS (fun _ z => z.elim) (fun E ce q9 Hx1 locs hp hF hS1 hce hcv hcl => ?_) (fun r H2 locs hp hF hS1 => ?_)
  · have hXE : X_ofElement σ i w E := hp
    have hHx : HC G s0 ρ σ Hx1 := hh.ext0 hE hF
    have hox : zAt G oa (zOb 3 [(.long n9), (.double d9), s9]) Hx1 := ho.ext hF id
    have hS := hS1
    rcases Xi_ofElement hXE with rfl | rfl
    · refine vx_catch hC.o [] ⟨0, 11, 14, 30⟩ [⟨0, 11, 18, 19⟩] (by rw [htb]; rfl) (fun z hz => nomatch hz) (by decide) (by decide) (hC.t _ q1033) (z_cst hC q1065) hce hcv hcl ?_
      refine lv_astore (lv' := [(4, .ref q9), (0, .ref (ρ (0, 0, 0))), (1, .int (iI i)), (2, .int (iI w)), (3, .ref oa)]) hx hb dX0_ofElement_14 hl (by decide) rfl (fun ls hl => ?_)
      refine lv_iconst (v := iI 1) hx hb dX0_ofElement_16 rfl ?_
      exact z_iret hC hrt hlk hQ hS ⟨zle (z := 126) rfl (by omega), zle (z := 1232) rfl (by omega)⟩ ⟨_, rfl, σ, n9, d9, s9, PoC.same hHx, hox, Or.inr ⟨0, rfl, rfl, by decide, hXE⟩⟩ dX0_ofElement_17
    · refine vx_catch hC.o [⟨0, 11, 14, 30⟩] ⟨0, 11, 18, 19⟩ [] (by rw [htb]; rfl) (fun z hz => by
        simp only [List.mem_cons, List.not_mem_nil, or_false] at hz
        subst hz
        exact Or.inr ⟨by decide, _, hC.t _ q1033, hncs.1⟩) (by decide) (by decide) (hC.t _ q899) (z_cst hC q747) hce hcv hcl ?_
      refine lv_astore (lv' := [(4, .ref q9), (0, .ref (ρ (0, 0, 0))), (1, .int (iI i)), (2, .int (iI w)), (3, .ref oa)]) hx hb dX0_ofElement_18 hl (by decide) rfl (fun ls hl => ?_)
      refine lv_iconst (v := iI 2) hx hb dX0_ofElement_20 rfl ?_
      exact z_iret hC hrt hlk hQ hS ⟨zle (z := 126) rfl (by omega), zle (z := 1232) rfl (by omega)⟩ ⟨_, rfl, σ, n9, d9, s9, PoC.same hHx, hox, Or.inr ⟨1, rfl, rfl, by decide, hXE⟩⟩ dX0_ofElement_21
  obtain ⟨y, rfl, hR⟩ := hp
  have hP : va_P G.1 zCl [(oa, zOb 3 [(.long n9), (.double d9), s9])] H2 := zP1 (ho.ext hF id)
  have hD : va_D (zA (fun z => FC G ρ σ z ∨ z = oa) H0) [(oa, zOb 3 [(.long n9), (.double d9), s9])] := zD1 (Or.inl (Or.inr rfl))
  have hpo : PoC G s0 H0 ρ σ σ H2 := PoC.same (hh.ext0 hE hF)
  have hP : va_P G.1 zCl ([(oa, zOb 3 [(.long n9), (.double d9), s9])]) H2 := hP
  have hD : va_D (zA (fun z => FC G ρ σ z ∨ z = oa) H0) ([(oa, zOb 3 [(.long n9), (.double d9), s9])]) := hD
  have hS := hS1
  refine lv_i2l hx hb dX0_ofElement_7 rfl ?_
  refine z_putnO hC hP hD hS 0 (k := 0) rfl rfl in_X4 tyX4_ok nmX4 (by decide) q886 (fun _ h => h) rfl rfl rfl rfl (Nat.le_of_ble_eq_true rfl) (ws' := [(oa, zOb 3 [(.long (iI y).toInt64), (.double d9), s9])]) rfl dX0_ofElement_8 (fun H3 locs hP hD hS hF => ?_)
  have hpo := hpo.out hE hol hof hF
  refine lv_goto (tgt := 22) hx hb dX0_ofElement_11 (by decide) ?_
  refine lv_iconst (v := iI 0) hx hb dX0_ofElement_22 rfl ?_
  exact z_iret hC hrt hlk hQ hS ⟨zle (z := 126) rfl (by omega), zle (z := 1232) rfl (by omega)⟩ ⟨_, rfl, σ, _, _, _, hpo, hP 0 _ rfl, Or.inl ⟨rfl, ⟨y, ⟨rfl, hR⟩, rfl⟩⟩⟩ dX0_ofElement_23

abbrev rm_m_X0_text : Room := { frames := 9, cells := 13, slots := 906, locals := 214 }
set_option maxHeartbeats 4000000 in
theorem m_X0_text {l : Launch} {s0 : State} {G : zG} (hE : zE l s0 G) (H0 : Heap) (hO : zO s0 H0) (ρ : Ro → Nat) (σ : St) (i : Int) (oa : Nat) (n9 : Int64) (d9 : UInt64) (s9 : Value) (hh : HC G s0 ρ σ H0) (hdm : zMn (ρ (5, 0, 0)) {} H0) (ho : zAt G oa (zOb 3 [(.long n9), (.double d9), s9]) H0) (hoa : s0.heap.size ≤ oa) (hof : ¬ FC G ρ σ oa) (hnc : zNc s0) (hi : zi i) : zMW l s0 yX0_text cX0_text 4 (some FieldType.int) [((0 : Nat), (9 : Nat), (12 : Nat), (30 : Nat))] rm_m_X0_text [.ref (ρ (0, 0, 0)), .int (iI i), .ref oa] H0 (fun z => FC G ρ σ z ∨ z = oa) (ri (fun kk h1 => ∃ (σ' : St) (n1 : Int64) (d1 : UInt64) (s1 : Value), PoC G s0 H0 ρ σ σ' h1 ∧ zAt G oa (zOb 3 [.long n1, .double d1, s1]) h1 ∧ ((kk = 0 ∧ (σ' = σ ∧ ∃ q a : Nat, s1 = .ref q ∧ (i = a ∧ a < St_ne σ) ∧ zStr G H0 q (txF (St_n σ (St_ea σ a)) (St_ev σ a)) h1)) ∨ (∃ jx : Nat, kk = ((jx + 1 : Nat) : Int) ∧ σ' = σ ∧ jx < ([IOB] : List String).length ∧ X_text σ i (([IOB] : List String).getD jx ""))))) (fun _ _ => False) := by
  refine z_metW hE (by decide +kernel) (Nat.le_of_ble_eq_true rfl) ?_
  intro pp ee ss mm args below meth cd Q ls hC hml hrt hlk hnm hH hQ htb hX hS hl
  have hx := hC.x
  have hb := hC.b
  have hl : lv_has ls 4 [(0, .ref (ρ (0, 0, 0))), (1, .int (iI i)), (2, .ref oa)] := hl
  have hP : va_P G.1 zCl [] H0 := va_nil
  have hD : va_D (zA (fun z => FC G ρ σ z ∨ z = oa) H0) [] := va_nilD
  have hMo : ∀ z, (fun z => FC G ρ σ z ∨ z = oa) z → s0.heap.size ≤ z := fun z hz => hz.elim (fun w => FC.ge hh.sep w) (fun w => by rw [w]; exact hoa)
  have hol := ho.lt
  obtain ⟨sm, hxx⟩ := id hh.2.2.1.1
  have hncs := hnc.warm hC.w
  refine lv_aload_n hx hb dX0_text_0 rfl (lv_at hl 2 rfl) ?_
  refine lv_aload_n hx hb dX0_text_1 rfl (lv_at hl 0 rfl) ?_
  refine lv_iload_n hx hb dX0_text_2 rfl (lv_at hl 1 rfl) ?_
  refine z_goX 13 906 (z_runVx (As := [.int (iI i)]) (rest := [.ref oa]) hC hml hl.1 (m_X1_text hE H0 (hO.ext (zS_F hS) hMo) ρ σ i hh hi) (lw_V q1420 q1421 q1422 q62 q1423) rfl nd_X1_text rfl (z_rv hC (ci := 0) rfl hxx rfl) rfl (Nat.le_of_ble_eq_true rfl) ⟨Nat.le_of_ble_eq_true rfl, Nat.le_of_ble_eq_true rfl⟩ ⟨zfit (k := 13) (z := 13) rfl rfl (by omega), zfit (k := 906) (z := 906) rfl rfl (by omega)⟩ dX0_text_3) ⟨zad (k := 13) rfl (by omega), zad (k := 906) rfl (by omega)⟩ hS (fun _ z => z.elim) (fun E ce q9 Hx1 locs hp hF hS1 hce hcv hcl => ?_) (fun r H2 locs hp hF hS1 => ?_)
  · have hXE : X_text σ i E := hp
    have hHx : HC G s0 ρ σ Hx1 := hh.ext0 hE hF
    have hox : zAt G oa (zOb 3 [(.long n9), (.double d9), s9]) Hx1 := ho.ext hF id
    have hS := hS1
    obtain rfl := Xi_text hXE
    refine vx_catch hC.o [] ⟨0, 9, 12, 30⟩ [] (by rw [htb]; rfl) (fun z hz => nomatch hz) (by decide) (by decide) (hC.t _ q1033) (z_cst hC q1065) hce hcv hcl ?_
    refine lv_astore_n (lv' := [(3, .ref q9), (0, .ref (ρ (0, 0, 0))), (1, .int (iI i)), (2, .ref oa)]) hx hb dX0_text_12 rfl hl (by decide) rfl (fun ls hl => ?_)
    refine lv_iconst (v := iI 1) hx hb dX0_text_13 rfl ?_
    exact z_iret hC hrt hlk hQ hS ⟨zle (z := 13) rfl (by omega), zle (z := 906) rfl (by omega)⟩ ⟨_, rfl, σ, n9, d9, s9, PoC.same hHx, hox, Or.inr ⟨0, rfl, rfl, by decide, hXE⟩⟩ dX0_text_14
  obtain ⟨y, rfl, hR⟩ := hp
  have hP : va_P G.1 zCl [(oa, zOb 3 [(.long n9), (.double d9), s9])] H2 := zP1 (ho.ext hF id)
  have hD : va_D (zA (fun z => FC G ρ σ z ∨ z = oa) H0) [(oa, zOb 3 [(.long n9), (.double d9), s9])] := zD1 (Or.inl (Or.inr rfl))
  have hpo : PoC G s0 H0 ρ σ σ H2 := PoC.same (hh.ext0 hE hF)
  have hP : va_P G.1 zCl ([(oa, zOb 3 [(.long n9), (.double d9), s9])]) H2 := hP
  have hD : va_D (zA (fun z => FC G ρ σ z ∨ z = oa) H0) ([(oa, zOb 3 [(.long n9), (.double d9), s9])]) := hD
  have hS := hS1
  refine z_putnO hC hP hD hS 0 (k := 2) rfl rfl in_X4 tyX4_ok nmX4 (by decide) q888 (fun _ h => h) rfl rfl rfl rfl (Nat.le_of_ble_eq_true rfl) (ws' := [(oa, zOb 3 [(.long n9), (.double d9), .ref y])]) rfl dX0_text_6 (fun H3 locs hP hD hS hF => ?_)
  have hpo := hpo.out hE hol hof hF
  obtain ⟨a, ha, hst⟩ := hR
  have hst := hst.ext hF (fun z hz => by rw [hz]; exact hol)
  refine lv_goto (tgt := 15) hx hb dX0_text_9 (by decide) ?_
  refine lv_iconst (v := iI 0) hx hb dX0_text_15 rfl ?_
  exact z_iret hC hrt hlk hQ hS ⟨zle (z := 13) rfl (by omega), zle (z := 906) rfl (by omega)⟩ ⟨_, rfl, σ, _, _, _, hpo, hP 0 _ rfl, Or.inl ⟨rfl, ⟨rfl, y, a, rfl, ha, hst⟩⟩⟩ dX0_text_16

abbrev rm_m_X0_ofAlgebra : Room := { frames := 9, cells := 3, slots := 16, locals := 154 }
set_option maxHeartbeats 4000000 in
theorem m_X0_ofAlgebra {l : Launch} {s0 : State} {G : zG} (hE : zE l s0 G) (H0 : Heap) (hO : zO s0 H0) (ρ : Ro → Nat) (σ : St) (i : Int) (w : Int) (oa : Nat) (n9 : Int64) (d9 : UInt64) (s9 : Value) (hh : HC G s0 ρ σ H0) (hdm : zMn (ρ (5, 0, 0)) {} H0) (ho : zAt G oa (zOb 3 [(.long n9), (.double d9), s9]) H0) (hoa : s0.heap.size ≤ oa) (hof : ¬ FC G ρ σ oa) (hnc : zNc s0) (hi : zi i ∧ zi w) : zMW l s0 yX0_ofAlgebra cX0_ofAlgebra 5 (some FieldType.int) [((0 : Nat), (11 : Nat), (14 : Nat), (30 : Nat)), ((0 : Nat), (11 : Nat), (18 : Nat), (19 : Nat))] rm_m_X0_ofAlgebra [.ref (ρ (0, 0, 0)), .int (iI i), .int (iI w), .ref oa] H0 (fun z => FC G ρ σ z ∨ z = oa) (ri (fun kk h1 => ∃ (σ' : St) (n1 : Int64) (d1 : UInt64) (s1 : Value), PoC G s0 H0 ρ σ σ' h1 ∧ zAt G oa (zOb 3 [.long n1, .double d1, s1]) h1 ∧ ((kk = 0 ∧ (∃ y, R_ofAlgebra σ i w y σ' ∧ n1 = (iI y).toInt64)) ∨ (∃ jx : Nat, kk = ((jx + 1 : Nat) : Int) ∧ σ' = σ ∧ jx < ([IOB, IAE] : List String).length ∧ X_ofAlgebra σ i w (([IOB, IAE] : List String).getD jx ""))))) (fun _ _ => False) := by
  refine z_metW hE (by decide +kernel) (Nat.le_of_ble_eq_true rfl) ?_
  intro pp ee ss mm args below meth cd Q ls hC hml hrt hlk hnm hH hQ htb hX hS hl
  have hx := hC.x
  have hb := hC.b
  have hl : lv_has ls 5 [(0, .ref (ρ (0, 0, 0))), (1, .int (iI i)), (2, .int (iI w)), (3, .ref oa)] := hl
  have hP : va_P G.1 zCl [] H0 := va_nil
  have hD : va_D (zA (fun z => FC G ρ σ z ∨ z = oa) H0) [] := va_nilD
  have hMo : ∀ z, (fun z => FC G ρ σ z ∨ z = oa) z → s0.heap.size ≤ z := fun z hz => hz.elim (fun w => FC.ge hh.sep w) (fun w => by rw [w]; exact hoa)
  have hol := ho.lt
  obtain ⟨sm, hxx⟩ := id hh.2.2.1.1
  have hncs := hnc.warm hC.w
  refine lv_aload_n hx hb dX0_ofAlgebra_0 rfl (lv_at hl 3 rfl) ?_
  refine lv_aload_n hx hb dX0_ofAlgebra_1 rfl (lv_at hl 0 rfl) ?_
  refine lv_iload_n hx hb dX0_ofAlgebra_2 rfl (lv_at hl 1 rfl) ?_
  refine lv_iload_n hx hb dX0_ofAlgebra_3 rfl (lv_at hl 2 rfl) ?_
  refine z_goX 3 16 (z_runVx (As := [.int (iI i), .int (iI w)]) (rest := [.ref oa]) hC hml hl.1 (m_X1_ofAlgebra hE H0 (hO.ext (zS_F hS) hMo) ρ σ i w hh hi) (lw_V q1427 q1428 q1429 q62 q1430) rfl nd_X1_ofAlgebra rfl (z_rv hC (ci := 0) rfl hxx rfl) rfl (Nat.le_of_ble_eq_true rfl) ⟨Nat.le_of_ble_eq_true rfl, Nat.le_of_ble_eq_true rfl⟩ ⟨zfit (k := 3) (z := 3) rfl rfl (by omega), zfit (k := 16) (z := 16) rfl rfl (by omega)⟩ dX0_ofAlgebra_4) ⟨zad (k := 3) rfl (by omega), zad (k := 16) rfl (by omega)⟩ hS (fun _ z => z.elim) (fun E ce q9 Hx1 locs hp hF hS1 hce hcv hcl => ?_) (fun r H2 locs hp hF hS1 => ?_)
  · have hXE : X_ofAlgebra σ i w E := hp
    have hHx : HC G s0 ρ σ Hx1 := hh.ext0 hE hF
    have hox : zAt G oa (zOb 3 [(.long n9), (.double d9), s9]) Hx1 := ho.ext hF id
    have hS := hS1
    rcases Xi_ofAlgebra hXE with rfl | rfl
    · refine vx_catch hC.o [] ⟨0, 11, 14, 30⟩ [⟨0, 11, 18, 19⟩] (by rw [htb]; rfl) (fun z hz => nomatch hz) (by decide) (by decide) (hC.t _ q1033) (z_cst hC q1065) hce hcv hcl ?_
      refine lv_astore (lv' := [(4, .ref q9), (0, .ref (ρ (0, 0, 0))), (1, .int (iI i)), (2, .int (iI w)), (3, .ref oa)]) hx hb dX0_ofAlgebra_14 hl (by decide) rfl (fun ls hl => ?_)
      refine lv_iconst (v := iI 1) hx hb dX0_ofAlgebra_16 rfl ?_
      exact z_iret hC hrt hlk hQ hS ⟨zle (z := 3) rfl (by omega), zle (z := 16) rfl (by omega)⟩ ⟨_, rfl, σ, n9, d9, s9, PoC.same hHx, hox, Or.inr ⟨0, rfl, rfl, by decide, hXE⟩⟩ dX0_ofAlgebra_17
    · refine vx_catch hC.o [⟨0, 11, 14, 30⟩] ⟨0, 11, 18, 19⟩ [] (by rw [htb]; rfl) (fun z hz => by
        simp only [List.mem_cons, List.not_mem_nil, or_false] at hz
        subst hz
        exact Or.inr ⟨by decide, _, hC.t _ q1033, hncs.1⟩) (by decide) (by decide) (hC.t _ q899) (z_cst hC q747) hce hcv hcl ?_
      refine lv_astore (lv' := [(4, .ref q9), (0, .ref (ρ (0, 0, 0))), (1, .int (iI i)), (2, .int (iI w)), (3, .ref oa)]) hx hb dX0_ofAlgebra_18 hl (by decide) rfl (fun ls hl => ?_)
      refine lv_iconst (v := iI 2) hx hb dX0_ofAlgebra_20 rfl ?_
      exact z_iret hC hrt hlk hQ hS ⟨zle (z := 3) rfl (by omega), zle (z := 16) rfl (by omega)⟩ ⟨_, rfl, σ, n9, d9, s9, PoC.same hHx, hox, Or.inr ⟨1, rfl, rfl, by decide, hXE⟩⟩ dX0_ofAlgebra_21
  obtain ⟨y, rfl, hR⟩ := hp
  have hP : va_P G.1 zCl [(oa, zOb 3 [(.long n9), (.double d9), s9])] H2 := zP1 (ho.ext hF id)
  have hD : va_D (zA (fun z => FC G ρ σ z ∨ z = oa) H0) [(oa, zOb 3 [(.long n9), (.double d9), s9])] := zD1 (Or.inl (Or.inr rfl))
  have hpo : PoC G s0 H0 ρ σ σ H2 := PoC.same (hh.ext0 hE hF)
  have hP : va_P G.1 zCl ([(oa, zOb 3 [(.long n9), (.double d9), s9])]) H2 := hP
  have hD : va_D (zA (fun z => FC G ρ σ z ∨ z = oa) H0) ([(oa, zOb 3 [(.long n9), (.double d9), s9])]) := hD
  have hS := hS1
  refine lv_i2l hx hb dX0_ofAlgebra_7 rfl ?_
  refine z_putnO hC hP hD hS 0 (k := 0) rfl rfl in_X4 tyX4_ok nmX4 (by decide) q886 (fun _ h => h) rfl rfl rfl rfl (Nat.le_of_ble_eq_true rfl) (ws' := [(oa, zOb 3 [(.long (iI y).toInt64), (.double d9), s9])]) rfl dX0_ofAlgebra_8 (fun H3 locs hP hD hS hF => ?_)
  have hpo := hpo.out hE hol hof hF
  refine lv_goto (tgt := 22) hx hb dX0_ofAlgebra_11 (by decide) ?_
  refine lv_iconst (v := iI 0) hx hb dX0_ofAlgebra_22 rfl ?_
  exact z_iret hC hrt hlk hQ hS ⟨zle (z := 3) rfl (by omega), zle (z := 16) rfl (by omega)⟩ ⟨_, rfl, σ, _, _, _, hpo, hP 0 _ rfl, Or.inl ⟨rfl, ⟨y, ⟨rfl, hR⟩, rfl⟩⟩⟩ dX0_ofAlgebra_23

abbrev rm_m_X0_sign : Room := { frames := 9, cells := 3, slots := 18, locals := 156 }
set_option maxHeartbeats 4000000 in
theorem m_X0_sign {l : Launch} {s0 : State} {G : zG} (hE : zE l s0 G) (H0 : Heap) (hO : zO s0 H0) (ρ : Ro → Nat) (σ : St) (i : Int) (u : Int) (v : Int) (oa : Nat) (n9 : Int64) (d9 : UInt64) (s9 : Value) (hh : HC G s0 ρ σ H0) (hdm : zMn (ρ (5, 0, 0)) {} H0) (ho : zAt G oa (zOb 3 [(.long n9), (.double d9), s9]) H0) (hoa : s0.heap.size ≤ oa) (hof : ¬ FC G ρ σ oa) (hnc : zNc s0) (hi : zi i ∧ zi u ∧ zi v) : zMW l s0 yX0_sign cX0_sign 6 (some FieldType.int) [((0 : Nat), (13 : Nat), (16 : Nat), (30 : Nat))] rm_m_X0_sign [.ref (ρ (0, 0, 0)), .int (iI i), .int (iI u), .int (iI v), .ref oa] H0 (fun z => FC G ρ σ z ∨ z = oa) (ri (fun kk h1 => ∃ (σ' : St) (n1 : Int64) (d1 : UInt64) (s1 : Value), PoC G s0 H0 ρ σ σ' h1 ∧ zAt G oa (zOb 3 [.long n1, .double d1, s1]) h1 ∧ ((kk = 0 ∧ (∃ y, R_sign σ i u v y σ' ∧ n1 = (iI y).toInt64)) ∨ (∃ jx : Nat, kk = ((jx + 1 : Nat) : Int) ∧ σ' = σ ∧ jx < ([IOB] : List String).length ∧ X_sign σ i u v (([IOB] : List String).getD jx ""))))) (fun _ _ => False) := by
  refine z_metW hE (by decide +kernel) (Nat.le_of_ble_eq_true rfl) ?_
  intro pp ee ss mm args below meth cd Q ls hC hml hrt hlk hnm hH hQ htb hX hS hl
  have hx := hC.x
  have hb := hC.b
  have hl : lv_has ls 6 [(0, .ref (ρ (0, 0, 0))), (1, .int (iI i)), (2, .int (iI u)), (3, .int (iI v)), (4, .ref oa)] := hl
  have hP : va_P G.1 zCl [] H0 := va_nil
  have hD : va_D (zA (fun z => FC G ρ σ z ∨ z = oa) H0) [] := va_nilD
  have hMo : ∀ z, (fun z => FC G ρ σ z ∨ z = oa) z → s0.heap.size ≤ z := fun z hz => hz.elim (fun w => FC.ge hh.sep w) (fun w => by rw [w]; exact hoa)
  have hol := ho.lt
  obtain ⟨sm, hxx⟩ := id hh.2.2.1.1
  have hncs := hnc.warm hC.w
  refine lv_aload hx hb dX0_sign_0 (lv_at hl 4 rfl) ?_
  refine lv_aload_n hx hb dX0_sign_2 rfl (lv_at hl 0 rfl) ?_
  refine lv_iload_n hx hb dX0_sign_3 rfl (lv_at hl 1 rfl) ?_
  refine lv_iload_n hx hb dX0_sign_4 rfl (lv_at hl 2 rfl) ?_
  refine lv_iload_n hx hb dX0_sign_5 rfl (lv_at hl 3 rfl) ?_
  refine z_goX 3 18 (z_runVx (As := [.int (iI i), .int (iI u), .int (iI v)]) (rest := [.ref oa]) hC hml hl.1 (m_X1_sign hE H0 (hO.ext (zS_F hS) hMo) ρ σ i u v hh hi) (lw_V q1434 q1435 q1436 q62 q1437) rfl nd_X1_sign rfl (z_rv hC (ci := 0) rfl hxx rfl) rfl (Nat.le_of_ble_eq_true rfl) ⟨Nat.le_of_ble_eq_true rfl, Nat.le_of_ble_eq_true rfl⟩ ⟨zfit (k := 3) (z := 3) rfl rfl (by omega), zfit (k := 18) (z := 18) rfl rfl (by omega)⟩ dX0_sign_6) ⟨zad (k := 3) rfl (by omega), zad (k := 18) rfl (by omega)⟩ hS (fun _ z => z.elim) (fun E ce q9 Hx1 locs hp hF hS1 hce hcv hcl => ?_) (fun r H2 locs hp hF hS1 => ?_)
  · have hXE : X_sign σ i u v E := hp
    have hHx : HC G s0 ρ σ Hx1 := hh.ext0 hE hF
    have hox : zAt G oa (zOb 3 [(.long n9), (.double d9), s9]) Hx1 := ho.ext hF id
    have hS := hS1
    obtain rfl := Xi_sign hXE
    refine vx_catch hC.o [] ⟨0, 13, 16, 30⟩ [] (by rw [htb]; rfl) (fun z hz => nomatch hz) (by decide) (by decide) (hC.t _ q1033) (z_cst hC q1065) hce hcv hcl ?_
    refine lv_astore (lv' := [(5, .ref q9), (0, .ref (ρ (0, 0, 0))), (1, .int (iI i)), (2, .int (iI u)), (3, .int (iI v)), (4, .ref oa)]) hx hb dX0_sign_16 hl (by decide) rfl (fun ls hl => ?_)
    refine lv_iconst (v := iI 1) hx hb dX0_sign_18 rfl ?_
    exact z_iret hC hrt hlk hQ hS ⟨zle (z := 3) rfl (by omega), zle (z := 18) rfl (by omega)⟩ ⟨_, rfl, σ, n9, d9, s9, PoC.same hHx, hox, Or.inr ⟨0, rfl, rfl, by decide, hXE⟩⟩ dX0_sign_19
  obtain ⟨y, rfl, hR⟩ := hp
  have hP : va_P G.1 zCl [(oa, zOb 3 [(.long n9), (.double d9), s9])] H2 := zP1 (ho.ext hF id)
  have hD : va_D (zA (fun z => FC G ρ σ z ∨ z = oa) H0) [(oa, zOb 3 [(.long n9), (.double d9), s9])] := zD1 (Or.inl (Or.inr rfl))
  have hpo : PoC G s0 H0 ρ σ σ H2 := PoC.same (hh.ext0 hE hF)
  have hP : va_P G.1 zCl ([(oa, zOb 3 [(.long n9), (.double d9), s9])]) H2 := hP
  have hD : va_D (zA (fun z => FC G ρ σ z ∨ z = oa) H0) ([(oa, zOb 3 [(.long n9), (.double d9), s9])]) := hD
  have hS := hS1
  refine lv_i2l hx hb dX0_sign_9 rfl ?_
  refine z_putnO hC hP hD hS 0 (k := 0) rfl rfl in_X4 tyX4_ok nmX4 (by decide) q886 (fun _ h => h) rfl rfl rfl rfl (Nat.le_of_ble_eq_true rfl) (ws' := [(oa, zOb 3 [(.long (iI y).toInt64), (.double d9), s9])]) rfl dX0_sign_10 (fun H3 locs hP hD hS hF => ?_)
  have hpo := hpo.out hE hol hof hF
  refine lv_goto (tgt := 20) hx hb dX0_sign_13 (by decide) ?_
  refine lv_iconst (v := iI 0) hx hb dX0_sign_20 rfl ?_
  exact z_iret hC hrt hlk hQ hS ⟨zle (z := 3) rfl (by omega), zle (z := 18) rfl (by omega)⟩ ⟨_, rfl, σ, _, _, _, hpo, hP 0 _ rfl, Or.inl ⟨rfl, ⟨y, ⟨rfl, hR⟩, rfl⟩⟩⟩ dX0_sign_21

abbrev rm_m_X0_breaks : Room := { frames := 9, cells := 2, slots := 12, locals := 155 }
set_option maxHeartbeats 4000000 in
theorem m_X0_breaks {l : Launch} {s0 : State} {G : zG} (hE : zE l s0 G) (H0 : Heap) (hO : zO s0 H0) (ρ : Ro → Nat) (σ : St) (i : Int) (u : Int) (oa : Nat) (n9 : Int64) (d9 : UInt64) (s9 : Value) (hh : HC G s0 ρ σ H0) (hdm : zMn (ρ (5, 0, 0)) {} H0) (ho : zAt G oa (zOb 3 [(.long n9), (.double d9), s9]) H0) (hoa : s0.heap.size ≤ oa) (hof : ¬ FC G ρ σ oa) (hnc : zNc s0) (hi : zi i ∧ zi u) : zMW l s0 yX0_breaks cX0_breaks 5 (some FieldType.int) [((0 : Nat), (11 : Nat), (14 : Nat), (30 : Nat))] rm_m_X0_breaks [.ref (ρ (0, 0, 0)), .int (iI i), .int (iI u), .ref oa] H0 (fun z => FC G ρ σ z ∨ z = oa) (ri (fun kk h1 => ∃ (σ' : St) (n1 : Int64) (d1 : UInt64) (s1 : Value), PoC G s0 H0 ρ σ σ' h1 ∧ zAt G oa (zOb 3 [.long n1, .double d1, s1]) h1 ∧ ((kk = 0 ∧ (∃ y, R_breaks σ i u y σ' ∧ n1 = (iI y).toInt64)) ∨ (∃ jx : Nat, kk = ((jx + 1 : Nat) : Int) ∧ σ' = σ ∧ jx < ([IOB] : List String).length ∧ X_breaks σ i u (([IOB] : List String).getD jx ""))))) (fun _ _ => False) := by
  refine z_metW hE (by decide +kernel) (Nat.le_of_ble_eq_true rfl) ?_
  intro pp ee ss mm args below meth cd Q ls hC hml hrt hlk hnm hH hQ htb hX hS hl
  have hx := hC.x
  have hb := hC.b
  have hl : lv_has ls 5 [(0, .ref (ρ (0, 0, 0))), (1, .int (iI i)), (2, .int (iI u)), (3, .ref oa)] := hl
  have hP : va_P G.1 zCl [] H0 := va_nil
  have hD : va_D (zA (fun z => FC G ρ σ z ∨ z = oa) H0) [] := va_nilD
  have hMo : ∀ z, (fun z => FC G ρ σ z ∨ z = oa) z → s0.heap.size ≤ z := fun z hz => hz.elim (fun w => FC.ge hh.sep w) (fun w => by rw [w]; exact hoa)
  have hol := ho.lt
  obtain ⟨sm, hxx⟩ := id hh.2.2.1.1
  have hncs := hnc.warm hC.w
  refine lv_aload_n hx hb dX0_breaks_0 rfl (lv_at hl 3 rfl) ?_
  refine lv_aload_n hx hb dX0_breaks_1 rfl (lv_at hl 0 rfl) ?_
  refine lv_iload_n hx hb dX0_breaks_2 rfl (lv_at hl 1 rfl) ?_
  refine lv_iload_n hx hb dX0_breaks_3 rfl (lv_at hl 2 rfl) ?_
  refine z_goX 2 12 (z_runVx (As := [.int (iI i), .int (iI u)]) (rest := [.ref oa]) hC hml hl.1 (m_X1_breaks hE H0 (hO.ext (zS_F hS) hMo) ρ σ i u hh hi) (lw_V q1441 q1442 q1443 q62 q1444) rfl nd_X1_breaks rfl (z_rv hC (ci := 0) rfl hxx rfl) rfl (Nat.le_of_ble_eq_true rfl) ⟨Nat.le_of_ble_eq_true rfl, Nat.le_of_ble_eq_true rfl⟩ ⟨zfit (k := 2) (z := 2) rfl rfl (by omega), zfit (k := 12) (z := 12) rfl rfl (by omega)⟩ dX0_breaks_4) ⟨zad (k := 2) rfl (by omega), zad (k := 12) rfl (by omega)⟩ hS (fun _ z => z.elim) (fun E ce q9 Hx1 locs hp hF hS1 hce hcv hcl => ?_) (fun r H2 locs hp hF hS1 => ?_)
  · have hXE : X_breaks σ i u E := hp
    have hHx : HC G s0 ρ σ Hx1 := hh.ext0 hE hF
    have hox : zAt G oa (zOb 3 [(.long n9), (.double d9), s9]) Hx1 := ho.ext hF id
    have hS := hS1
    obtain rfl := Xi_breaks hXE
    refine vx_catch hC.o [] ⟨0, 11, 14, 30⟩ [] (by rw [htb]; rfl) (fun z hz => nomatch hz) (by decide) (by decide) (hC.t _ q1033) (z_cst hC q1065) hce hcv hcl ?_
    refine lv_astore (lv' := [(4, .ref q9), (0, .ref (ρ (0, 0, 0))), (1, .int (iI i)), (2, .int (iI u)), (3, .ref oa)]) hx hb dX0_breaks_14 hl (by decide) rfl (fun ls hl => ?_)
    refine lv_iconst (v := iI 1) hx hb dX0_breaks_16 rfl ?_
    exact z_iret hC hrt hlk hQ hS ⟨zle (z := 2) rfl (by omega), zle (z := 12) rfl (by omega)⟩ ⟨_, rfl, σ, n9, d9, s9, PoC.same hHx, hox, Or.inr ⟨0, rfl, rfl, by decide, hXE⟩⟩ dX0_breaks_17
  obtain ⟨y, rfl, hR⟩ := hp
  have hP : va_P G.1 zCl [(oa, zOb 3 [(.long n9), (.double d9), s9])] H2 := zP1 (ho.ext hF id)
  have hD : va_D (zA (fun z => FC G ρ σ z ∨ z = oa) H0) [(oa, zOb 3 [(.long n9), (.double d9), s9])] := zD1 (Or.inl (Or.inr rfl))
  have hpo : PoC G s0 H0 ρ σ σ H2 := PoC.same (hh.ext0 hE hF)
  have hP : va_P G.1 zCl ([(oa, zOb 3 [(.long n9), (.double d9), s9])]) H2 := hP
  have hD : va_D (zA (fun z => FC G ρ σ z ∨ z = oa) H0) ([(oa, zOb 3 [(.long n9), (.double d9), s9])]) := hD
  have hS := hS1
  refine lv_i2l hx hb dX0_breaks_7 rfl ?_
  refine z_putnO hC hP hD hS 0 (k := 0) rfl rfl in_X4 tyX4_ok nmX4 (by decide) q886 (fun _ h => h) rfl rfl rfl rfl (Nat.le_of_ble_eq_true rfl) (ws' := [(oa, zOb 3 [(.long (iI y).toInt64), (.double d9), s9])]) rfl dX0_breaks_8 (fun H3 locs hP hD hS hF => ?_)
  have hpo := hpo.out hE hol hof hF
  refine lv_goto (tgt := 18) hx hb dX0_breaks_11 (by decide) ?_
  refine lv_iconst (v := iI 0) hx hb dX0_breaks_18 rfl ?_
  exact z_iret hC hrt hlk hQ hS ⟨zle (z := 2) rfl (by omega), zle (z := 12) rfl (by omega)⟩ ⟨_, rfl, σ, _, _, _, hpo, hP 0 _ rfl, Or.inl ⟨rfl, ⟨y, ⟨rfl, hR⟩, rfl⟩⟩⟩ dX0_breaks_19

abbrev rm_m_X0_lean : Room := { frames := 9, cells := 1, slots := 6, locals := 153 }
set_option maxHeartbeats 4000000 in
theorem m_X0_lean {l : Launch} {s0 : State} {G : zG} (hE : zE l s0 G) (H0 : Heap) (hO : zO s0 H0) (ρ : Ro → Nat) (σ : St) (i : Int) (oa : Nat) (n9 : Int64) (d9 : UInt64) (s9 : Value) (hh : HC G s0 ρ σ H0) (hdm : zMn (ρ (5, 0, 0)) {} H0) (ho : zAt G oa (zOb 3 [(.long n9), (.double d9), s9]) H0) (hoa : s0.heap.size ≤ oa) (hof : ¬ FC G ρ σ oa) (hnc : zNc s0) (hi : zi i) : zMW l s0 yX0_lean cX0_lean 4 (some FieldType.int) [((0 : Nat), (9 : Nat), (12 : Nat), (30 : Nat))] rm_m_X0_lean [.ref (ρ (0, 0, 0)), .int (iI i), .ref oa] H0 (fun z => FC G ρ σ z ∨ z = oa) (ri (fun kk h1 => ∃ (σ' : St) (n1 : Int64) (d1 : UInt64) (s1 : Value), PoC G s0 H0 ρ σ σ' h1 ∧ zAt G oa (zOb 3 [.long n1, .double d1, s1]) h1 ∧ ((kk = 0 ∧ (R_lean σ i d1 σ')) ∨ (∃ jx : Nat, kk = ((jx + 1 : Nat) : Int) ∧ σ' = σ ∧ jx < ([IOB] : List String).length ∧ X_lean σ i (([IOB] : List String).getD jx ""))))) (fun _ _ => False) := by
  refine z_metW hE (by decide +kernel) (Nat.le_of_ble_eq_true rfl) ?_
  intro pp ee ss mm args below meth cd Q ls hC hml hrt hlk hnm hH hQ htb hX hS hl
  have hx := hC.x
  have hb := hC.b
  have hl : lv_has ls 4 [(0, .ref (ρ (0, 0, 0))), (1, .int (iI i)), (2, .ref oa)] := hl
  have hP : va_P G.1 zCl [] H0 := va_nil
  have hD : va_D (zA (fun z => FC G ρ σ z ∨ z = oa) H0) [] := va_nilD
  have hMo : ∀ z, (fun z => FC G ρ σ z ∨ z = oa) z → s0.heap.size ≤ z := fun z hz => hz.elim (fun w => FC.ge hh.sep w) (fun w => by rw [w]; exact hoa)
  have hol := ho.lt
  obtain ⟨sm, hxx⟩ := id hh.2.2.1.1
  have hncs := hnc.warm hC.w
  refine lv_aload_n hx hb dX0_lean_0 rfl (lv_at hl 2 rfl) ?_
  refine lv_aload_n hx hb dX0_lean_1 rfl (lv_at hl 0 rfl) ?_
  refine lv_iload_n hx hb dX0_lean_2 rfl (lv_at hl 1 rfl) ?_
  refine z_goX 1 6 (z_runVx (As := [.int (iI i)]) (rest := [.ref oa]) hC hml hl.1 (m_X1_lean hE H0 (hO.ext (zS_F hS) hMo) ρ σ i hh hi) (lw_V q1448 q1449 q1450 q62 q1451) rfl nd_X1_lean rfl (z_rv hC (ci := 0) rfl hxx rfl) rfl (Nat.le_of_ble_eq_true rfl) ⟨Nat.le_of_ble_eq_true rfl, Nat.le_of_ble_eq_true rfl⟩ ⟨zfit (k := 1) (z := 1) rfl rfl (by omega), zfit (k := 6) (z := 6) rfl rfl (by omega)⟩ dX0_lean_3) ⟨zad (k := 1) rfl (by omega), zad (k := 6) rfl (by omega)⟩ hS (fun _ z => z.elim) (fun E ce q9 Hx1 locs hp hF hS1 hce hcv hcl => ?_) (fun r H2 locs hp hF hS1 => ?_)
  · have hXE : X_lean σ i E := hp
    have hHx : HC G s0 ρ σ Hx1 := hh.ext0 hE hF
    have hox : zAt G oa (zOb 3 [(.long n9), (.double d9), s9]) Hx1 := ho.ext hF id
    have hS := hS1
    obtain rfl := Xi_lean hXE
    refine vx_catch hC.o [] ⟨0, 9, 12, 30⟩ [] (by rw [htb]; rfl) (fun z hz => nomatch hz) (by decide) (by decide) (hC.t _ q1033) (z_cst hC q1065) hce hcv hcl ?_
    refine lv_astore_n (lv' := [(3, .ref q9), (0, .ref (ρ (0, 0, 0))), (1, .int (iI i)), (2, .ref oa)]) hx hb dX0_lean_12 rfl hl (by decide) rfl (fun ls hl => ?_)
    refine lv_iconst (v := iI 1) hx hb dX0_lean_13 rfl ?_
    exact z_iret hC hrt hlk hQ hS ⟨zle (z := 1) rfl (by omega), zle (z := 6) rfl (by omega)⟩ ⟨_, rfl, σ, n9, d9, s9, PoC.same hHx, hox, Or.inr ⟨0, rfl, rfl, by decide, hXE⟩⟩ dX0_lean_14
  obtain ⟨y, rfl, hR⟩ := hp
  have hP : va_P G.1 zCl [(oa, zOb 3 [(.long n9), (.double d9), s9])] H2 := zP1 (ho.ext hF id)
  have hD : va_D (zA (fun z => FC G ρ σ z ∨ z = oa) H0) [(oa, zOb 3 [(.long n9), (.double d9), s9])] := zD1 (Or.inl (Or.inr rfl))
  have hpo : PoC G s0 H0 ρ σ σ H2 := PoC.same (hh.ext0 hE hF)
  have hP : va_P G.1 zCl ([(oa, zOb 3 [(.long n9), (.double d9), s9])]) H2 := hP
  have hD : va_D (zA (fun z => FC G ρ σ z ∨ z = oa) H0) ([(oa, zOb 3 [(.long n9), (.double d9), s9])]) := hD
  have hS := hS1
  refine z_putnO hC hP hD hS 0 (k := 1) rfl rfl in_X4 tyX4_ok nmX4 (by decide) q887 (fun _ h => h) rfl rfl rfl rfl (Nat.le_of_ble_eq_true rfl) (ws' := [(oa, zOb 3 [(.long n9), .double y, s9])]) rfl dX0_lean_6 (fun H3 locs hP hD hS hF => ?_)
  have hpo := hpo.out hE hol hof hF
  refine lv_goto (tgt := 15) hx hb dX0_lean_9 (by decide) ?_
  refine lv_iconst (v := iI 0) hx hb dX0_lean_15 rfl ?_
  exact z_iret hC hrt hlk hQ hS ⟨zle (z := 1) rfl (by omega), zle (z := 6) rfl (by omega)⟩ ⟨_, rfl, σ, _, _, _, hpo, hP 0 _ rfl, Or.inl ⟨rfl, ⟨rfl, hR⟩⟩⟩ dX0_lean_16

abbrev rm_m_X0_many : Room := { frames := 8, cells := 61, slots := 706, locals := 172 }
set_option maxHeartbeats 4000000 in
theorem m_X0_many {l : Launch} {s0 : State} {G : zG} (hE : zE l s0 G) (H0 : Heap) (hO : zO s0 H0) (ρ : Ro → Nat) (σ : St) (w : Int) (oa : Nat) (n9 : Int64) (d9 : UInt64) (s9 : Value) (hh : HC G s0 ρ σ H0) (hdm : zMn (ρ (5, 0, 0)) {} H0) (ho : zAt G oa (zOb 3 [(.long n9), (.double d9), s9]) H0) (hoa : s0.heap.size ≤ oa) (hof : ¬ FC G ρ σ oa) (hnc : zNc s0) (hi : zi w) : zMW l s0 yX0_many cX0_many 4 (some FieldType.int) [((0 : Nat), (10 : Nat), (13 : Nat), (19 : Nat))] rm_m_X0_many [.ref (ρ (0, 0, 0)), .int (iI w), .ref oa] H0 (fun z => FC G ρ σ z ∨ z = oa) (ri (fun kk h1 => ∃ (σ' : St) (n1 : Int64) (d1 : UInt64) (s1 : Value), PoC G s0 H0 ρ σ σ' h1 ∧ zAt G oa (zOb 3 [.long n1, .double d1, s1]) h1 ∧ ((kk = 0 ∧ (∃ y, R_many σ w y σ' ∧ n1 = (iI y).toInt64)) ∨ (∃ jx : Nat, kk = ((jx + 1 : Nat) : Int) ∧ σ' = σ ∧ jx < ([IAE] : List String).length ∧ X_many σ w (([IAE] : List String).getD jx ""))))) (fun _ _ => False) := by
  refine z_metW hE (by decide +kernel) (Nat.le_of_ble_eq_true rfl) ?_
  intro pp ee ss mm args below meth cd Q ls hC hml hrt hlk hnm hH hQ htb hX hS hl
  have hx := hC.x
  have hb := hC.b
  have hl : lv_has ls 4 [(0, .ref (ρ (0, 0, 0))), (1, .int (iI w)), (2, .ref oa)] := hl
  have hP : va_P G.1 zCl [] H0 := va_nil
  have hD : va_D (zA (fun z => FC G ρ σ z ∨ z = oa) H0) [] := va_nilD
  have hMo : ∀ z, (fun z => FC G ρ σ z ∨ z = oa) z → s0.heap.size ≤ z := fun z hz => hz.elim (fun w => FC.ge hh.sep w) (fun w => by rw [w]; exact hoa)
  have hol := ho.lt
  obtain ⟨sm, hxx⟩ := id hh.2.2.1.1
  have hncs := hnc.warm hC.w
  refine lv_aload_n hx hb dX0_many_0 rfl (lv_at hl 2 rfl) ?_
  refine lv_aload_n hx hb dX0_many_1 rfl (lv_at hl 0 rfl) ?_
  refine lv_iload_n hx hb dX0_many_2 rfl (lv_at hl 1 rfl) ?_
  refine z_goX 61 706 (z_runVx (As := [.int (iI w)]) (rest := [.ref oa]) hC hml hl.1 (m_X1_many hE H0 (hO.ext (zS_F hS) hMo) ρ σ w hh hi) (lw_V q1455 q1456 q1457 q62 q1458) rfl nd_X1_many rfl (z_rv hC (ci := 0) rfl hxx rfl) rfl (Nat.le_of_ble_eq_true rfl) ⟨Nat.le_of_ble_eq_true rfl, Nat.le_of_ble_eq_true rfl⟩ ⟨zfit (k := 61) (z := 61) rfl rfl (by omega), zfit (k := 706) (z := 706) rfl rfl (by omega)⟩ dX0_many_3) ⟨zad (k := 61) rfl (by omega), zad (k := 706) rfl (by omega)⟩ hS (fun _ z => z.elim) (fun E ce q9 Hx1 locs hp hF hS1 hce hcv hcl => ?_) (fun r H2 locs hp hF hS1 => ?_)
  · have hXE : X_many σ w E := hp
    have hHx : HC G s0 ρ σ Hx1 := hh.ext0 hE hF
    have hox : zAt G oa (zOb 3 [(.long n9), (.double d9), s9]) Hx1 := ho.ext hF id
    have hS := hS1
    obtain rfl := Xi_many hXE
    refine vx_catch hC.o [] ⟨0, 10, 13, 19⟩ [] (by rw [htb]; rfl) (fun z hz => nomatch hz) (by decide) (by decide) (hC.t _ q899) (z_cst hC q747) hce hcv hcl ?_
    refine lv_astore_n (lv' := [(3, .ref q9), (0, .ref (ρ (0, 0, 0))), (1, .int (iI w)), (2, .ref oa)]) hx hb dX0_many_13 rfl hl (by decide) rfl (fun ls hl => ?_)
    refine lv_iconst (v := iI 1) hx hb dX0_many_14 rfl ?_
    exact z_iret hC hrt hlk hQ hS ⟨zle (z := 61) rfl (by omega), zle (z := 706) rfl (by omega)⟩ ⟨_, rfl, σ, n9, d9, s9, PoC.same hHx, hox, Or.inr ⟨0, rfl, rfl, by decide, hXE⟩⟩ dX0_many_15
  obtain ⟨y, rfl, hR⟩ := hp
  have hP : va_P G.1 zCl [(oa, zOb 3 [(.long n9), (.double d9), s9])] H2 := zP1 (ho.ext hF id)
  have hD : va_D (zA (fun z => FC G ρ σ z ∨ z = oa) H0) [(oa, zOb 3 [(.long n9), (.double d9), s9])] := zD1 (Or.inl (Or.inr rfl))
  have hpo : PoC G s0 H0 ρ σ σ H2 := PoC.same (hh.ext0 hE hF)
  have hP : va_P G.1 zCl ([(oa, zOb 3 [(.long n9), (.double d9), s9])]) H2 := hP
  have hD : va_D (zA (fun z => FC G ρ σ z ∨ z = oa) H0) ([(oa, zOb 3 [(.long n9), (.double d9), s9])]) := hD
  have hS := hS1
  refine lv_i2l hx hb dX0_many_6 rfl ?_
  refine z_putnO hC hP hD hS 0 (k := 0) rfl rfl in_X4 tyX4_ok nmX4 (by decide) q886 (fun _ h => h) rfl rfl rfl rfl (Nat.le_of_ble_eq_true rfl) (ws' := [(oa, zOb 3 [(.long (iI y).toInt64), (.double d9), s9])]) rfl dX0_many_7 (fun H3 locs hP hD hS hF => ?_)
  have hpo := hpo.out hE hol hof hF
  refine lv_goto (tgt := 16) hx hb dX0_many_10 (by decide) ?_
  refine lv_iconst (v := iI 0) hx hb dX0_many_16 rfl ?_
  exact z_iret hC hrt hlk hQ hS ⟨zle (z := 61) rfl (by omega), zle (z := 706) rfl (by omega)⟩ ⟨_, rfl, σ, _, _, _, hpo, hP 0 _ rfl, Or.inl ⟨rfl, ⟨y, ⟨rfl, hR⟩, rfl⟩⟩⟩ dX0_many_17

abbrev rm_m_X0_apart : Room := { frames := 9, cells := 9, slots := 75, locals := 156 }
set_option maxHeartbeats 4000000 in
theorem m_X0_apart {l : Launch} {s0 : State} {G : zG} (hE : zE l s0 G) (H0 : Heap) (hO : zO s0 H0) (ρ : Ro → Nat) (σ : St) (i : Int) (j : Int) (oa : Nat) (n9 : Int64) (d9 : UInt64) (s9 : Value) (hh : HC G s0 ρ σ H0) (hdm : zMn (ρ (5, 0, 0)) {} H0) (ho : zAt G oa (zOb 3 [(.long n9), (.double d9), s9]) H0) (hoa : s0.heap.size ≤ oa) (hof : ¬ FC G ρ σ oa) (hnc : zNc s0) (hi : zi i ∧ zi j) : zMW l s0 yX0_apart cX0_apart 5 (some FieldType.int) [((0 : Nat), (11 : Nat), (14 : Nat), (30 : Nat)), ((0 : Nat), (11 : Nat), (18 : Nat), (19 : Nat))] rm_m_X0_apart [.ref (ρ (0, 0, 0)), .int (iI i), .int (iI j), .ref oa] H0 (fun z => FC G ρ σ z ∨ z = oa) (ri (fun kk h1 => ∃ (σ' : St) (n1 : Int64) (d1 : UInt64) (s1 : Value), PoC G s0 H0 ρ σ σ' h1 ∧ zAt G oa (zOb 3 [.long n1, .double d1, s1]) h1 ∧ ((kk = 0 ∧ (∃ y, R_apart σ i j y σ' ∧ n1 = (iI y).toInt64)) ∨ (∃ jx : Nat, kk = ((jx + 1 : Nat) : Int) ∧ σ' = σ ∧ jx < ([IOB, IAE] : List String).length ∧ X_apart σ i j (([IOB, IAE] : List String).getD jx ""))))) (fun _ _ => False) := by
  refine z_metW hE (by decide +kernel) (Nat.le_of_ble_eq_true rfl) ?_
  intro pp ee ss mm args below meth cd Q ls hC hml hrt hlk hnm hH hQ htb hX hS hl
  have hx := hC.x
  have hb := hC.b
  have hl : lv_has ls 5 [(0, .ref (ρ (0, 0, 0))), (1, .int (iI i)), (2, .int (iI j)), (3, .ref oa)] := hl
  have hP : va_P G.1 zCl [] H0 := va_nil
  have hD : va_D (zA (fun z => FC G ρ σ z ∨ z = oa) H0) [] := va_nilD
  have hMo : ∀ z, (fun z => FC G ρ σ z ∨ z = oa) z → s0.heap.size ≤ z := fun z hz => hz.elim (fun w => FC.ge hh.sep w) (fun w => by rw [w]; exact hoa)
  have hol := ho.lt
  obtain ⟨sm, hxx⟩ := id hh.2.2.1.1
  have hncs := hnc.warm hC.w
  refine lv_aload_n hx hb dX0_apart_0 rfl (lv_at hl 3 rfl) ?_
  refine lv_aload_n hx hb dX0_apart_1 rfl (lv_at hl 0 rfl) ?_
  refine lv_iload_n hx hb dX0_apart_2 rfl (lv_at hl 1 rfl) ?_
  refine lv_iload_n hx hb dX0_apart_3 rfl (lv_at hl 2 rfl) ?_
  refine z_goX 9 75 (z_runVx (As := [.int (iI i), .int (iI j)]) (rest := [.ref oa]) hC hml hl.1 (m_X1_apart hE H0 (hO.ext (zS_F hS) hMo) ρ σ i j hh hi) (lw_V q1462 q1463 q1464 q62 q1465) rfl nd_X1_apart rfl (z_rv hC (ci := 0) rfl hxx rfl) rfl (Nat.le_of_ble_eq_true rfl) ⟨Nat.le_of_ble_eq_true rfl, Nat.le_of_ble_eq_true rfl⟩ ⟨zfit (k := 9) (z := 9) rfl rfl (by omega), zfit (k := 75) (z := 75) rfl rfl (by omega)⟩ dX0_apart_4) ⟨zad (k := 9) rfl (by omega), zad (k := 75) rfl (by omega)⟩ hS (fun _ z => z.elim) (fun E ce q9 Hx1 locs hp hF hS1 hce hcv hcl => ?_) (fun r H2 locs hp hF hS1 => ?_)
  · have hXE : X_apart σ i j E := hp
    have hHx : HC G s0 ρ σ Hx1 := hh.ext0 hE hF
    have hox : zAt G oa (zOb 3 [(.long n9), (.double d9), s9]) Hx1 := ho.ext hF id
    have hS := hS1
    rcases Xi_apart hXE with rfl | rfl
    · refine vx_catch hC.o [] ⟨0, 11, 14, 30⟩ [⟨0, 11, 18, 19⟩] (by rw [htb]; rfl) (fun z hz => nomatch hz) (by decide) (by decide) (hC.t _ q1033) (z_cst hC q1065) hce hcv hcl ?_
      refine lv_astore (lv' := [(4, .ref q9), (0, .ref (ρ (0, 0, 0))), (1, .int (iI i)), (2, .int (iI j)), (3, .ref oa)]) hx hb dX0_apart_14 hl (by decide) rfl (fun ls hl => ?_)
      refine lv_iconst (v := iI 1) hx hb dX0_apart_16 rfl ?_
      exact z_iret hC hrt hlk hQ hS ⟨zle (z := 9) rfl (by omega), zle (z := 75) rfl (by omega)⟩ ⟨_, rfl, σ, n9, d9, s9, PoC.same hHx, hox, Or.inr ⟨0, rfl, rfl, by decide, hXE⟩⟩ dX0_apart_17
    · refine vx_catch hC.o [⟨0, 11, 14, 30⟩] ⟨0, 11, 18, 19⟩ [] (by rw [htb]; rfl) (fun z hz => by
        simp only [List.mem_cons, List.not_mem_nil, or_false] at hz
        subst hz
        exact Or.inr ⟨by decide, _, hC.t _ q1033, hncs.1⟩) (by decide) (by decide) (hC.t _ q899) (z_cst hC q747) hce hcv hcl ?_
      refine lv_astore (lv' := [(4, .ref q9), (0, .ref (ρ (0, 0, 0))), (1, .int (iI i)), (2, .int (iI j)), (3, .ref oa)]) hx hb dX0_apart_18 hl (by decide) rfl (fun ls hl => ?_)
      refine lv_iconst (v := iI 2) hx hb dX0_apart_20 rfl ?_
      exact z_iret hC hrt hlk hQ hS ⟨zle (z := 9) rfl (by omega), zle (z := 75) rfl (by omega)⟩ ⟨_, rfl, σ, n9, d9, s9, PoC.same hHx, hox, Or.inr ⟨1, rfl, rfl, by decide, hXE⟩⟩ dX0_apart_21
  obtain ⟨y, rfl, hR⟩ := hp
  have hP : va_P G.1 zCl [(oa, zOb 3 [(.long n9), (.double d9), s9])] H2 := zP1 (ho.ext hF id)
  have hD : va_D (zA (fun z => FC G ρ σ z ∨ z = oa) H0) [(oa, zOb 3 [(.long n9), (.double d9), s9])] := zD1 (Or.inl (Or.inr rfl))
  have hpo : PoC G s0 H0 ρ σ σ H2 := PoC.same (hh.ext0 hE hF)
  have hP : va_P G.1 zCl ([(oa, zOb 3 [(.long n9), (.double d9), s9])]) H2 := hP
  have hD : va_D (zA (fun z => FC G ρ σ z ∨ z = oa) H0) ([(oa, zOb 3 [(.long n9), (.double d9), s9])]) := hD
  have hS := hS1
  refine lv_i2l hx hb dX0_apart_7 rfl ?_
  refine z_putnO hC hP hD hS 0 (k := 0) rfl rfl in_X4 tyX4_ok nmX4 (by decide) q886 (fun _ h => h) rfl rfl rfl rfl (Nat.le_of_ble_eq_true rfl) (ws' := [(oa, zOb 3 [(.long (iI y).toInt64), (.double d9), s9])]) rfl dX0_apart_8 (fun H3 locs hP hD hS hF => ?_)
  have hpo := hpo.out hE hol hof hF
  refine lv_goto (tgt := 22) hx hb dX0_apart_11 (by decide) ?_
  refine lv_iconst (v := iI 0) hx hb dX0_apart_22 rfl ?_
  exact z_iret hC hrt hlk hQ hS ⟨zle (z := 9) rfl (by omega), zle (z := 75) rfl (by omega)⟩ ⟨_, rfl, σ, _, _, _, hpo, hP 0 _ rfl, Or.inl ⟨rfl, ⟨y, ⟨rfl, hR⟩, rfl⟩⟩⟩ dX0_apart_23

abbrev rm_m_X0_row : Room := { frames := 9, cells := 3, slots := 16, locals := 155 }
set_option maxHeartbeats 4000000 in
theorem m_X0_row {l : Launch} {s0 : State} {G : zG} (hE : zE l s0 G) (H0 : Heap) (hO : zO s0 H0) (ρ : Ro → Nat) (σ : St) (i : Int) (z : Int) (oa : Nat) (n9 : Int64) (d9 : UInt64) (s9 : Value) (hh : HC G s0 ρ σ H0) (hdm : zMn (ρ (5, 0, 0)) {} H0) (ho : zAt G oa (zOb 3 [(.long n9), (.double d9), s9]) H0) (hoa : s0.heap.size ≤ oa) (hof : ¬ FC G ρ σ oa) (hnc : zNc s0) (hi : zi i ∧ zi z) : zMW l s0 yX0_row cX0_row 5 (some FieldType.int) [((0 : Nat), (11 : Nat), (14 : Nat), (30 : Nat)), ((0 : Nat), (11 : Nat), (18 : Nat), (19 : Nat))] rm_m_X0_row [.ref (ρ (0, 0, 0)), .int (iI i), .int (iI z), .ref oa] H0 (fun z => FC G ρ σ z ∨ z = oa) (ri (fun kk h1 => ∃ (σ' : St) (n1 : Int64) (d1 : UInt64) (s1 : Value), PoC G s0 H0 ρ σ σ' h1 ∧ zAt G oa (zOb 3 [.long n1, .double d1, s1]) h1 ∧ ((kk = 0 ∧ (∃ y, R_row σ i z y σ' ∧ n1 = (iI y).toInt64)) ∨ (∃ jx : Nat, kk = ((jx + 1 : Nat) : Int) ∧ σ' = σ ∧ jx < ([IOB, IAE] : List String).length ∧ X_row σ i z (([IOB, IAE] : List String).getD jx ""))))) (fun _ _ => False) := by
  refine z_metW hE (by decide +kernel) (Nat.le_of_ble_eq_true rfl) ?_
  intro pp ee ss mm args below meth cd Q ls hC hml hrt hlk hnm hH hQ htb hX hS hl
  have hx := hC.x
  have hb := hC.b
  have hl : lv_has ls 5 [(0, .ref (ρ (0, 0, 0))), (1, .int (iI i)), (2, .int (iI z)), (3, .ref oa)] := hl
  have hP : va_P G.1 zCl [] H0 := va_nil
  have hD : va_D (zA (fun z => FC G ρ σ z ∨ z = oa) H0) [] := va_nilD
  have hMo : ∀ z, (fun z => FC G ρ σ z ∨ z = oa) z → s0.heap.size ≤ z := fun z hz => hz.elim (fun w => FC.ge hh.sep w) (fun w => by rw [w]; exact hoa)
  have hol := ho.lt
  obtain ⟨sm, hxx⟩ := id hh.2.2.1.1
  have hncs := hnc.warm hC.w
  refine lv_aload_n hx hb dX0_row_0 rfl (lv_at hl 3 rfl) ?_
  refine lv_aload_n hx hb dX0_row_1 rfl (lv_at hl 0 rfl) ?_
  refine lv_iload_n hx hb dX0_row_2 rfl (lv_at hl 1 rfl) ?_
  refine lv_iload_n hx hb dX0_row_3 rfl (lv_at hl 2 rfl) ?_
  refine z_goX 3 16 (z_runVx (As := [.int (iI i), .int (iI z)]) (rest := [.ref oa]) hC hml hl.1 (m_X1_row hE H0 (hO.ext (zS_F hS) hMo) ρ σ i z hh hi) (lw_V q1469 q1470 q1471 q62 q1472) rfl nd_X1_row rfl (z_rv hC (ci := 0) rfl hxx rfl) rfl (Nat.le_of_ble_eq_true rfl) ⟨Nat.le_of_ble_eq_true rfl, Nat.le_of_ble_eq_true rfl⟩ ⟨zfit (k := 3) (z := 3) rfl rfl (by omega), zfit (k := 16) (z := 16) rfl rfl (by omega)⟩ dX0_row_4) ⟨zad (k := 3) rfl (by omega), zad (k := 16) rfl (by omega)⟩ hS (fun _ z => z.elim) (fun E ce q9 Hx1 locs hp hF hS1 hce hcv hcl => ?_) (fun r H2 locs hp hF hS1 => ?_)
  · have hXE : X_row σ i z E := hp
    have hHx : HC G s0 ρ σ Hx1 := hh.ext0 hE hF
    have hox : zAt G oa (zOb 3 [(.long n9), (.double d9), s9]) Hx1 := ho.ext hF id
    have hS := hS1
    rcases Xi_row hXE with rfl | rfl
    · refine vx_catch hC.o [] ⟨0, 11, 14, 30⟩ [⟨0, 11, 18, 19⟩] (by rw [htb]; rfl) (fun z hz => nomatch hz) (by decide) (by decide) (hC.t _ q1033) (z_cst hC q1065) hce hcv hcl ?_
      refine lv_astore (lv' := [(4, .ref q9), (0, .ref (ρ (0, 0, 0))), (1, .int (iI i)), (2, .int (iI z)), (3, .ref oa)]) hx hb dX0_row_14 hl (by decide) rfl (fun ls hl => ?_)
      refine lv_iconst (v := iI 1) hx hb dX0_row_16 rfl ?_
      exact z_iret hC hrt hlk hQ hS ⟨zle (z := 3) rfl (by omega), zle (z := 16) rfl (by omega)⟩ ⟨_, rfl, σ, n9, d9, s9, PoC.same hHx, hox, Or.inr ⟨0, rfl, rfl, by decide, hXE⟩⟩ dX0_row_17
    · refine vx_catch hC.o [⟨0, 11, 14, 30⟩] ⟨0, 11, 18, 19⟩ [] (by rw [htb]; rfl) (fun z hz => by
        simp only [List.mem_cons, List.not_mem_nil, or_false] at hz
        subst hz
        exact Or.inr ⟨by decide, _, hC.t _ q1033, hncs.1⟩) (by decide) (by decide) (hC.t _ q899) (z_cst hC q747) hce hcv hcl ?_
      refine lv_astore (lv' := [(4, .ref q9), (0, .ref (ρ (0, 0, 0))), (1, .int (iI i)), (2, .int (iI z)), (3, .ref oa)]) hx hb dX0_row_18 hl (by decide) rfl (fun ls hl => ?_)
      refine lv_iconst (v := iI 2) hx hb dX0_row_20 rfl ?_
      exact z_iret hC hrt hlk hQ hS ⟨zle (z := 3) rfl (by omega), zle (z := 16) rfl (by omega)⟩ ⟨_, rfl, σ, n9, d9, s9, PoC.same hHx, hox, Or.inr ⟨1, rfl, rfl, by decide, hXE⟩⟩ dX0_row_21
  obtain ⟨y, rfl, hR⟩ := hp
  have hP : va_P G.1 zCl [(oa, zOb 3 [(.long n9), (.double d9), s9])] H2 := zP1 (ho.ext hF id)
  have hD : va_D (zA (fun z => FC G ρ σ z ∨ z = oa) H0) [(oa, zOb 3 [(.long n9), (.double d9), s9])] := zD1 (Or.inl (Or.inr rfl))
  have hpo : PoC G s0 H0 ρ σ σ H2 := PoC.same (hh.ext0 hE hF)
  have hP : va_P G.1 zCl ([(oa, zOb 3 [(.long n9), (.double d9), s9])]) H2 := hP
  have hD : va_D (zA (fun z => FC G ρ σ z ∨ z = oa) H0) ([(oa, zOb 3 [(.long n9), (.double d9), s9])]) := hD
  have hS := hS1
  refine lv_i2l hx hb dX0_row_7 rfl ?_
  refine z_putnO hC hP hD hS 0 (k := 0) rfl rfl in_X4 tyX4_ok nmX4 (by decide) q886 (fun _ h => h) rfl rfl rfl rfl (Nat.le_of_ble_eq_true rfl) (ws' := [(oa, zOb 3 [(.long (iI y).toInt64), (.double d9), s9])]) rfl dX0_row_8 (fun H3 locs hP hD hS hF => ?_)
  have hpo := hpo.out hE hol hof hF
  refine lv_goto (tgt := 22) hx hb dX0_row_11 (by decide) ?_
  refine lv_iconst (v := iI 0) hx hb dX0_row_22 rfl ?_
  exact z_iret hC hrt hlk hQ hS ⟨zle (z := 3) rfl (by omega), zle (z := 16) rfl (by omega)⟩ ⟨_, rfl, σ, _, _, _, hpo, hP 0 _ rfl, Or.inl ⟨rfl, ⟨y, ⟨rfl, hR⟩, rfl⟩⟩⟩ dX0_row_23

abbrev rm_m_X0_match : Room := { frames := 9, cells := 2, slots := 12, locals := 218 }
set_option maxHeartbeats 4000000 in
theorem m_X0_match {l : Launch} {s0 : State} {G : zG} (hE : zE l s0 G) (H0 : Heap) (hO : zO s0 H0) (ρ : Ro → Nat) (σ : St) (i : Int) (j : Int) (oa : Nat) (n9 : Int64) (d9 : UInt64) (s9 : Value) (hh : HC G s0 ρ σ H0) (hdm : zMn (ρ (5, 0, 0)) {} H0) (ho : zAt G oa (zOb 3 [(.long n9), (.double d9), s9]) H0) (hoa : s0.heap.size ≤ oa) (hof : ¬ FC G ρ σ oa) (hnc : zNc s0) (hi : zi i ∧ zi j) : zMW l s0 yX0_match cX0_match 5 (some FieldType.int) [((0 : Nat), (11 : Nat), (14 : Nat), (30 : Nat))] rm_m_X0_match [.ref (ρ (0, 0, 0)), .int (iI i), .int (iI j), .ref oa] H0 (fun z => FC G ρ σ z ∨ z = oa) (ri (fun kk h1 => ∃ (σ' : St) (n1 : Int64) (d1 : UInt64) (s1 : Value), PoC G s0 H0 ρ σ σ' h1 ∧ zAt G oa (zOb 3 [.long n1, .double d1, s1]) h1 ∧ ((kk = 0 ∧ (∃ y, R_match σ i j y σ' ∧ n1 = (iI y).toInt64)) ∨ (∃ jx : Nat, kk = ((jx + 1 : Nat) : Int) ∧ σ' = σ ∧ jx < ([IOB] : List String).length ∧ X_match σ i j (([IOB] : List String).getD jx ""))))) (fun _ _ => False) := by
  refine z_metW hE (by decide +kernel) (Nat.le_of_ble_eq_true rfl) ?_
  intro pp ee ss mm args below meth cd Q ls hC hml hrt hlk hnm hH hQ htb hX hS hl
  have hx := hC.x
  have hb := hC.b
  have hl : lv_has ls 5 [(0, .ref (ρ (0, 0, 0))), (1, .int (iI i)), (2, .int (iI j)), (3, .ref oa)] := hl
  have hP : va_P G.1 zCl [] H0 := va_nil
  have hD : va_D (zA (fun z => FC G ρ σ z ∨ z = oa) H0) [] := va_nilD
  have hMo : ∀ z, (fun z => FC G ρ σ z ∨ z = oa) z → s0.heap.size ≤ z := fun z hz => hz.elim (fun w => FC.ge hh.sep w) (fun w => by rw [w]; exact hoa)
  have hol := ho.lt
  obtain ⟨sm, hxx⟩ := id hh.2.2.1.1
  have hncs := hnc.warm hC.w
  refine lv_aload_n hx hb dX0_match_0 rfl (lv_at hl 3 rfl) ?_
  refine lv_aload_n hx hb dX0_match_1 rfl (lv_at hl 0 rfl) ?_
  refine lv_iload_n hx hb dX0_match_2 rfl (lv_at hl 1 rfl) ?_
  refine lv_iload_n hx hb dX0_match_3 rfl (lv_at hl 2 rfl) ?_
  refine z_goX 2 12 (z_runVx (As := [.int (iI i), .int (iI j)]) (rest := [.ref oa]) hC hml hl.1 (m_X1_match hE H0 (hO.ext (zS_F hS) hMo) ρ σ i j hh hi) (lw_V q1476 q1477 q1478 q62 q1479) rfl nd_X1_match rfl (z_rv hC (ci := 0) rfl hxx rfl) rfl (Nat.le_of_ble_eq_true rfl) ⟨Nat.le_of_ble_eq_true rfl, Nat.le_of_ble_eq_true rfl⟩ ⟨zfit (k := 2) (z := 2) rfl rfl (by omega), zfit (k := 12) (z := 12) rfl rfl (by omega)⟩ dX0_match_4) ⟨zad (k := 2) rfl (by omega), zad (k := 12) rfl (by omega)⟩ hS (fun _ z => z.elim) (fun E ce q9 Hx1 locs hp hF hS1 hce hcv hcl => ?_) (fun r H2 locs hp hF hS1 => ?_)
  · have hXE : X_match σ i j E := hp
    have hHx : HC G s0 ρ σ Hx1 := hh.ext0 hE hF
    have hox : zAt G oa (zOb 3 [(.long n9), (.double d9), s9]) Hx1 := ho.ext hF id
    have hS := hS1
    obtain rfl := Xi_match hXE
    refine vx_catch hC.o [] ⟨0, 11, 14, 30⟩ [] (by rw [htb]; rfl) (fun z hz => nomatch hz) (by decide) (by decide) (hC.t _ q1033) (z_cst hC q1065) hce hcv hcl ?_
    refine lv_astore (lv' := [(4, .ref q9), (0, .ref (ρ (0, 0, 0))), (1, .int (iI i)), (2, .int (iI j)), (3, .ref oa)]) hx hb dX0_match_14 hl (by decide) rfl (fun ls hl => ?_)
    refine lv_iconst (v := iI 1) hx hb dX0_match_16 rfl ?_
    exact z_iret hC hrt hlk hQ hS ⟨zle (z := 2) rfl (by omega), zle (z := 12) rfl (by omega)⟩ ⟨_, rfl, σ, n9, d9, s9, PoC.same hHx, hox, Or.inr ⟨0, rfl, rfl, by decide, hXE⟩⟩ dX0_match_17
  obtain ⟨y, rfl, hR⟩ := hp
  have hP : va_P G.1 zCl [(oa, zOb 3 [(.long n9), (.double d9), s9])] H2 := zP1 (ho.ext hF id)
  have hD : va_D (zA (fun z => FC G ρ σ z ∨ z = oa) H0) [(oa, zOb 3 [(.long n9), (.double d9), s9])] := zD1 (Or.inl (Or.inr rfl))
  have hpo : PoC G s0 H0 ρ σ σ H2 := PoC.same (hh.ext0 hE hF)
  have hP : va_P G.1 zCl ([(oa, zOb 3 [(.long n9), (.double d9), s9])]) H2 := hP
  have hD : va_D (zA (fun z => FC G ρ σ z ∨ z = oa) H0) ([(oa, zOb 3 [(.long n9), (.double d9), s9])]) := hD
  have hS := hS1
  refine lv_i2l hx hb dX0_match_7 rfl ?_
  refine z_putnO hC hP hD hS 0 (k := 0) rfl rfl in_X4 tyX4_ok nmX4 (by decide) q886 (fun _ h => h) rfl rfl rfl rfl (Nat.le_of_ble_eq_true rfl) (ws' := [(oa, zOb 3 [(.long (iI y).toInt64), (.double d9), s9])]) rfl dX0_match_8 (fun H3 locs hP hD hS hF => ?_)
  have hpo := hpo.out hE hol hof hF
  refine lv_goto (tgt := 18) hx hb dX0_match_11 (by decide) ?_
  refine lv_iconst (v := iI 0) hx hb dX0_match_18 rfl ?_
  exact z_iret hC hrt hlk hQ hS ⟨zle (z := 2) rfl (by omega), zle (z := 12) rfl (by omega)⟩ ⟨_, rfl, σ, _, _, _, hpo, hP 0 _ rfl, Or.inl ⟨rfl, ⟨y, ⟨rfl, hR⟩, rfl⟩⟩⟩ dX0_match_19

abbrev rm_m_X0_scaleOf : Room := { frames := 9, cells := 2, slots := 12, locals := 223 }
set_option maxHeartbeats 4000000 in
theorem m_X0_scaleOf {l : Launch} {s0 : State} {G : zG} (hE : zE l s0 G) (H0 : Heap) (hO : zO s0 H0) (ρ : Ro → Nat) (σ : St) (i : Int) (j : Int) (g : Int) (oa : Nat) (n9 : Int64) (d9 : UInt64) (s9 : Value) (hh : HC G s0 ρ σ H0) (hdm : zMn (ρ (5, 0, 0)) {} H0) (ho : zAt G oa (zOb 3 [(.long n9), (.double d9), s9]) H0) (hoa : s0.heap.size ≤ oa) (hof : ¬ FC G ρ σ oa) (hnc : zNc s0) (hi : zi i ∧ zi j ∧ zi g) : zMW l s0 yX0_scaleOf cX0_scaleOf 6 (some FieldType.int) [((0 : Nat), (13 : Nat), (16 : Nat), (30 : Nat))] rm_m_X0_scaleOf [.ref (ρ (0, 0, 0)), .int (iI i), .int (iI j), .int (iI g), .ref oa] H0 (fun z => FC G ρ σ z ∨ z = oa) (ri (fun kk h1 => ∃ (σ' : St) (n1 : Int64) (d1 : UInt64) (s1 : Value), PoC G s0 H0 ρ σ σ' h1 ∧ zAt G oa (zOb 3 [.long n1, .double d1, s1]) h1 ∧ ((kk = 0 ∧ (∃ y, R_scaleOf σ i j g y σ' ∧ n1 = (iI y).toInt64)) ∨ (∃ jx : Nat, kk = ((jx + 1 : Nat) : Int) ∧ σ' = σ ∧ jx < ([IOB] : List String).length ∧ X_scaleOf σ i j g (([IOB] : List String).getD jx ""))))) (fun _ _ => False) := by
  refine z_metW hE (by decide +kernel) (Nat.le_of_ble_eq_true rfl) ?_
  intro pp ee ss mm args below meth cd Q ls hC hml hrt hlk hnm hH hQ htb hX hS hl
  have hx := hC.x
  have hb := hC.b
  have hl : lv_has ls 6 [(0, .ref (ρ (0, 0, 0))), (1, .int (iI i)), (2, .int (iI j)), (3, .int (iI g)), (4, .ref oa)] := hl
  have hP : va_P G.1 zCl [] H0 := va_nil
  have hD : va_D (zA (fun z => FC G ρ σ z ∨ z = oa) H0) [] := va_nilD
  have hMo : ∀ z, (fun z => FC G ρ σ z ∨ z = oa) z → s0.heap.size ≤ z := fun z hz => hz.elim (fun w => FC.ge hh.sep w) (fun w => by rw [w]; exact hoa)
  have hol := ho.lt
  obtain ⟨sm, hxx⟩ := id hh.2.2.1.1
  have hncs := hnc.warm hC.w
  refine lv_aload hx hb dX0_scaleOf_0 (lv_at hl 4 rfl) ?_
  refine lv_aload_n hx hb dX0_scaleOf_2 rfl (lv_at hl 0 rfl) ?_
  refine lv_iload_n hx hb dX0_scaleOf_3 rfl (lv_at hl 1 rfl) ?_
  refine lv_iload_n hx hb dX0_scaleOf_4 rfl (lv_at hl 2 rfl) ?_
  refine lv_iload_n hx hb dX0_scaleOf_5 rfl (lv_at hl 3 rfl) ?_
  refine z_goX 2 12 (z_runVx (As := [.int (iI i), .int (iI j), .int (iI g)]) (rest := [.ref oa]) hC hml hl.1 (m_X1_scaleOf hE H0 (hO.ext (zS_F hS) hMo) ρ σ i j g hh hi) (lw_V q1483 q1484 q1485 q62 q1486) rfl nd_X1_scaleOf rfl (z_rv hC (ci := 0) rfl hxx rfl) rfl (Nat.le_of_ble_eq_true rfl) ⟨Nat.le_of_ble_eq_true rfl, Nat.le_of_ble_eq_true rfl⟩ ⟨zfit (k := 2) (z := 2) rfl rfl (by omega), zfit (k := 12) (z := 12) rfl rfl (by omega)⟩ dX0_scaleOf_6) ⟨zad (k := 2) rfl (by omega), zad (k := 12) rfl (by omega)⟩ hS (fun _ z => z.elim) (fun E ce q9 Hx1 locs hp hF hS1 hce hcv hcl => ?_) (fun r H2 locs hp hF hS1 => ?_)
  · have hXE : X_scaleOf σ i j g E := hp
    have hHx : HC G s0 ρ σ Hx1 := hh.ext0 hE hF
    have hox : zAt G oa (zOb 3 [(.long n9), (.double d9), s9]) Hx1 := ho.ext hF id
    have hS := hS1
    obtain rfl := Xi_scaleOf hXE
    refine vx_catch hC.o [] ⟨0, 13, 16, 30⟩ [] (by rw [htb]; rfl) (fun z hz => nomatch hz) (by decide) (by decide) (hC.t _ q1033) (z_cst hC q1065) hce hcv hcl ?_
    refine lv_astore (lv' := [(5, .ref q9), (0, .ref (ρ (0, 0, 0))), (1, .int (iI i)), (2, .int (iI j)), (3, .int (iI g)), (4, .ref oa)]) hx hb dX0_scaleOf_16 hl (by decide) rfl (fun ls hl => ?_)
    refine lv_iconst (v := iI 1) hx hb dX0_scaleOf_18 rfl ?_
    exact z_iret hC hrt hlk hQ hS ⟨zle (z := 2) rfl (by omega), zle (z := 12) rfl (by omega)⟩ ⟨_, rfl, σ, n9, d9, s9, PoC.same hHx, hox, Or.inr ⟨0, rfl, rfl, by decide, hXE⟩⟩ dX0_scaleOf_19
  obtain ⟨y, rfl, hR⟩ := hp
  have hP : va_P G.1 zCl [(oa, zOb 3 [(.long n9), (.double d9), s9])] H2 := zP1 (ho.ext hF id)
  have hD : va_D (zA (fun z => FC G ρ σ z ∨ z = oa) H0) [(oa, zOb 3 [(.long n9), (.double d9), s9])] := zD1 (Or.inl (Or.inr rfl))
  have hpo : PoC G s0 H0 ρ σ σ H2 := PoC.same (hh.ext0 hE hF)
  have hP : va_P G.1 zCl ([(oa, zOb 3 [(.long n9), (.double d9), s9])]) H2 := hP
  have hD : va_D (zA (fun z => FC G ρ σ z ∨ z = oa) H0) ([(oa, zOb 3 [(.long n9), (.double d9), s9])]) := hD
  have hS := hS1
  refine lv_i2l hx hb dX0_scaleOf_9 rfl ?_
  refine z_putnO hC hP hD hS 0 (k := 0) rfl rfl in_X4 tyX4_ok nmX4 (by decide) q886 (fun _ h => h) rfl rfl rfl rfl (Nat.le_of_ble_eq_true rfl) (ws' := [(oa, zOb 3 [(.long (iI y).toInt64), (.double d9), s9])]) rfl dX0_scaleOf_10 (fun H3 locs hP hD hS hF => ?_)
  have hpo := hpo.out hE hol hof hF
  refine lv_goto (tgt := 20) hx hb dX0_scaleOf_13 (by decide) ?_
  refine lv_iconst (v := iI 0) hx hb dX0_scaleOf_20 rfl ?_
  exact z_iret hC hrt hlk hQ hS ⟨zle (z := 2) rfl (by omega), zle (z := 12) rfl (by omega)⟩ ⟨_, rfl, σ, _, _, _, hpo, hP 0 _ rfl, Or.inl ⟨rfl, ⟨y, ⟨rfl, hR⟩, rfl⟩⟩⟩ dX0_scaleOf_21

