/-! THE LAW: its cases that answer doubles and longs -/
set_option maxRecDepth 100000
set_option maxHeartbeats 4000000 in
theorem lwc_25 {p : Program} {l : Launch} {e : Env} {s : State} {m : MethodId} {below : List Frame} {meth : Method} {c : Code} {G : zG} {H0 : Heap} {b L xa ma oa : Nat} {xs : Nat → Int32} {Q : State → Prop} {i Cc Sc : Nat} (hE : zE l s G) (hC : zC p l s G s m #[.ref b] c "VersorhallLaw" cL_law) (hml : c.maxLocals = 9) (hH0 : s.heap = H0) (hX : va_X b L xs s H0) (hbl : b < H0.size) (hL : L ≤ 256) (hnc : zNc s) (hoa : s.heap.size ≤ oa) (hi4 : i + 4 ≤ L) (hcc : Cc + 9000 ≤ 601152 ∧ Sc + 110000 ≤ 7254250) (IH : lwJ p l e s m below meth c G H0 b xa ma oa Q 2435 i (Cc + 9000) (Sc + 110000)) : lwJ p l e s m below meth c G H0 b xa ma oa Q 1918 i Cc Sc := by
  intro H locs ls ρ μ σ th n9 d9 s9 hh hm exa ema hdm ho hof hom hdj hS hl
  subst exa
  subst ema
  have hx := hC.x
  have hb := hC.b
  have hp9 := hh.ok.1
  have hO : zO s H0 := ⟨by rw [hH0]; exact Nat.le_refl _, fun _ _ => by rw [hH0]⟩
  have hP : va_P G.1 zCl [] H := va_nil
  have hD : va_D (zA M0 H0) [] := va_nilD
  refine lv_aload_n hx hb dL_law_1918 rfl (lv_at hl 3 rfl) ?_
  have hO0 : zO s H := hO.ext0 (zS_F hS)
  have hol := ho.lt
  obtain ⟨sm, hxx⟩ := id hh.2.2.1.1
  refine z_go (Cc + 1) (Sc + 4) (z_runV (As := []) (rest := []) hC hml hl.1 (z_mon (m_X1_meanSize hE H (hO.ext0 (zS_F hS)) ρ σ hh)) (lw_V q170 q171 q172 q62 q173) rfl nd_X1_meanSize rfl (z_rv hC (ci := 0) rfl hxx rfl) rfl (Nat.le_of_ble_eq_true rfl) ⟨Nat.le_of_ble_eq_true rfl, Nat.le_of_ble_eq_true rfl⟩ ⟨zfit (k := 1) (z := 601152) rfl rfl (by omega), zfit (k := 4) (z := 7254250) rfl rfl (by omega)⟩ dL_law_1919) ⟨zad (k := 1) rfl (by omega), zad (k := 4) rfl (by omega)⟩ hS (fun _ z => z.elim) (fun r H1 locs hp hF hS1 => ?_)
  obtain ⟨⟨_, rfl, rfl⟩, hmk⟩ := hp
  have hP : va_P G.1 zCl [] H1 := va_nil
  have hD : va_D (zA M0 H0) [] := va_nilD
  have ho := ho.ext0 hF
  obtain ⟨ρ1, hh, e0, hdm, hm, hof, hdj⟩ := LI_cls hE hO0 hm hof hom hol hdj hdm hF.of0 hmk (PoC.same (hh.ext0 hE hF))
  have hP : va_P G.1 zCl ([]) H1 := hP
  have hD : va_D (zA M0 H0) ([]) := hD
  have hS := hS1
  refine lv_dstore (lv' := [(5, .double (mnV σ)), (4, .int (iI ((i : Nat) : Int))), (3, .ref oa), (2, .ref (μ (0, 0, 0))), (1, .ref (ρ (0, 0, 0))), (0, .ref b)]) hx hb dL_law_1922 hl (by decide) rfl (fun ls hl => ?_)
  refine lv_aload_n hx hb dL_law_1924 rfl (lv_at hl 3 rfl) ?_
  have hO1 : zO s H1 := hO.ext0 (zS_F hS)
  have hol1 := ho.lt
  refine z_go (Cc + 1) (Sc + 4) (z_runV (As := []) (rest := []) hC hml hl.1 (z_mon (m_X3_meanSize hE H1 (hO.ext0 (zS_F hS)) μ σ th hm)) (lw_V q1870 q1871 q1872 q67 q1873) rfl nd_X3_meanSize rfl (z_rv hC (ci := 2) rfl hm.2.2.1.1 rfl) rfl (Nat.le_of_ble_eq_true rfl) ⟨Nat.le_of_ble_eq_true rfl, Nat.le_of_ble_eq_true rfl⟩ ⟨zfit (k := 0) (z := 601152) rfl rfl (by omega), zfit (k := 0) (z := 7254250) rfl rfl (by omega)⟩ dL_law_1925) ⟨zad (k := 0) rfl (by omega), zad (k := 0) rfl (by omega)⟩ hS (fun q z => Or.inr (by rw [← hH0]; exact FM.ge hm.sep z)) (fun r H2 locs hp hF hS1 => ?_)
  obtain ⟨⟨_, rfl, rfl, hpm⟩, hmk⟩ := hp
  have hP : va_P G.1 zCl [] H2 := va_nil
  have hD : va_D (zA M0 H0) [] := va_nilD
  have ho := ho.ext hF hom
  obtain ⟨μ1, hm, em, hdm, hh, hom, hdj⟩ := LI_mdl hE hO1 hh hom hol1 hdj hdm hF hmk hpm
  have hP : va_P G.1 zCl ([]) H2 := hP
  have hD : va_D (zA M0 H0) ([]) := hD
  have hS := hS1
  have hhF := hh
  have hmF := hm
  have hdmF := hdm
  have hoF := ho
  have hofF := hof
  have homF := hom
  have hdjF := hdj
  refine lv_dstore (lv' := [(7, .double (mnV σ)), (5, .double (mnV σ)), (4, .int (iI ((i : Nat) : Int))), (3, .ref oa), (2, .ref (μ (0, 0, 0))), (1, .ref (ρ (0, 0, 0))), (0, .ref b)]) hx hb dL_law_1928 hl (by decide) rfl (fun ls hl => ?_)
  refine lv_dload hx hb dL_law_1930 (lv_at hl 1 rfl) ?_
  refine lv_dload hx hb dL_law_1932 (lv_at hl 0 rfl) ?_
  refine lv_dcmp hx hb dL_law_1934 ?_
  refine lv_if_eq (tgt := 1956) hx hb dL_law_1935 (by decide)   (fun c3 => ?_) (fun c3 => ?_)
  · refine lv_goto (tgt := 2435) hx hb dL_law_1956 (by decide) ?_
    exact W.widen (by omega) (by omega) (IH _ _ _ ρ1 μ1 _ _ n9 d9 s9 hhF hmF e0 em hdmF hoF hofF homF hdjF hS (lv_sub hl [2, 3, 4, 5, 6] rfl))
  · refine lv_dload hx hb dL_law_1938 (lv_at hl 1 rfl) ?_
    refine lv_dload hx hb dL_law_1940 (lv_at hl 1 rfl) ?_
    refine lv_dcmp hx hb dL_law_1942 ?_
    refine lv_if_eq (tgt := 1954) hx hb dL_law_1943 (by decide)   (fun c4 => ?_) (fun c4 => ?_)
    · exact absurd (by assumption) (by assumption)
    · refine lv_dload hx hb dL_law_1946 (lv_at hl 0 rfl) ?_
      refine lv_dload hx hb dL_law_1948 (lv_at hl 0 rfl) ?_
      refine lv_dcmp hx hb dL_law_1950 ?_
      refine lv_if_ne (tgt := 1956) hx hb dL_law_1951 (by decide)   (fun c5 => ?_) (fun c5 => ?_)
      · refine lv_goto (tgt := 2435) hx hb dL_law_1956 (by decide) ?_
        exact W.widen (by omega) (by omega) (IH _ _ _ ρ1 μ1 _ _ n9 d9 s9 hhF hmF e0 em hdmF hoF hofF homF hdjF hS (lv_sub hl [2, 3, 4, 5, 6] rfl))
      · exact absurd (by assumption) (by assumption)

set_option maxHeartbeats 4000000 in
theorem lwc_26 {p : Program} {l : Launch} {e : Env} {s : State} {m : MethodId} {below : List Frame} {meth : Method} {c : Code} {G : zG} {H0 : Heap} {b L xa ma oa : Nat} {xs : Nat → Int32} {Q : State → Prop} {i Cc Sc : Nat} (hE : zE l s G) (hC : zC p l s G s m #[.ref b] c "VersorhallLaw" cL_law) (hml : c.maxLocals = 9) (hH0 : s.heap = H0) (hX : va_X b L xs s H0) (hbl : b < H0.size) (hL : L ≤ 256) (hnc : zNc s) (hoa : s.heap.size ≤ oa) (hi4 : i + 4 ≤ L) (hcc : Cc + 9000 ≤ 601152 ∧ Sc + 110000 ≤ 7254250) (IH : lwJ p l e s m below meth c G H0 b xa ma oa Q 2435 i (Cc + 9000) (Sc + 110000)) : lwJ p l e s m below meth c G H0 b xa ma oa Q 1959 i Cc Sc := by
  intro H locs ls ρ μ σ th n9 d9 s9 hh hm exa ema hdm ho hof hom hdj hS hl
  subst exa
  subst ema
  have hx := hC.x
  have hb := hC.b
  have hp9 := hh.ok.1
  have hO : zO s H0 := ⟨by rw [hH0]; exact Nat.le_refl _, fun _ _ => by rw [hH0]⟩
  have hP : va_P G.1 zCl [] H := va_nil
  have hD : va_D (zA M0 H0) [] := va_nilD
  obtain ⟨z1, e1⟩ : ∃ z : Int, (xs (i + 1)).toInt = z := ⟨_, rfl⟩
  have hz1 : zi z1 := by rw [← e1]; exact ⟨Int32.le_toInt _, Int32.toInt_lt _⟩
  refine lv_aload_n hx hb dL_law_1959 rfl (lv_at hl 3 rfl) ?_
  refine lv_aload_n hx hb dL_law_1960 rfl (lv_at hl 4 rfl) ?_
  refine lv_iload hx hb dL_law_1961 (lv_at hl 0 rfl) ?_
  refine lv_iconst (v := iI 1) hx hb dL_law_1963 rfl ?_
  refine z_add hx hb (z := ((i : Nat) : Int) + 1) dL_law_1964 rfl ?_
  refine z_sld hC hX hbl hS (k := i + 1) (by omega) (by omega) (by omega) dL_law_1965 ?_
  refine z_top (b := z1) e1 ?_
  refine lv_aload_n hx hb dL_law_1966 rfl (lv_at hl 1 rfl) ?_
  have hO0 : zO s H := hO.ext0 (zS_F hS)
  have hol := ho.lt
  refine z_goX (Cc + 1) (Sc + 6) (z_runSw (As := [.ref (ρ (0, 0, 0)), .int (iI z1), .ref oa]) (rest := []) hC hml hl.1 (z_monW (m_X0_lean hE H (hO.ext0 (zS_F hS)) ρ σ z1 oa n9 d9 s9 hh hdm ho hoa hof hnc hz1)) (lw_SW q1445 q1446 q61 q1447) nd_X0_lean rfl rfl (Nat.le_of_ble_eq_true rfl) ⟨Nat.le_of_ble_eq_true rfl, Nat.le_of_ble_eq_true rfl⟩ ⟨zfit (k := 1) (z := 601152) rfl rfl (by omega), zfit (k := 6) (z := 7254250) rfl rfl (by omega)⟩ dL_law_1967) ⟨zad (k := 1) rfl (by omega), zad (k := 6) rfl (by omega)⟩ hS (fun q z => Or.inr (by rw [← hH0]; exact z.elim (fun w => FC.ge hh.sep w) (fun w => by rw [w]; exact hoa))) (fun E ce q9 Hx1 locs hp hF hS1 hce hcv hcl => ?_) (fun r H2 locs hp hF hS1 => ?_)
  · exact hp.1.elim
  obtain ⟨⟨kk, rfl, σ1, n1, d1, s1, hpo, ho, hk1⟩, hmk⟩ := hp
  have hP : va_P G.1 zCl [] H2 := va_nil
  have hD : va_D (zA M0 H0) [] := va_nilD
  obtain ⟨ρ1, hh, e0, hdm, hm, hof, hdj⟩ := LI_cls hE hO0 hm hof hom hol hdj hdm hF hmk hpo
  have hP : va_P G.1 zCl ([]) H2 := hP
  have hD : va_D (zA M0 H0) ([]) := hD
  have hS := hS1
  refine lv_istore (lv' := [(5, .int (iI kk)), (4, .int (iI ((i : Nat) : Int))), (3, .ref oa), (2, .ref (μ (0, 0, 0))), (1, .ref (ρ (0, 0, 0))), (0, .ref b)]) hx hb dL_law_1970 hl (by decide) rfl (fun ls hl => ?_)
  refine lv_aload_n hx hb dL_law_1972 rfl (lv_at hl 3 rfl) ?_
  refine lv_aload_n hx hb dL_law_1973 rfl (lv_at hl 5 rfl) ?_
  refine lv_iload hx hb dL_law_1974 (lv_at hl 1 rfl) ?_
  refine lv_iconst (v := iI 1) hx hb dL_law_1976 rfl ?_
  refine z_add hx hb (z := ((i : Nat) : Int) + 1) dL_law_1977 rfl ?_
  refine z_sld hC hX hbl hS (k := i + 1) (by omega) (by omega) (by omega) dL_law_1978 ?_
  refine z_top (b := z1) e1 ?_
  have hO1 : zO s H2 := hO.ext0 (zS_F hS)
  have hol1 := ho.lt
  refine z_go (Cc + 1) (Sc + 6) (z_runV (As := [.int (iI z1)]) (rest := []) hC hml hl.1 (z_mon (m_X3_lean hE H2 (hO.ext0 (zS_F hS)) μ σ th z1 hm hz1)) (lw_V q1874 q1875 q1876 q67 q1877) rfl nd_X3_lean rfl (z_rv hC (ci := 2) rfl hm.2.2.1.1 rfl) rfl (Nat.le_of_ble_eq_true rfl) ⟨Nat.le_of_ble_eq_true rfl, Nat.le_of_ble_eq_true rfl⟩ ⟨zfit (k := 0) (z := 601152) rfl rfl (by omega), zfit (k := 0) (z := 7254250) rfl rfl (by omega)⟩ dL_law_1979) ⟨zad (k := 0) rfl (by omega), zad (k := 0) rfl (by omega)⟩ hS (fun q z => Or.inr (by rw [← hH0]; exact FM.ge hm.sep z)) (fun r H3 locs hp hF hS1 => ?_)
  obtain ⟨⟨yb, rfl, k2, σ2, hpm, h2⟩, hmk⟩ := hp
  have hP : va_P G.1 zCl [] H3 := va_nil
  have hD : va_D (zA M0 H0) [] := va_nilD
  have ho := ho.ext hF hom
  obtain ⟨μ1, hm, em, hdm, hh, hom, hdj⟩ := LI_mdl hE hO1 hh hom hol1 hdj hdm hF hmk hpm
  have hP : va_P G.1 zCl ([]) H3 := hP
  have hD : va_D (zA M0 H0) ([]) := hD
  have hS := hS1
  have hag := z_agr (ex := [IOB]) (X := X_lean σ z1) (B := R_lean σ z1 yb σ2) nd_1 (fun a E hX => Rx_lean a hX) (fun a E hX => Rx_lean a hX) (fun E E' a b => Xu_lean a b) hk1 h2
  obtain ⟨ek, hk3, hkk⟩ := hag
  have hk3 : k2 ≤ 3 := Nat.le_trans hk3 (by decide)
  subst ek
  refine lv_dstore (lv' := [(6, .double yb), (5, .int (iI ((k2 : Nat) : Int))), (4, .int (iI ((i : Nat) : Int))), (3, .ref oa), (2, .ref (μ (0, 0, 0))), (1, .ref (ρ (0, 0, 0))), (0, .ref b)]) hx hb dL_law_1982 hl (by decide) rfl (fun ls hl => ?_)
  refine lv_aload_n hx hb dL_law_1984 rfl (lv_at hl 4 rfl) ?_
  rw [← em]
  refine z_go (Cc + 1) (Sc + 6) (z_runV (As := []) (rest := []) hC hml hl.1 (m_X3_thrown hE H3 (hO.ext0 (zS_F hS)) μ1 σ2 ((k2 : Nat) : Int) hm) (lw_V q1512 q1513 q1514 q67 q1515) rfl nd_X3_thrown rfl (z_rv hC (ci := 2) rfl hm.2.2.1.1 rfl) rfl (Nat.le_of_ble_eq_true rfl) ⟨Nat.le_of_ble_eq_true rfl, Nat.le_of_ble_eq_true rfl⟩ ⟨zfit (k := 0) (z := 601152) rfl rfl (by omega), zfit (k := 0) (z := 7254250) rfl rfl (by omega)⟩ dL_law_1985) ⟨zad (k := 0) rfl (by omega), zad (k := 0) rfl (by omega)⟩ hS (fun _ z => z.elim) (fun r H4 locs hp hF hS1 => ?_)
  obtain ⟨_, rfl, rfl⟩ := hp
  have hP : va_P G.1 zCl [] H4 := va_nil
  have hD : va_D (zA M0 H0) [] := va_nilD
  have hh := hh.ext0 hE hF
  have hm := hm.ext0 hE hF
  have hdm := hdm.ext0 hF
  have ho := ho.ext0 hF
  have hP : va_P G.1 zCl ([]) H4 := hP
  have hD : va_D (zA M0 H0) ([]) := hD
  have hS := hS1
  have hhF := hh
  have hmF := hm
  have hdmF := hdm
  have hoF := ho
  have hofF := hof
  have homF := hom
  have hdjF := hdj
  refine lv_iload hx hb dL_law_1988 (lv_at hl 1 rfl) ?_
  refine z_ceq (tgt := 1995) hx hb dL_law_1990 (by decide) (by omega) (fun c5 => ?_) (fun c5 => ?_)
  · refine lv_iload hx hb dL_law_1995 (lv_at hl 1 rfl) ?_
    refine z_zne (tgt := 2032) hx hb dL_law_1997 (by decide) (by omega) (fun c6 => ?_) (fun c6 => ?_)
    · obtain ⟨-, es1, es2⟩ := hkk.resolve_left (fun w => by have := w.1; omega)
      subst es1
      subst es2
      refine lv_goto (tgt := 2435) hx hb dL_law_2032 (by decide) ?_
      exact W.widen (by omega) (by omega) (IH _ _ _ ρ1 μ1 _ _ n1 d1 s1 hhF hmF e0 em hdmF hoF hofF homF hdjF hS (lv_sub hl [2, 3, 4, 5, 6] rfl))
    · obtain ⟨k0, hA, hB⟩ := hkk.resolve_right (fun w => by have := w.1; omega)
      obtain ⟨ey, es⟩ := Rd_lean hA hB
      subst es
      subst ey
      refine lv_aload_n hx hb dL_law_2000 rfl (lv_at hl 3 rfl) ?_
      refine z_getn hC (k := 1) rfl in_X4 hoF (by decide) q887 (fun _ h => h) rfl dL_law_2001 ?_
      refine lv_dload hx hb dL_law_2004 (lv_at hl 0 rfl) ?_
      refine lv_dcmp hx hb dL_law_2006 ?_
      refine lv_if_eq (tgt := 2032) hx hb dL_law_2007 (by decide)   (fun c7 => ?_) (fun c7 => ?_)
      · refine lv_goto (tgt := 2435) hx hb dL_law_2032 (by decide) ?_
        exact W.widen (by omega) (by omega) (IH _ _ _ ρ1 μ1 _ _ n1 d1 s1 hhF hmF e0 em hdmF hoF hofF homF hdjF hS (lv_sub hl [2, 3, 4, 5, 6] rfl))
      · refine lv_aload_n hx hb dL_law_2010 rfl (lv_at hl 3 rfl) ?_
        refine z_getn hC (k := 1) rfl in_X4 hoF (by decide) q887 (fun _ h => h) rfl dL_law_2011 ?_
        refine lv_aload_n hx hb dL_law_2014 rfl (lv_at hl 3 rfl) ?_
        refine z_getn hC (k := 1) rfl in_X4 hoF (by decide) q887 (fun _ h => h) rfl dL_law_2015 ?_
        refine lv_dcmp hx hb dL_law_2018 ?_
        refine lv_if_eq (tgt := 2030) hx hb dL_law_2019 (by decide)   (fun c8 => ?_) (fun c8 => ?_)
        · exact absurd (by assumption) (by assumption)
        · refine lv_dload hx hb dL_law_2022 (lv_at hl 0 rfl) ?_
          refine lv_dload hx hb dL_law_2024 (lv_at hl 0 rfl) ?_
          refine lv_dcmp hx hb dL_law_2026 ?_
          refine lv_if_ne (tgt := 2032) hx hb dL_law_2027 (by decide)   (fun c9 => ?_) (fun c9 => ?_)
          · refine lv_goto (tgt := 2435) hx hb dL_law_2032 (by decide) ?_
            exact W.widen (by omega) (by omega) (IH _ _ _ ρ1 μ1 _ _ n1 d1 s1 hhF hmF e0 em hdmF hoF hofF homF hdjF hS (lv_sub hl [2, 3, 4, 5, 6] rfl))
          · exact absurd (by assumption) (by assumption)
  · omega

set_option maxHeartbeats 4000000 in
theorem lwc_27 {p : Program} {l : Launch} {e : Env} {s : State} {m : MethodId} {below : List Frame} {meth : Method} {c : Code} {G : zG} {H0 : Heap} {b L xa ma oa : Nat} {xs : Nat → Int32} {Q : State → Prop} {i Cc Sc : Nat} (hE : zE l s G) (hC : zC p l s G s m #[.ref b] c "VersorhallLaw" cL_law) (hml : c.maxLocals = 9) (hH0 : s.heap = H0) (hX : va_X b L xs s H0) (hbl : b < H0.size) (hL : L ≤ 256) (hnc : zNc s) (hoa : s.heap.size ≤ oa) (hi4 : i + 4 ≤ L) (hcc : Cc + 9000 ≤ 601152 ∧ Sc + 110000 ≤ 7254250) (IH : lwJ p l e s m below meth c G H0 b xa ma oa Q 2435 i (Cc + 9000) (Sc + 110000)) : lwJ p l e s m below meth c G H0 b xa ma oa Q 2035 i Cc Sc := by
  intro H locs ls ρ μ σ th n9 d9 s9 hh hm exa ema hdm ho hof hom hdj hS hl
  subst exa
  subst ema
  have hx := hC.x
  have hb := hC.b
  have hp9 := hh.ok.1
  have hO : zO s H0 := ⟨by rw [hH0]; exact Nat.le_refl _, fun _ _ => by rw [hH0]⟩
  have hP : va_P G.1 zCl [] H := va_nil
  have hD : va_D (zA M0 H0) [] := va_nilD
  refine lv_aload_n hx hb dL_law_2035 rfl (lv_at hl 3 rfl) ?_
  have hO0 : zO s H := hO.ext0 (zS_F hS)
  have hol := ho.lt
  obtain ⟨sm, hxx⟩ := id hh.2.2.1.1
  refine z_go (Cc + 1) (Sc + 4) (z_runV (As := []) (rest := []) hC hml hl.1 (z_mon (m_X1_poise hE H (hO.ext0 (zS_F hS)) ρ σ hh)) (lw_V q233 q234 q235 q62 q236) rfl nd_X1_poise rfl (z_rv hC (ci := 0) rfl hxx rfl) rfl (Nat.le_of_ble_eq_true rfl) ⟨Nat.le_of_ble_eq_true rfl, Nat.le_of_ble_eq_true rfl⟩ ⟨zfit (k := 1) (z := 601152) rfl rfl (by omega), zfit (k := 4) (z := 7254250) rfl rfl (by omega)⟩ dL_law_2036) ⟨zad (k := 1) rfl (by omega), zad (k := 4) rfl (by omega)⟩ hS (fun _ z => z.elim) (fun r H1 locs hp hF hS1 => ?_)
  obtain ⟨⟨_, rfl, rfl⟩, hmk⟩ := hp
  have hP : va_P G.1 zCl [] H1 := va_nil
  have hD : va_D (zA M0 H0) [] := va_nilD
  have ho := ho.ext0 hF
  obtain ⟨ρ1, hh, e0, hdm, hm, hof, hdj⟩ := LI_cls hE hO0 hm hof hom hol hdj hdm hF.of0 hmk (PoC.same (hh.ext0 hE hF))
  have hP : va_P G.1 zCl ([]) H1 := hP
  have hD : va_D (zA M0 H0) ([]) := hD
  have hS := hS1
  refine lv_dstore (lv' := [(5, .double (poD σ)), (4, .int (iI ((i : Nat) : Int))), (3, .ref oa), (2, .ref (μ (0, 0, 0))), (1, .ref (ρ (0, 0, 0))), (0, .ref b)]) hx hb dL_law_2039 hl (by decide) rfl (fun ls hl => ?_)
  refine lv_aload_n hx hb dL_law_2041 rfl (lv_at hl 3 rfl) ?_
  have hO1 : zO s H1 := hO.ext0 (zS_F hS)
  have hol1 := ho.lt
  refine z_go (Cc + 1) (Sc + 4) (z_runV (As := []) (rest := []) hC hml hl.1 (z_mon (m_X3_poise hE H1 (hO.ext0 (zS_F hS)) μ σ th hm)) (lw_V q1883 q1884 q1885 q67 q1886) rfl nd_X3_poise rfl (z_rv hC (ci := 2) rfl hm.2.2.1.1 rfl) rfl (Nat.le_of_ble_eq_true rfl) ⟨Nat.le_of_ble_eq_true rfl, Nat.le_of_ble_eq_true rfl⟩ ⟨zfit (k := 0) (z := 601152) rfl rfl (by omega), zfit (k := 0) (z := 7254250) rfl rfl (by omega)⟩ dL_law_2042) ⟨zad (k := 0) rfl (by omega), zad (k := 0) rfl (by omega)⟩ hS (fun q z => Or.inr (by rw [← hH0]; exact FM.ge hm.sep z)) (fun r H2 locs hp hF hS1 => ?_)
  obtain ⟨⟨_, rfl, rfl, hpm⟩, hmk⟩ := hp
  have hP : va_P G.1 zCl [] H2 := va_nil
  have hD : va_D (zA M0 H0) [] := va_nilD
  have ho := ho.ext hF hom
  obtain ⟨μ1, hm, em, hdm, hh, hom, hdj⟩ := LI_mdl hE hO1 hh hom hol1 hdj hdm hF hmk hpm
  have hP : va_P G.1 zCl ([]) H2 := hP
  have hD : va_D (zA M0 H0) ([]) := hD
  have hS := hS1
  have hhF := hh
  have hmF := hm
  have hdmF := hdm
  have hoF := ho
  have hofF := hof
  have homF := hom
  have hdjF := hdj
  refine lv_dstore (lv' := [(7, .double (poD σ)), (5, .double (poD σ)), (4, .int (iI ((i : Nat) : Int))), (3, .ref oa), (2, .ref (μ (0, 0, 0))), (1, .ref (ρ (0, 0, 0))), (0, .ref b)]) hx hb dL_law_2045 hl (by decide) rfl (fun ls hl => ?_)
  refine lv_dload hx hb dL_law_2047 (lv_at hl 1 rfl) ?_
  refine lv_dload hx hb dL_law_2049 (lv_at hl 0 rfl) ?_
  refine lv_dcmp hx hb dL_law_2051 ?_
  refine lv_if_eq (tgt := 2073) hx hb dL_law_2052 (by decide)   (fun c3 => ?_) (fun c3 => ?_)
  · refine lv_goto (tgt := 2435) hx hb dL_law_2073 (by decide) ?_
    exact W.widen (by omega) (by omega) (IH _ _ _ ρ1 μ1 _ _ n9 d9 s9 hhF hmF e0 em hdmF hoF hofF homF hdjF hS (lv_sub hl [2, 3, 4, 5, 6] rfl))
  · refine lv_dload hx hb dL_law_2055 (lv_at hl 1 rfl) ?_
    refine lv_dload hx hb dL_law_2057 (lv_at hl 1 rfl) ?_
    refine lv_dcmp hx hb dL_law_2059 ?_
    refine lv_if_eq (tgt := 2071) hx hb dL_law_2060 (by decide)   (fun c4 => ?_) (fun c4 => ?_)
    · exact absurd (by assumption) (by assumption)
    · refine lv_dload hx hb dL_law_2063 (lv_at hl 0 rfl) ?_
      refine lv_dload hx hb dL_law_2065 (lv_at hl 0 rfl) ?_
      refine lv_dcmp hx hb dL_law_2067 ?_
      refine lv_if_ne (tgt := 2073) hx hb dL_law_2068 (by decide)   (fun c5 => ?_) (fun c5 => ?_)
      · refine lv_goto (tgt := 2435) hx hb dL_law_2073 (by decide) ?_
        exact W.widen (by omega) (by omega) (IH _ _ _ ρ1 μ1 _ _ n9 d9 s9 hhF hmF e0 em hdmF hoF hofF homF hdjF hS (lv_sub hl [2, 3, 4, 5, 6] rfl))
      · exact absurd (by assumption) (by assumption)

set_option maxHeartbeats 4000000 in
theorem lwc_33 {p : Program} {l : Launch} {e : Env} {s : State} {m : MethodId} {below : List Frame} {meth : Method} {c : Code} {G : zG} {H0 : Heap} {b L xa ma oa : Nat} {xs : Nat → Int32} {Q : State → Prop} {i Cc Sc : Nat} (hE : zE l s G) (hC : zC p l s G s m #[.ref b] c "VersorhallLaw" cL_law) (hml : c.maxLocals = 9) (hH0 : s.heap = H0) (hX : va_X b L xs s H0) (hbl : b < H0.size) (hL : L ≤ 256) (hnc : zNc s) (hoa : s.heap.size ≤ oa) (hi4 : i + 4 ≤ L) (hcc : Cc + 9000 ≤ 601152 ∧ Sc + 110000 ≤ 7254250) (IH : lwJ p l e s m below meth c G H0 b xa ma oa Q 2435 i (Cc + 9000) (Sc + 110000)) : lwJ p l e s m below meth c G H0 b xa ma oa Q 2421 i Cc Sc := by
  intro H locs ls ρ μ σ th n9 d9 s9 hh hm exa ema hdm ho hof hom hdj hS hl
  subst exa
  subst ema
  have hx := hC.x
  have hb := hC.b
  have hp9 := hh.ok.1
  have hO : zO s H0 := ⟨by rw [hH0]; exact Nat.le_refl _, fun _ _ => by rw [hH0]⟩
  have hP : va_P G.1 zCl [] H := va_nil
  have hD : va_D (zA M0 H0) [] := va_nilD
  refine lv_aload_n hx hb dL_law_2421 rfl (lv_at hl 3 rfl) ?_
  have hO0 : zO s H := hO.ext0 (zS_F hS)
  have hol := ho.lt
  obtain ⟨sm, hxx⟩ := id hh.2.2.1.1
  refine z_go (Cc + 3800) (Sc + 50000) (z_runV (As := []) (rest := []) hC hml hl.1 (z_mon (m_X1_digest hE H (hO.ext0 (zS_F hS)) ρ σ hh)) (lw_V q283 q284 q285 q62 q286) rfl nd_X1_digest rfl (z_rv hC (ci := 0) rfl hxx rfl) rfl (Nat.le_of_ble_eq_true rfl) ⟨Nat.le_of_ble_eq_true rfl, Nat.le_of_ble_eq_true rfl⟩ ⟨zfit (k := 3800) (z := 601152) rfl rfl (by omega), zfit (k := 50000) (z := 7254250) rfl rfl (by omega)⟩ dL_law_2422) ⟨zad (k := 3800) rfl (by omega), zad (k := 50000) rfl (by omega)⟩ hS (fun q z => Or.inr (by rw [← hH0]; exact FC.ge hh.sep z)) (fun r H1 locs hp hF hS1 => ?_)
  obtain ⟨⟨_, rfl, rfl, h9⟩, hmk⟩ := hp
  have hP : va_P G.1 zCl [] H1 := va_nil
  have hD : va_D (zA M0 H0) [] := va_nilD
  have ho := ho.ext hF hof
  obtain ⟨ρ1, hh, e0, hdm, hm, hof, hdj⟩ := LI_cls hE hO0 hm hof hom hol hdj hdm (hF.mono (fun _ _ z => Or.inl z)) hmk (PoC.same h9)
  have hP : va_P G.1 zCl ([]) H1 := hP
  have hD : va_D (zA M0 H0) ([]) := hD
  have hS := hS1
  refine lv_aload_n hx hb dL_law_2425 rfl (lv_at hl 2 rfl) ?_
  have hO1 : zO s H1 := hO.ext0 (zS_F hS)
  have hol1 := ho.lt
  refine z_go ((Cc + 3800) + 3800) ((Sc + 50000) + 57000) (z_runV (As := []) (rest := [.long (lI (dgV σ))]) hC hml hl.1 (z_mon (m_X3_digest hE H1 (hO.ext0 (zS_F hS)) μ σ th hm)) (lw_V q1938 q1939 q1940 q67 q1941) rfl nd_X3_digest rfl (z_rv hC (ci := 2) rfl hm.2.2.1.1 rfl) rfl (Nat.le_of_ble_eq_true rfl) ⟨Nat.le_of_ble_eq_true rfl, Nat.le_of_ble_eq_true rfl⟩ ⟨zfit (k := 3800) (z := 601152) rfl rfl (by omega), zfit (k := 57000) (z := 7254250) rfl rfl (by omega)⟩ dL_law_2426) ⟨zad (k := 3800) rfl (by omega), zad (k := 57000) rfl (by omega)⟩ hS (fun q z => Or.inr (by rw [← hH0]; exact FM.ge hm.sep z)) (fun r H2 locs hp hF hS1 => ?_)
  obtain ⟨⟨_, rfl, rfl, hpm⟩, hmk⟩ := hp
  have hP : va_P G.1 zCl [] H2 := va_nil
  have hD : va_D (zA M0 H0) [] := va_nilD
  have ho := ho.ext hF hom
  obtain ⟨μ1, hm, em, hdm, hh, hom, hdj⟩ := LI_mdl hE hO1 hh hom hol1 hdj hdm hF hmk hpm
  have hP : va_P G.1 zCl ([]) H2 := hP
  have hD : va_D (zA M0 H0) ([]) := hD
  have hS := hS1
  have hhF := hh
  have hmF := hm
  have hdmF := hdm
  have hoF := ho
  have hofF := hof
  have homF := hom
  have hdjF := hdj
  refine z_lcq hx hb rfl dL_law_2429 ?_
  refine z_zeq (tgt := 2435) hx hb dL_law_2430 (by decide) (by omega) (fun c3 => ?_) (fun c3 => ?_)
  · exact W.widen (by omega) (by omega) (IH _ _ _ ρ1 μ1 _ _ n9 d9 s9 hhF hmF e0 em hdmF hoF hofF homF hdjF hS (lv_sub hl [0, 1, 2, 3, 4] rfl))
  · omega

