/-! THE LAW: more of its cases -/
set_option maxRecDepth 100000
set_option maxHeartbeats 4000000 in
theorem lwc_15 {p : Program} {l : Launch} {e : Env} {s : State} {m : MethodId} {below : List Frame} {meth : Method} {c : Code} {G : zG} {H0 : Heap} {b L xa ma oa : Nat} {xs : Nat → Int32} {Q : State → Prop} {i Cc Sc : Nat} (hE : zE l s G) (hC : zC p l s G s m #[.ref b] c "VersorhallLaw" cL_law) (hml : c.maxLocals = 9) (hH0 : s.heap = H0) (hX : va_X b L xs s H0) (hbl : b < H0.size) (hL : L ≤ 256) (hnc : zNc s) (hoa : s.heap.size ≤ oa) (hi4 : i + 4 ≤ L) (hcc : Cc + 9000 ≤ 601152 ∧ Sc + 110000 ≤ 7254250) (IH : lwJ p l e s m below meth c G H0 b xa ma oa Q 2435 i (Cc + 9000) (Sc + 110000)) : lwJ p l e s m below meth c G H0 b xa ma oa Q 1227 i Cc Sc := by
  intro H locs ls ρ μ σ th n9 d9 s9 hh hm exa ema hdm ho hof hom hdj hS hl
  subst exa
  subst ema
  have hx := hC.x
  have hb := hC.b
  have hp9 := hh.ok.1
  have hO : zO s H0 := ⟨by rw [hH0]; exact Nat.le_refl _, fun _ _ => by rw [hH0]⟩
  have hP : va_P G.1 zCl [] H := va_nil
  have hD : va_D (zA M0 H0) [] := va_nilD
  obtain ⟨z1, e1⟩ : ∃ z : Int, (xs (i + 1)).toInt = z := ⟨_, rfl⟩
  have hz1 : zi z1 := by rw [← e1]; exact ⟨Int32.le_toInt _, Int32.toInt_lt _⟩
  obtain ⟨z2, e2⟩ : ∃ z : Int, (xs (i + 2)).toInt = z := ⟨_, rfl⟩
  have hz2 : zi z2 := by rw [← e2]; exact ⟨Int32.le_toInt _, Int32.toInt_lt _⟩
  obtain ⟨z3, e3⟩ : ∃ z : Int, (xs (i + 3)).toInt = z := ⟨_, rfl⟩
  have hz3 : zi z3 := by rw [← e3]; exact ⟨Int32.le_toInt _, Int32.toInt_lt _⟩
  refine lv_aload_n hx hb dL_law_1227 rfl (lv_at hl 3 rfl) ?_
  refine lv_aload_n hx hb dL_law_1228 rfl (lv_at hl 4 rfl) ?_
  refine lv_iload hx hb dL_law_1229 (lv_at hl 0 rfl) ?_
  refine lv_iconst (v := iI 1) hx hb dL_law_1231 rfl ?_
  refine z_add hx hb (z := ((i : Nat) : Int) + 1) dL_law_1232 rfl ?_
  refine z_sld hC hX hbl hS (k := i + 1) (by omega) (by omega) (by omega) dL_law_1233 ?_
  refine z_top (b := z1) e1 ?_
  refine lv_aload_n hx hb dL_law_1234 rfl (lv_at hl 4 rfl) ?_
  refine lv_iload hx hb dL_law_1235 (lv_at hl 0 rfl) ?_
  refine lv_iconst (v := iI 2) hx hb dL_law_1237 rfl ?_
  refine z_add hx hb (z := ((i : Nat) : Int) + 2) dL_law_1238 rfl ?_
  refine z_sld hC hX hbl hS (k := i + 2) (by omega) (by omega) (by omega) dL_law_1239 ?_
  refine z_top (b := z2) e2 ?_
  refine lv_aload_n hx hb dL_law_1240 rfl (lv_at hl 4 rfl) ?_
  refine lv_iload hx hb dL_law_1241 (lv_at hl 0 rfl) ?_
  refine lv_iconst (v := iI 3) hx hb dL_law_1243 rfl ?_
  refine z_add hx hb (z := ((i : Nat) : Int) + 3) dL_law_1244 rfl ?_
  refine z_sld hC hX hbl hS (k := i + 3) (by omega) (by omega) (by omega) dL_law_1245 ?_
  refine z_top (b := z3) e3 ?_
  refine lv_aload_n hx hb dL_law_1246 rfl (lv_at hl 1 rfl) ?_
  have hO0 : zO s H := hO.ext0 (zS_F hS)
  have hol := ho.lt
  refine z_goX (Cc + 16) (Sc + 131) (z_runSw (As := [.ref (ρ (0, 0, 0)), .int (iI z1), .int (iI z2), .int (iI z3), .ref oa]) (rest := []) hC hml hl.1 (z_monW (m_X0_mirror hE H (hO.ext0 (zS_F hS)) ρ σ z1 z2 z3 oa n9 d9 s9 hh hdm ho hoa hof hnc ⟨hz1, hz2, hz3⟩)) (lw_SW q1353 q1354 q61 q1355) nd_X0_mirror rfl rfl (Nat.le_of_ble_eq_true rfl) ⟨Nat.le_of_ble_eq_true rfl, Nat.le_of_ble_eq_true rfl⟩ ⟨zfit (k := 16) (z := 601152) rfl rfl (by omega), zfit (k := 131) (z := 7254250) rfl rfl (by omega)⟩ dL_law_1247) ⟨zad (k := 16) rfl (by omega), zad (k := 131) rfl (by omega)⟩ hS (fun q z => Or.inr (by rw [← hH0]; exact z.elim (fun w => FC.ge hh.sep w) (fun w => by rw [w]; exact hoa))) (fun E ce q9 Hx1 locs hp hF hS1 hce hcv hcl => ?_) (fun r H2 locs hp hF hS1 => ?_)
  · exact hp.1.elim
  obtain ⟨⟨kk, rfl, σ1, n1, d1, s1, hpo, ho, hk1⟩, hmk⟩ := hp
  have hP : va_P G.1 zCl [] H2 := va_nil
  have hD : va_D (zA M0 H0) [] := va_nilD
  obtain ⟨ρ1, hh, e0, hdm, hm, hof, hdj⟩ := LI_cls hE hO0 hm hof hom hol hdj hdm hF hmk hpo
  have hP : va_P G.1 zCl ([]) H2 := hP
  have hD : va_D (zA M0 H0) ([]) := hD
  have hS := hS1
  refine lv_istore (lv' := [(5, .int (iI kk)), (4, .int (iI ((i : Nat) : Int))), (3, .ref oa), (2, .ref (μ (0, 0, 0))), (1, .ref (ρ (0, 0, 0))), (0, .ref b)]) hx hb dL_law_1250 hl (by decide) rfl (fun ls hl => ?_)
  refine lv_aload_n hx hb dL_law_1252 rfl (lv_at hl 3 rfl) ?_
  refine lv_aload_n hx hb dL_law_1253 rfl (lv_at hl 5 rfl) ?_
  refine lv_iload hx hb dL_law_1254 (lv_at hl 1 rfl) ?_
  refine lv_iconst (v := iI 1) hx hb dL_law_1256 rfl ?_
  refine z_add hx hb (z := ((i : Nat) : Int) + 1) dL_law_1257 rfl ?_
  refine z_sld hC hX hbl hS (k := i + 1) (by omega) (by omega) (by omega) dL_law_1258 ?_
  refine z_top (b := z1) e1 ?_
  refine lv_aload_n hx hb dL_law_1259 rfl (lv_at hl 5 rfl) ?_
  refine lv_iload hx hb dL_law_1260 (lv_at hl 1 rfl) ?_
  refine lv_iconst (v := iI 2) hx hb dL_law_1262 rfl ?_
  refine z_add hx hb (z := ((i : Nat) : Int) + 2) dL_law_1263 rfl ?_
  refine z_sld hC hX hbl hS (k := i + 2) (by omega) (by omega) (by omega) dL_law_1264 ?_
  refine z_top (b := z2) e2 ?_
  refine lv_aload_n hx hb dL_law_1265 rfl (lv_at hl 5 rfl) ?_
  refine lv_iload hx hb dL_law_1266 (lv_at hl 1 rfl) ?_
  refine lv_iconst (v := iI 3) hx hb dL_law_1268 rfl ?_
  refine z_add hx hb (z := ((i : Nat) : Int) + 3) dL_law_1269 rfl ?_
  refine z_sld hC hX hbl hS (k := i + 3) (by omega) (by omega) (by omega) dL_law_1270 ?_
  refine z_top (b := z3) e3 ?_
  have hO1 : zO s H2 := hO.ext0 (zS_F hS)
  have hol1 := ho.lt
  refine z_go ((Cc + 16) + 5) ((Sc + 131) + 80) (z_runV (As := [.int (iI z1), .int (iI z2), .int (iI z3)]) (rest := []) hC hml hl.1 (z_mon (m_X3_mirror hE H2 (hO.ext0 (zS_F hS)) μ σ th z1 z2 z3 hm ⟨hz1, hz2, hz3⟩)) (lw_V q1781 q1782 q1783 q67 q1784) rfl nd_X3_mirror rfl (z_rv hC (ci := 2) rfl hm.2.2.1.1 rfl) rfl (Nat.le_of_ble_eq_true rfl) ⟨Nat.le_of_ble_eq_true rfl, Nat.le_of_ble_eq_true rfl⟩ ⟨zfit (k := 5) (z := 601152) rfl rfl (by omega), zfit (k := 80) (z := 7254250) rfl rfl (by omega)⟩ dL_law_1271) ⟨zad (k := 5) rfl (by omega), zad (k := 80) rfl (by omega)⟩ hS (fun q z => Or.inr (by rw [← hH0]; exact FM.ge hm.sep z)) (fun r H3 locs hp hF hS1 => ?_)
  obtain ⟨⟨yb, rfl, k2, σ2, hpm, h2⟩, hmk⟩ := hp
  have hP : va_P G.1 zCl [] H3 := va_nil
  have hD : va_D (zA M0 H0) [] := va_nilD
  have ho := ho.ext hF hom
  obtain ⟨μ1, hm, em, hdm, hh, hom, hdj⟩ := LI_mdl hE hO1 hh hom hol1 hdj hdm hF hmk hpm
  have hP : va_P G.1 zCl ([]) H3 := hP
  have hD : va_D (zA M0 H0) ([]) := hD
  have hS := hS1
  have hag := z_agr (ex := [IOB, IAE, ISE]) (X := X_mirror σ z1 z2 z3) (B := R_mirror σ z1 z2 z3 yb σ2) (nd_3 (by decide) (by decide) (by decide)) (fun a E hX => by obtain ⟨y, hR, -⟩ := a; exact Rx_mirror hR hX) (fun a E hX => Rx_mirror a hX) (fun E E' a b => Xu_mirror a b) hk1 h2
  obtain ⟨ek, hk3, hkk⟩ := hag
  have hk3 : k2 ≤ 3 := Nat.le_trans hk3 (by decide)
  subst ek
  refine lv_istore (lv' := [(6, .int (iI yb)), (5, .int (iI ((k2 : Nat) : Int))), (4, .int (iI ((i : Nat) : Int))), (3, .ref oa), (2, .ref (μ (0, 0, 0))), (1, .ref (ρ (0, 0, 0))), (0, .ref b)]) hx hb dL_law_1274 hl (by decide) rfl (fun ls hl => ?_)
  refine lv_aload_n hx hb dL_law_1276 rfl (lv_at hl 4 rfl) ?_
  rw [← em]
  refine z_go ((Cc + 16) + 5) ((Sc + 131) + 80) (z_runV (As := []) (rest := []) hC hml hl.1 (m_X3_thrown hE H3 (hO.ext0 (zS_F hS)) μ1 σ2 ((k2 : Nat) : Int) hm) (lw_V q1512 q1513 q1514 q67 q1515) rfl nd_X3_thrown rfl (z_rv hC (ci := 2) rfl hm.2.2.1.1 rfl) rfl (Nat.le_of_ble_eq_true rfl) ⟨Nat.le_of_ble_eq_true rfl, Nat.le_of_ble_eq_true rfl⟩ ⟨zfit (k := 0) (z := 601152) rfl rfl (by omega), zfit (k := 0) (z := 7254250) rfl rfl (by omega)⟩ dL_law_1277) ⟨zad (k := 0) rfl (by omega), zad (k := 0) rfl (by omega)⟩ hS (fun _ z => z.elim) (fun r H4 locs hp hF hS1 => ?_)
  obtain ⟨_, rfl, rfl⟩ := hp
  have hP : va_P G.1 zCl [] H4 := va_nil
  have hD : va_D (zA M0 H0) [] := va_nilD
  have hh := hh.ext0 hE hF
  have hm := hm.ext0 hE hF
  have hdm := hdm.ext0 hF
  have ho := ho.ext0 hF
  have hP : va_P G.1 zCl ([]) H4 := hP
  have hD : va_D (zA M0 H0) ([]) := hD
  have hS := hS1
  have hhF := hh
  have hmF := hm
  have hdmF := hdm
  have hoF := ho
  have hofF := hof
  have homF := hom
  have hdjF := hdj
  refine lv_iload hx hb dL_law_1280 (lv_at hl 1 rfl) ?_
  refine z_ceq (tgt := 1287) hx hb dL_law_1282 (by decide) (by omega) (fun c5 => ?_) (fun c5 => ?_)
  · refine lv_iload hx hb dL_law_1287 (lv_at hl 1 rfl) ?_
    refine z_zne (tgt := 1305) hx hb dL_law_1289 (by decide) (by omega) (fun c6 => ?_) (fun c6 => ?_)
    · obtain ⟨-, es1, es2⟩ := hkk.resolve_left (fun w => by have := w.1; omega)
      subst es1
      subst es2
      refine lv_goto (tgt := 2435) hx hb dL_law_1305 (by decide) ?_
      exact W.widen (by omega) (by omega) (IH _ _ _ ρ1 μ1 _ _ n1 d1 s1 hhF hmF e0 em hdmF hoF hofF homF hdjF hS (lv_sub hl [2, 3, 4, 5, 6] rfl))
    · obtain ⟨k0, hA, hB⟩ := hkk.resolve_right (fun w => by have := w.1; omega)
      obtain ⟨y1, hR1, en⟩ := hA
      obtain ⟨ey, es⟩ := Rd_mirror hR1 hB
      subst es
      refine lv_aload_n hx hb dL_law_1292 rfl (lv_at hl 3 rfl) ?_
      refine z_getn hC (k := 0) rfl in_X4 hoF (by decide) q886 (fun _ h => h) rfl dL_law_1293 ?_
      refine lv_iload hx hb dL_law_1296 (lv_at hl 0 rfl) ?_
      refine lv_i2l hx hb dL_law_1298 rfl ?_
      refine z_lcq hx hb (by rw [en, ey]) dL_law_1299 ?_
      refine z_zeq (tgt := 1305) hx hb dL_law_1300 (by decide) (by omega) (fun c7 => ?_) (fun c7 => ?_)
      · refine lv_goto (tgt := 2435) hx hb dL_law_1305 (by decide) ?_
        exact W.widen (by omega) (by omega) (IH _ _ _ ρ1 μ1 _ _ n1 d1 s1 hhF hmF e0 em hdmF hoF hofF homF hdjF hS (lv_sub hl [2, 3, 4, 5, 6] rfl))
      · omega
  · omega

set_option maxHeartbeats 4000000 in
theorem lwc_16 {p : Program} {l : Launch} {e : Env} {s : State} {m : MethodId} {below : List Frame} {meth : Method} {c : Code} {G : zG} {H0 : Heap} {b L xa ma oa : Nat} {xs : Nat → Int32} {Q : State → Prop} {i Cc Sc : Nat} (hE : zE l s G) (hC : zC p l s G s m #[.ref b] c "VersorhallLaw" cL_law) (hml : c.maxLocals = 9) (hH0 : s.heap = H0) (hX : va_X b L xs s H0) (hbl : b < H0.size) (hL : L ≤ 256) (hnc : zNc s) (hoa : s.heap.size ≤ oa) (hi4 : i + 4 ≤ L) (hcc : Cc + 9000 ≤ 601152 ∧ Sc + 110000 ≤ 7254250) (IH : lwJ p l e s m below meth c G H0 b xa ma oa Q 2435 i (Cc + 9000) (Sc + 110000)) : lwJ p l e s m below meth c G H0 b xa ma oa Q 1308 i Cc Sc := by
  intro H locs ls ρ μ σ th n9 d9 s9 hh hm exa ema hdm ho hof hom hdj hS hl
  subst exa
  subst ema
  have hx := hC.x
  have hb := hC.b
  have hp9 := hh.ok.1
  have hO : zO s H0 := ⟨by rw [hH0]; exact Nat.le_refl _, fun _ _ => by rw [hH0]⟩
  have hP : va_P G.1 zCl [] H := va_nil
  have hD : va_D (zA M0 H0) [] := va_nilD
  obtain ⟨z1, e1⟩ : ∃ z : Int, (xs (i + 1)).toInt = z := ⟨_, rfl⟩
  have hz1 : zi z1 := by rw [← e1]; exact ⟨Int32.le_toInt _, Int32.toInt_lt _⟩
  obtain ⟨z2, e2⟩ : ∃ z : Int, (xs (i + 2)).toInt = z := ⟨_, rfl⟩
  have hz2 : zi z2 := by rw [← e2]; exact ⟨Int32.le_toInt _, Int32.toInt_lt _⟩
  refine lv_aload_n hx hb dL_law_1308 rfl (lv_at hl 3 rfl) ?_
  refine lv_aload_n hx hb dL_law_1309 rfl (lv_at hl 4 rfl) ?_
  refine lv_iload hx hb dL_law_1310 (lv_at hl 0 rfl) ?_
  refine lv_iconst (v := iI 1) hx hb dL_law_1312 rfl ?_
  refine z_add hx hb (z := ((i : Nat) : Int) + 1) dL_law_1313 rfl ?_
  refine z_sld hC hX hbl hS (k := i + 1) (by omega) (by omega) (by omega) dL_law_1314 ?_
  refine z_top (b := z1) e1 ?_
  refine lv_aload_n hx hb dL_law_1315 rfl (lv_at hl 4 rfl) ?_
  refine lv_iload hx hb dL_law_1316 (lv_at hl 0 rfl) ?_
  refine lv_iconst (v := iI 2) hx hb dL_law_1318 rfl ?_
  refine z_add hx hb (z := ((i : Nat) : Int) + 2) dL_law_1319 rfl ?_
  refine z_sld hC hX hbl hS (k := i + 2) (by omega) (by omega) (by omega) dL_law_1320 ?_
  refine z_top (b := z2) e2 ?_
  refine lv_aload_n hx hb dL_law_1321 rfl (lv_at hl 1 rfl) ?_
  have hO0 : zO s H := hO.ext0 (zS_F hS)
  have hol := ho.lt
  refine z_goX (Cc + 100) (Sc + 1000) (z_runSw (As := [.ref (ρ (0, 0, 0)), .int (iI z1), .int (iI z2), .ref oa]) (rest := []) hC hml hl.1 (z_monW (m_X0_turn hE H (hO.ext0 (zS_F hS)) ρ σ z1 z2 oa n9 d9 s9 hh hdm ho hoa hof hnc ⟨hz1, hz2⟩)) (lw_SW q1365 q1366 q61 q1367) nd_X0_turn rfl rfl (Nat.le_of_ble_eq_true rfl) ⟨Nat.le_of_ble_eq_true rfl, Nat.le_of_ble_eq_true rfl⟩ ⟨zfit (k := 100) (z := 601152) rfl rfl (by omega), zfit (k := 1000) (z := 7254250) rfl rfl (by omega)⟩ dL_law_1322) ⟨zad (k := 100) rfl (by omega), zad (k := 1000) rfl (by omega)⟩ hS (fun q z => Or.inr (by rw [← hH0]; exact z.elim (fun w => FC.ge hh.sep w) (fun w => by rw [w]; exact hoa))) (fun E ce q9 Hx1 locs hp hF hS1 hce hcv hcl => ?_) (fun r H2 locs hp hF hS1 => ?_)
  · exact hp.1.elim
  obtain ⟨⟨kk, rfl, σ1, n1, d1, s1, hpo, ho, hk1⟩, hmk⟩ := hp
  have hP : va_P G.1 zCl [] H2 := va_nil
  have hD : va_D (zA M0 H0) [] := va_nilD
  obtain ⟨ρ1, hh, e0, hdm, hm, hof, hdj⟩ := LI_cls hE hO0 hm hof hom hol hdj hdm hF hmk hpo
  have hP : va_P G.1 zCl ([]) H2 := hP
  have hD : va_D (zA M0 H0) ([]) := hD
  have hS := hS1
  refine lv_istore (lv' := [(5, .int (iI kk)), (4, .int (iI ((i : Nat) : Int))), (3, .ref oa), (2, .ref (μ (0, 0, 0))), (1, .ref (ρ (0, 0, 0))), (0, .ref b)]) hx hb dL_law_1325 hl (by decide) rfl (fun ls hl => ?_)
  refine lv_aload_n hx hb dL_law_1327 rfl (lv_at hl 3 rfl) ?_
  refine lv_aload_n hx hb dL_law_1328 rfl (lv_at hl 5 rfl) ?_
  refine lv_iload hx hb dL_law_1329 (lv_at hl 1 rfl) ?_
  refine lv_iconst (v := iI 1) hx hb dL_law_1331 rfl ?_
  refine z_add hx hb (z := ((i : Nat) : Int) + 1) dL_law_1332 rfl ?_
  refine z_sld hC hX hbl hS (k := i + 1) (by omega) (by omega) (by omega) dL_law_1333 ?_
  refine z_top (b := z1) e1 ?_
  refine lv_aload_n hx hb dL_law_1334 rfl (lv_at hl 5 rfl) ?_
  refine lv_iload hx hb dL_law_1335 (lv_at hl 1 rfl) ?_
  refine lv_iconst (v := iI 2) hx hb dL_law_1337 rfl ?_
  refine z_add hx hb (z := ((i : Nat) : Int) + 2) dL_law_1338 rfl ?_
  refine z_sld hC hX hbl hS (k := i + 2) (by omega) (by omega) (by omega) dL_law_1339 ?_
  refine z_top (b := z2) e2 ?_
  have hO1 : zO s H2 := hO.ext0 (zS_F hS)
  have hol1 := ho.lt
  refine z_go ((Cc + 100) + 60) ((Sc + 1000) + 800) (z_runV (As := [.int (iI z1), .int (iI z2)]) (rest := []) hC hml hl.1 (z_mon (m_X3_turn hE H2 (hO.ext0 (zS_F hS)) μ σ th z1 z2 hm ⟨hz1, hz2⟩)) (lw_V q1791 q1792 q1793 q67 q1794) rfl nd_X3_turn rfl (z_rv hC (ci := 2) rfl hm.2.2.1.1 rfl) rfl (Nat.le_of_ble_eq_true rfl) ⟨Nat.le_of_ble_eq_true rfl, Nat.le_of_ble_eq_true rfl⟩ ⟨zfit (k := 60) (z := 601152) rfl rfl (by omega), zfit (k := 800) (z := 7254250) rfl rfl (by omega)⟩ dL_law_1340) ⟨zad (k := 60) rfl (by omega), zad (k := 800) rfl (by omega)⟩ hS (fun q z => Or.inr (by rw [← hH0]; exact FM.ge hm.sep z)) (fun r H3 locs hp hF hS1 => ?_)
  obtain ⟨⟨yb, rfl, k2, σ2, hpm, h2⟩, hmk⟩ := hp
  have hP : va_P G.1 zCl [] H3 := va_nil
  have hD : va_D (zA M0 H0) [] := va_nilD
  have ho := ho.ext hF hom
  obtain ⟨μ1, hm, em, hdm, hh, hom, hdj⟩ := LI_mdl hE hO1 hh hom hol1 hdj hdm hF hmk hpm
  have hP : va_P G.1 zCl ([]) H3 := hP
  have hD : va_D (zA M0 H0) ([]) := hD
  have hS := hS1
  have hag := z_agr (ex := [IOB, IAE, ISE]) (X := X_turn σ z1 z2) (B := R_turn σ z1 z2 yb σ2) (nd_3 (by decide) (by decide) (by decide)) (fun a E hX => by obtain ⟨y, hR, -⟩ := a; exact Rx_turn hR hX) (fun a E hX => Rx_turn a hX) (fun E E' a b => Xu_turn a b) hk1 h2
  obtain ⟨ek, hk3, hkk⟩ := hag
  have hk3 : k2 ≤ 3 := Nat.le_trans hk3 (by decide)
  subst ek
  refine lv_istore (lv' := [(6, .int (iI yb)), (5, .int (iI ((k2 : Nat) : Int))), (4, .int (iI ((i : Nat) : Int))), (3, .ref oa), (2, .ref (μ (0, 0, 0))), (1, .ref (ρ (0, 0, 0))), (0, .ref b)]) hx hb dL_law_1343 hl (by decide) rfl (fun ls hl => ?_)
  refine lv_aload_n hx hb dL_law_1345 rfl (lv_at hl 4 rfl) ?_
  rw [← em]
  refine z_go ((Cc + 100) + 60) ((Sc + 1000) + 800) (z_runV (As := []) (rest := []) hC hml hl.1 (m_X3_thrown hE H3 (hO.ext0 (zS_F hS)) μ1 σ2 ((k2 : Nat) : Int) hm) (lw_V q1512 q1513 q1514 q67 q1515) rfl nd_X3_thrown rfl (z_rv hC (ci := 2) rfl hm.2.2.1.1 rfl) rfl (Nat.le_of_ble_eq_true rfl) ⟨Nat.le_of_ble_eq_true rfl, Nat.le_of_ble_eq_true rfl⟩ ⟨zfit (k := 0) (z := 601152) rfl rfl (by omega), zfit (k := 0) (z := 7254250) rfl rfl (by omega)⟩ dL_law_1346) ⟨zad (k := 0) rfl (by omega), zad (k := 0) rfl (by omega)⟩ hS (fun _ z => z.elim) (fun r H4 locs hp hF hS1 => ?_)
  obtain ⟨_, rfl, rfl⟩ := hp
  have hP : va_P G.1 zCl [] H4 := va_nil
  have hD : va_D (zA M0 H0) [] := va_nilD
  have hh := hh.ext0 hE hF
  have hm := hm.ext0 hE hF
  have hdm := hdm.ext0 hF
  have ho := ho.ext0 hF
  have hP : va_P G.1 zCl ([]) H4 := hP
  have hD : va_D (zA M0 H0) ([]) := hD
  have hS := hS1
  have hhF := hh
  have hmF := hm
  have hdmF := hdm
  have hoF := ho
  have hofF := hof
  have homF := hom
  have hdjF := hdj
  refine lv_iload hx hb dL_law_1349 (lv_at hl 1 rfl) ?_
  refine z_ceq (tgt := 1356) hx hb dL_law_1351 (by decide) (by omega) (fun c5 => ?_) (fun c5 => ?_)
  · refine lv_iload hx hb dL_law_1356 (lv_at hl 1 rfl) ?_
    refine z_zne (tgt := 1374) hx hb dL_law_1358 (by decide) (by omega) (fun c6 => ?_) (fun c6 => ?_)
    · obtain ⟨-, es1, es2⟩ := hkk.resolve_left (fun w => by have := w.1; omega)
      subst es1
      subst es2
      refine lv_goto (tgt := 2435) hx hb dL_law_1374 (by decide) ?_
      exact W.widen (by omega) (by omega) (IH _ _ _ ρ1 μ1 _ _ n1 d1 s1 hhF hmF e0 em hdmF hoF hofF homF hdjF hS (lv_sub hl [2, 3, 4, 5, 6] rfl))
    · obtain ⟨k0, hA, hB⟩ := hkk.resolve_right (fun w => by have := w.1; omega)
      obtain ⟨y1, hR1, en⟩ := hA
      obtain ⟨ey, es⟩ := Rd_turn hR1 hB
      subst es
      refine lv_aload_n hx hb dL_law_1361 rfl (lv_at hl 3 rfl) ?_
      refine z_getn hC (k := 0) rfl in_X4 hoF (by decide) q886 (fun _ h => h) rfl dL_law_1362 ?_
      refine lv_iload hx hb dL_law_1365 (lv_at hl 0 rfl) ?_
      refine lv_i2l hx hb dL_law_1367 rfl ?_
      refine z_lcq hx hb (by rw [en, ey]) dL_law_1368 ?_
      refine z_zeq (tgt := 1374) hx hb dL_law_1369 (by decide) (by omega) (fun c7 => ?_) (fun c7 => ?_)
      · refine lv_goto (tgt := 2435) hx hb dL_law_1374 (by decide) ?_
        exact W.widen (by omega) (by omega) (IH _ _ _ ρ1 μ1 _ _ n1 d1 s1 hhF hmF e0 em hdmF hoF hofF homF hdjF hS (lv_sub hl [2, 3, 4, 5, 6] rfl))
      · omega
  · omega

set_option maxHeartbeats 4000000 in
theorem lwc_17 {p : Program} {l : Launch} {e : Env} {s : State} {m : MethodId} {below : List Frame} {meth : Method} {c : Code} {G : zG} {H0 : Heap} {b L xa ma oa : Nat} {xs : Nat → Int32} {Q : State → Prop} {i Cc Sc : Nat} (hE : zE l s G) (hC : zC p l s G s m #[.ref b] c "VersorhallLaw" cL_law) (hml : c.maxLocals = 9) (hH0 : s.heap = H0) (hX : va_X b L xs s H0) (hbl : b < H0.size) (hL : L ≤ 256) (hnc : zNc s) (hoa : s.heap.size ≤ oa) (hi4 : i + 4 ≤ L) (hcc : Cc + 9000 ≤ 601152 ∧ Sc + 110000 ≤ 7254250) (IH : lwJ p l e s m below meth c G H0 b xa ma oa Q 2435 i (Cc + 9000) (Sc + 110000)) : lwJ p l e s m below meth c G H0 b xa ma oa Q 1377 i Cc Sc := by
  intro H locs ls ρ μ σ th n9 d9 s9 hh hm exa ema hdm ho hof hom hdj hS hl
  subst exa
  subst ema
  have hx := hC.x
  have hb := hC.b
  have hp9 := hh.ok.1
  have hO : zO s H0 := ⟨by rw [hH0]; exact Nat.le_refl _, fun _ _ => by rw [hH0]⟩
  have hP : va_P G.1 zCl [] H := va_nil
  have hD : va_D (zA M0 H0) [] := va_nilD
  obtain ⟨z1, e1⟩ : ∃ z : Int, (xs (i + 1)).toInt = z := ⟨_, rfl⟩
  have hz1 : zi z1 := by rw [← e1]; exact ⟨Int32.le_toInt _, Int32.toInt_lt _⟩
  refine lv_aload_n hx hb dL_law_1377 rfl (lv_at hl 3 rfl) ?_
  refine lv_aload_n hx hb dL_law_1378 rfl (lv_at hl 4 rfl) ?_
  refine lv_iload hx hb dL_law_1379 (lv_at hl 0 rfl) ?_
  refine lv_iconst (v := iI 1) hx hb dL_law_1381 rfl ?_
  refine z_add hx hb (z := ((i : Nat) : Int) + 1) dL_law_1382 rfl ?_
  refine z_sld hC hX hbl hS (k := i + 1) (by omega) (by omega) (by omega) dL_law_1383 ?_
  refine z_top (b := z1) e1 ?_
  refine lv_aload_n hx hb dL_law_1384 rfl (lv_at hl 1 rfl) ?_
  have hO0 : zO s H := hO.ext0 (zS_F hS)
  have hol := ho.lt
  refine z_goX (Cc + 100) (Sc + 1000) (z_runSw (As := [.ref (ρ (0, 0, 0)), .int (iI z1), .ref oa]) (rest := []) hC hml hl.1 (z_monW (m_X0_versor hE H (hO.ext0 (zS_F hS)) ρ σ z1 oa n9 d9 s9 hh hdm ho hoa hof hnc hz1)) (lw_SW q1372 q1373 q61 q1374) nd_X0_versor rfl rfl (Nat.le_of_ble_eq_true rfl) ⟨Nat.le_of_ble_eq_true rfl, Nat.le_of_ble_eq_true rfl⟩ ⟨zfit (k := 100) (z := 601152) rfl rfl (by omega), zfit (k := 1000) (z := 7254250) rfl rfl (by omega)⟩ dL_law_1385) ⟨zad (k := 100) rfl (by omega), zad (k := 1000) rfl (by omega)⟩ hS (fun q z => Or.inr (by rw [← hH0]; exact z.elim (fun w => FC.ge hh.sep w) (fun w => by rw [w]; exact hoa))) (fun E ce q9 Hx1 locs hp hF hS1 hce hcv hcl => ?_) (fun r H2 locs hp hF hS1 => ?_)
  · exact hp.1.elim
  obtain ⟨⟨kk, rfl, σ1, n1, d1, s1, hpo, ho, hk1⟩, hmk⟩ := hp
  have hP : va_P G.1 zCl [] H2 := va_nil
  have hD : va_D (zA M0 H0) [] := va_nilD
  obtain ⟨ρ1, hh, e0, hdm, hm, hof, hdj⟩ := LI_cls hE hO0 hm hof hom hol hdj hdm hF hmk hpo
  have hP : va_P G.1 zCl ([]) H2 := hP
  have hD : va_D (zA M0 H0) ([]) := hD
  have hS := hS1
  refine lv_istore (lv' := [(5, .int (iI kk)), (4, .int (iI ((i : Nat) : Int))), (3, .ref oa), (2, .ref (μ (0, 0, 0))), (1, .ref (ρ (0, 0, 0))), (0, .ref b)]) hx hb dL_law_1388 hl (by decide) rfl (fun ls hl => ?_)
  refine lv_aload_n hx hb dL_law_1390 rfl (lv_at hl 3 rfl) ?_
  refine lv_aload_n hx hb dL_law_1391 rfl (lv_at hl 5 rfl) ?_
  refine lv_iload hx hb dL_law_1392 (lv_at hl 1 rfl) ?_
  refine lv_iconst (v := iI 1) hx hb dL_law_1394 rfl ?_
  refine z_add hx hb (z := ((i : Nat) : Int) + 1) dL_law_1395 rfl ?_
  refine z_sld hC hX hbl hS (k := i + 1) (by omega) (by omega) (by omega) dL_law_1396 ?_
  refine z_top (b := z1) e1 ?_
  have hO1 : zO s H2 := hO.ext0 (zS_F hS)
  have hol1 := ho.lt
  refine z_go ((Cc + 100) + 60) ((Sc + 1000) + 800) (z_runV (As := [.int (iI z1)]) (rest := []) hC hml hl.1 (z_mon (m_X3_versor hE H2 (hO.ext0 (zS_F hS)) μ σ th z1 hm hz1)) (lw_V q1795 q1796 q1797 q67 q1798) rfl nd_X3_versor rfl (z_rv hC (ci := 2) rfl hm.2.2.1.1 rfl) rfl (Nat.le_of_ble_eq_true rfl) ⟨Nat.le_of_ble_eq_true rfl, Nat.le_of_ble_eq_true rfl⟩ ⟨zfit (k := 60) (z := 601152) rfl rfl (by omega), zfit (k := 800) (z := 7254250) rfl rfl (by omega)⟩ dL_law_1397) ⟨zad (k := 60) rfl (by omega), zad (k := 800) rfl (by omega)⟩ hS (fun q z => Or.inr (by rw [← hH0]; exact FM.ge hm.sep z)) (fun r H3 locs hp hF hS1 => ?_)
  obtain ⟨⟨yb, rfl, k2, σ2, hpm, h2⟩, hmk⟩ := hp
  have hP : va_P G.1 zCl [] H3 := va_nil
  have hD : va_D (zA M0 H0) [] := va_nilD
  have ho := ho.ext hF hom
  obtain ⟨μ1, hm, em, hdm, hh, hom, hdj⟩ := LI_mdl hE hO1 hh hom hol1 hdj hdm hF hmk hpm
  have hP : va_P G.1 zCl ([]) H3 := hP
  have hD : va_D (zA M0 H0) ([]) := hD
  have hS := hS1
  have hag := z_agr (ex := [IOB, ISE]) (X := X_versor σ z1) (B := R_versor σ z1 yb σ2) (nd_2 (by decide)) (fun a E hX => by obtain ⟨y, hR, -⟩ := a; exact Rx_versor hR hX) (fun a E hX => Rx_versor a hX) (fun E E' a b => Xu_versor a b) hk1 h2
  obtain ⟨ek, hk3, hkk⟩ := hag
  have hk3 : k2 ≤ 3 := Nat.le_trans hk3 (by decide)
  subst ek
  refine lv_istore (lv' := [(6, .int (iI yb)), (5, .int (iI ((k2 : Nat) : Int))), (4, .int (iI ((i : Nat) : Int))), (3, .ref oa), (2, .ref (μ (0, 0, 0))), (1, .ref (ρ (0, 0, 0))), (0, .ref b)]) hx hb dL_law_1400 hl (by decide) rfl (fun ls hl => ?_)
  refine lv_aload_n hx hb dL_law_1402 rfl (lv_at hl 4 rfl) ?_
  rw [← em]
  refine z_go ((Cc + 100) + 60) ((Sc + 1000) + 800) (z_runV (As := []) (rest := []) hC hml hl.1 (m_X3_thrown hE H3 (hO.ext0 (zS_F hS)) μ1 σ2 ((k2 : Nat) : Int) hm) (lw_V q1512 q1513 q1514 q67 q1515) rfl nd_X3_thrown rfl (z_rv hC (ci := 2) rfl hm.2.2.1.1 rfl) rfl (Nat.le_of_ble_eq_true rfl) ⟨Nat.le_of_ble_eq_true rfl, Nat.le_of_ble_eq_true rfl⟩ ⟨zfit (k := 0) (z := 601152) rfl rfl (by omega), zfit (k := 0) (z := 7254250) rfl rfl (by omega)⟩ dL_law_1403) ⟨zad (k := 0) rfl (by omega), zad (k := 0) rfl (by omega)⟩ hS (fun _ z => z.elim) (fun r H4 locs hp hF hS1 => ?_)
  obtain ⟨_, rfl, rfl⟩ := hp
  have hP : va_P G.1 zCl [] H4 := va_nil
  have hD : va_D (zA M0 H0) [] := va_nilD
  have hh := hh.ext0 hE hF
  have hm := hm.ext0 hE hF
  have hdm := hdm.ext0 hF
  have ho := ho.ext0 hF
  have hP : va_P G.1 zCl ([]) H4 := hP
  have hD : va_D (zA M0 H0) ([]) := hD
  have hS := hS1
  have hhF := hh
  have hmF := hm
  have hdmF := hdm
  have hoF := ho
  have hofF := hof
  have homF := hom
  have hdjF := hdj
  refine lv_iload hx hb dL_law_1406 (lv_at hl 1 rfl) ?_
  refine z_ceq (tgt := 1413) hx hb dL_law_1408 (by decide) (by omega) (fun c5 => ?_) (fun c5 => ?_)
  · refine lv_iload hx hb dL_law_1413 (lv_at hl 1 rfl) ?_
    refine z_zne (tgt := 1431) hx hb dL_law_1415 (by decide) (by omega) (fun c6 => ?_) (fun c6 => ?_)
    · obtain ⟨-, es1, es2⟩ := hkk.resolve_left (fun w => by have := w.1; omega)
      subst es1
      subst es2
      refine lv_goto (tgt := 2435) hx hb dL_law_1431 (by decide) ?_
      exact W.widen (by omega) (by omega) (IH _ _ _ ρ1 μ1 _ _ n1 d1 s1 hhF hmF e0 em hdmF hoF hofF homF hdjF hS (lv_sub hl [2, 3, 4, 5, 6] rfl))
    · obtain ⟨k0, hA, hB⟩ := hkk.resolve_right (fun w => by have := w.1; omega)
      obtain ⟨y1, hR1, en⟩ := hA
      obtain ⟨ey, es⟩ := Rd_versor hR1 hB
      subst es
      refine lv_aload_n hx hb dL_law_1418 rfl (lv_at hl 3 rfl) ?_
      refine z_getn hC (k := 0) rfl in_X4 hoF (by decide) q886 (fun _ h => h) rfl dL_law_1419 ?_
      refine lv_iload hx hb dL_law_1422 (lv_at hl 0 rfl) ?_
      refine lv_i2l hx hb dL_law_1424 rfl ?_
      refine z_lcq hx hb (by rw [en, ey]) dL_law_1425 ?_
      refine z_zeq (tgt := 1431) hx hb dL_law_1426 (by decide) (by omega) (fun c7 => ?_) (fun c7 => ?_)
      · refine lv_goto (tgt := 2435) hx hb dL_law_1431 (by decide) ?_
        exact W.widen (by omega) (by omega) (IH _ _ _ ρ1 μ1 _ _ n1 d1 s1 hhF hmF e0 em hdmF hoF hofF homF hdjF hS (lv_sub hl [2, 3, 4, 5, 6] rfl))
      · omega
  · omega

set_option maxHeartbeats 4000000 in
theorem lwc_18 {p : Program} {l : Launch} {e : Env} {s : State} {m : MethodId} {below : List Frame} {meth : Method} {c : Code} {G : zG} {H0 : Heap} {b L xa ma oa : Nat} {xs : Nat → Int32} {Q : State → Prop} {i Cc Sc : Nat} (hE : zE l s G) (hC : zC p l s G s m #[.ref b] c "VersorhallLaw" cL_law) (hml : c.maxLocals = 9) (hH0 : s.heap = H0) (hX : va_X b L xs s H0) (hbl : b < H0.size) (hL : L ≤ 256) (hnc : zNc s) (hoa : s.heap.size ≤ oa) (hi4 : i + 4 ≤ L) (hcc : Cc + 9000 ≤ 601152 ∧ Sc + 110000 ≤ 7254250) (IH : lwJ p l e s m below meth c G H0 b xa ma oa Q 2435 i (Cc + 9000) (Sc + 110000)) : lwJ p l e s m below meth c G H0 b xa ma oa Q 1434 i Cc Sc := by
  intro H locs ls ρ μ σ th n9 d9 s9 hh hm exa ema hdm ho hof hom hdj hS hl
  subst exa
  subst ema
  have hx := hC.x
  have hb := hC.b
  have hp9 := hh.ok.1
  have hO : zO s H0 := ⟨by rw [hH0]; exact Nat.le_refl _, fun _ _ => by rw [hH0]⟩
  have hP : va_P G.1 zCl [] H := va_nil
  have hD : va_D (zA M0 H0) [] := va_nilD
  obtain ⟨z1, e1⟩ : ∃ z : Int, (xs (i + 1)).toInt = z := ⟨_, rfl⟩
  have hz1 : zi z1 := by rw [← e1]; exact ⟨Int32.le_toInt _, Int32.toInt_lt _⟩
  obtain ⟨z2, e2⟩ : ∃ z : Int, (xs (i + 2)).toInt = z := ⟨_, rfl⟩
  have hz2 : zi z2 := by rw [← e2]; exact ⟨Int32.le_toInt _, Int32.toInt_lt _⟩
  refine lv_aload_n hx hb dL_law_1434 rfl (lv_at hl 3 rfl) ?_
  refine lv_aload_n hx hb dL_law_1435 rfl (lv_at hl 4 rfl) ?_
  refine lv_iload hx hb dL_law_1436 (lv_at hl 0 rfl) ?_
  refine lv_iconst (v := iI 1) hx hb dL_law_1438 rfl ?_
  refine z_add hx hb (z := ((i : Nat) : Int) + 1) dL_law_1439 rfl ?_
  refine z_sld hC hX hbl hS (k := i + 1) (by omega) (by omega) (by omega) dL_law_1440 ?_
  refine z_top (b := z1) e1 ?_
  refine lv_aload_n hx hb dL_law_1441 rfl (lv_at hl 4 rfl) ?_
  refine lv_iload hx hb dL_law_1442 (lv_at hl 0 rfl) ?_
  refine lv_iconst (v := iI 2) hx hb dL_law_1444 rfl ?_
  refine z_add hx hb (z := ((i : Nat) : Int) + 2) dL_law_1445 rfl ?_
  refine z_sld hC hX hbl hS (k := i + 2) (by omega) (by omega) (by omega) dL_law_1446 ?_
  refine z_top (b := z2) e2 ?_
  refine lv_aload_n hx hb dL_law_1447 rfl (lv_at hl 1 rfl) ?_
  have hO0 : zO s H := hO.ext0 (zS_F hS)
  have hol := ho.lt
  refine z_goX (Cc + 200) (Sc + 2000) (z_runSw (As := [.ref (ρ (0, 0, 0)), .int (iI z1), .int (iI z2), .ref oa]) (rest := []) hC hml hl.1 (z_monW (m_X0_run hE H (hO.ext0 (zS_F hS)) ρ σ z1 z2 oa n9 d9 s9 hh hdm ho hoa hof hnc ⟨hz1, hz2⟩)) (lw_SW q1380 q1381 q61 q1382) nd_X0_run rfl rfl (Nat.le_of_ble_eq_true rfl) ⟨Nat.le_of_ble_eq_true rfl, Nat.le_of_ble_eq_true rfl⟩ ⟨zfit (k := 200) (z := 601152) rfl rfl (by omega), zfit (k := 2000) (z := 7254250) rfl rfl (by omega)⟩ dL_law_1448) ⟨zad (k := 200) rfl (by omega), zad (k := 2000) rfl (by omega)⟩ hS (fun q z => Or.inr (by rw [← hH0]; exact z.elim (fun w => FC.ge hh.sep w) (fun w => by rw [w]; exact hoa))) (fun E ce q9 Hx1 locs hp hF hS1 hce hcv hcl => ?_) (fun r H2 locs hp hF hS1 => ?_)
  · exact hp.1.elim
  obtain ⟨⟨kk, rfl, σ1, n1, d1, s1, hpo, ho, hk1⟩, hmk⟩ := hp
  have hP : va_P G.1 zCl [] H2 := va_nil
  have hD : va_D (zA M0 H0) [] := va_nilD
  obtain ⟨ρ1, hh, e0, hdm, hm, hof, hdj⟩ := LI_cls hE hO0 hm hof hom hol hdj hdm hF hmk hpo
  have hP : va_P G.1 zCl ([]) H2 := hP
  have hD : va_D (zA M0 H0) ([]) := hD
  have hS := hS1
  refine lv_istore (lv' := [(5, .int (iI kk)), (4, .int (iI ((i : Nat) : Int))), (3, .ref oa), (2, .ref (μ (0, 0, 0))), (1, .ref (ρ (0, 0, 0))), (0, .ref b)]) hx hb dL_law_1451 hl (by decide) rfl (fun ls hl => ?_)
  refine lv_aload_n hx hb dL_law_1453 rfl (lv_at hl 3 rfl) ?_
  refine lv_aload_n hx hb dL_law_1454 rfl (lv_at hl 5 rfl) ?_
  refine lv_iload hx hb dL_law_1455 (lv_at hl 1 rfl) ?_
  refine lv_iconst (v := iI 1) hx hb dL_law_1457 rfl ?_
  refine z_add hx hb (z := ((i : Nat) : Int) + 1) dL_law_1458 rfl ?_
  refine z_sld hC hX hbl hS (k := i + 1) (by omega) (by omega) (by omega) dL_law_1459 ?_
  refine z_top (b := z1) e1 ?_
  refine lv_aload_n hx hb dL_law_1460 rfl (lv_at hl 5 rfl) ?_
  refine lv_iload hx hb dL_law_1461 (lv_at hl 1 rfl) ?_
  refine lv_iconst (v := iI 2) hx hb dL_law_1463 rfl ?_
  refine z_add hx hb (z := ((i : Nat) : Int) + 2) dL_law_1464 rfl ?_
  refine z_sld hC hX hbl hS (k := i + 2) (by omega) (by omega) (by omega) dL_law_1465 ?_
  refine z_top (b := z2) e2 ?_
  have hO1 : zO s H2 := hO.ext0 (zS_F hS)
  have hol1 := ho.lt
  refine z_go ((Cc + 200) + 200) ((Sc + 2000) + 2000) (z_runV (As := [.int (iI z1), .int (iI z2)]) (rest := []) hC hml hl.1 (z_mon (m_X3_run hE H2 (hO.ext0 (zS_F hS)) μ σ th z1 z2 hm ⟨hz1, hz2⟩)) (lw_V q1799 q1800 q1801 q67 q1802) rfl nd_X3_run rfl (z_rv hC (ci := 2) rfl hm.2.2.1.1 rfl) rfl (Nat.le_of_ble_eq_true rfl) ⟨Nat.le_of_ble_eq_true rfl, Nat.le_of_ble_eq_true rfl⟩ ⟨zfit (k := 200) (z := 601152) rfl rfl (by omega), zfit (k := 2000) (z := 7254250) rfl rfl (by omega)⟩ dL_law_1466) ⟨zad (k := 200) rfl (by omega), zad (k := 2000) rfl (by omega)⟩ hS (fun q z => Or.inr (by rw [← hH0]; exact FM.ge hm.sep z)) (fun r H3 locs hp hF hS1 => ?_)
  obtain ⟨⟨yb, rfl, k2, σ2, hpm, h2⟩, hmk⟩ := hp
  have hP : va_P G.1 zCl [] H3 := va_nil
  have hD : va_D (zA M0 H0) [] := va_nilD
  have ho := ho.ext hF hom
  obtain ⟨μ1, hm, em, hdm, hh, hom, hdj⟩ := LI_mdl hE hO1 hh hom hol1 hdj hdm hF hmk hpm
  have hP : va_P G.1 zCl ([]) H3 := hP
  have hD : va_D (zA M0 H0) ([]) := hD
  have hS := hS1
  have hag := z_agr (ex := [IOB, IAE]) (X := X_run σ z1 z2) (B := R_run σ z1 z2 yb σ2) (nd_2 (by decide)) (fun a E hX => by obtain ⟨y, hR, -⟩ := a; exact Rx_run hR hX) (fun a E hX => Rx_run a hX) (fun E E' a b => Xu_run a b) hk1 h2
  obtain ⟨ek, hk3, hkk⟩ := hag
  have hk3 : k2 ≤ 3 := Nat.le_trans hk3 (by decide)
  subst ek
  refine lv_istore (lv' := [(6, .int (iI yb)), (5, .int (iI ((k2 : Nat) : Int))), (4, .int (iI ((i : Nat) : Int))), (3, .ref oa), (2, .ref (μ (0, 0, 0))), (1, .ref (ρ (0, 0, 0))), (0, .ref b)]) hx hb dL_law_1469 hl (by decide) rfl (fun ls hl => ?_)
  refine lv_aload_n hx hb dL_law_1471 rfl (lv_at hl 4 rfl) ?_
  rw [← em]
  refine z_go ((Cc + 200) + 200) ((Sc + 2000) + 2000) (z_runV (As := []) (rest := []) hC hml hl.1 (m_X3_thrown hE H3 (hO.ext0 (zS_F hS)) μ1 σ2 ((k2 : Nat) : Int) hm) (lw_V q1512 q1513 q1514 q67 q1515) rfl nd_X3_thrown rfl (z_rv hC (ci := 2) rfl hm.2.2.1.1 rfl) rfl (Nat.le_of_ble_eq_true rfl) ⟨Nat.le_of_ble_eq_true rfl, Nat.le_of_ble_eq_true rfl⟩ ⟨zfit (k := 0) (z := 601152) rfl rfl (by omega), zfit (k := 0) (z := 7254250) rfl rfl (by omega)⟩ dL_law_1472) ⟨zad (k := 0) rfl (by omega), zad (k := 0) rfl (by omega)⟩ hS (fun _ z => z.elim) (fun r H4 locs hp hF hS1 => ?_)
  obtain ⟨_, rfl, rfl⟩ := hp
  have hP : va_P G.1 zCl [] H4 := va_nil
  have hD : va_D (zA M0 H0) [] := va_nilD
  have hh := hh.ext0 hE hF
  have hm := hm.ext0 hE hF
  have hdm := hdm.ext0 hF
  have ho := ho.ext0 hF
  have hP : va_P G.1 zCl ([]) H4 := hP
  have hD : va_D (zA M0 H0) ([]) := hD
  have hS := hS1
  have hhF := hh
  have hmF := hm
  have hdmF := hdm
  have hoF := ho
  have hofF := hof
  have homF := hom
  have hdjF := hdj
  refine lv_iload hx hb dL_law_1475 (lv_at hl 1 rfl) ?_
  refine z_ceq (tgt := 1482) hx hb dL_law_1477 (by decide) (by omega) (fun c5 => ?_) (fun c5 => ?_)
  · refine lv_iload hx hb dL_law_1482 (lv_at hl 1 rfl) ?_
    refine z_zne (tgt := 1500) hx hb dL_law_1484 (by decide) (by omega) (fun c6 => ?_) (fun c6 => ?_)
    · obtain ⟨-, es1, es2⟩ := hkk.resolve_left (fun w => by have := w.1; omega)
      subst es1
      subst es2
      refine lv_goto (tgt := 2435) hx hb dL_law_1500 (by decide) ?_
      exact W.widen (by omega) (by omega) (IH _ _ _ ρ1 μ1 _ _ n1 d1 s1 hhF hmF e0 em hdmF hoF hofF homF hdjF hS (lv_sub hl [2, 3, 4, 5, 6] rfl))
    · obtain ⟨k0, hA, hB⟩ := hkk.resolve_right (fun w => by have := w.1; omega)
      obtain ⟨y1, hR1, en⟩ := hA
      obtain ⟨ey, es⟩ := Rd_run hR1 hB
      subst es
      refine lv_aload_n hx hb dL_law_1487 rfl (lv_at hl 3 rfl) ?_
      refine z_getn hC (k := 0) rfl in_X4 hoF (by decide) q886 (fun _ h => h) rfl dL_law_1488 ?_
      refine lv_iload hx hb dL_law_1491 (lv_at hl 0 rfl) ?_
      refine lv_i2l hx hb dL_law_1493 rfl ?_
      refine z_lcq hx hb (by rw [en, ey]) dL_law_1494 ?_
      refine z_zeq (tgt := 1500) hx hb dL_law_1495 (by decide) (by omega) (fun c7 => ?_) (fun c7 => ?_)
      · refine lv_goto (tgt := 2435) hx hb dL_law_1500 (by decide) ?_
        exact W.widen (by omega) (by omega) (IH _ _ _ ρ1 μ1 _ _ n1 d1 s1 hhF hmF e0 em hdmF hoF hofF homF hdjF hS (lv_sub hl [2, 3, 4, 5, 6] rfl))
      · omega
  · omega

set_option maxHeartbeats 4000000 in
theorem lwc_19 {p : Program} {l : Launch} {e : Env} {s : State} {m : MethodId} {below : List Frame} {meth : Method} {c : Code} {G : zG} {H0 : Heap} {b L xa ma oa : Nat} {xs : Nat → Int32} {Q : State → Prop} {i Cc Sc : Nat} (hE : zE l s G) (hC : zC p l s G s m #[.ref b] c "VersorhallLaw" cL_law) (hml : c.maxLocals = 9) (hH0 : s.heap = H0) (hX : va_X b L xs s H0) (hbl : b < H0.size) (hL : L ≤ 256) (hnc : zNc s) (hoa : s.heap.size ≤ oa) (hi4 : i + 4 ≤ L) (hcc : Cc + 9000 ≤ 601152 ∧ Sc + 110000 ≤ 7254250) (IH : lwJ p l e s m below meth c G H0 b xa ma oa Q 2435 i (Cc + 9000) (Sc + 110000)) : lwJ p l e s m below meth c G H0 b xa ma oa Q 1503 i Cc Sc := by
  intro H locs ls ρ μ σ th n9 d9 s9 hh hm exa ema hdm ho hof hom hdj hS hl
  subst exa
  subst ema
  have hx := hC.x
  have hb := hC.b
  have hp9 := hh.ok.1
  have hO : zO s H0 := ⟨by rw [hH0]; exact Nat.le_refl _, fun _ _ => by rw [hH0]⟩
  have hP : va_P G.1 zCl [] H := va_nil
  have hD : va_D (zA M0 H0) [] := va_nilD
  obtain ⟨z1, e1⟩ : ∃ z : Int, (xs (i + 1)).toInt = z := ⟨_, rfl⟩
  have hz1 : zi z1 := by rw [← e1]; exact ⟨Int32.le_toInt _, Int32.toInt_lt _⟩
  obtain ⟨z2, e2⟩ : ∃ z : Int, (xs (i + 2)).toInt = z := ⟨_, rfl⟩
  have hz2 : zi z2 := by rw [← e2]; exact ⟨Int32.le_toInt _, Int32.toInt_lt _⟩
  refine lv_aload_n hx hb dL_law_1503 rfl (lv_at hl 3 rfl) ?_
  refine lv_aload_n hx hb dL_law_1504 rfl (lv_at hl 4 rfl) ?_
  refine lv_iload hx hb dL_law_1505 (lv_at hl 0 rfl) ?_
  refine lv_iconst (v := iI 1) hx hb dL_law_1507 rfl ?_
  refine z_add hx hb (z := ((i : Nat) : Int) + 1) dL_law_1508 rfl ?_
  refine z_sld hC hX hbl hS (k := i + 1) (by omega) (by omega) (by omega) dL_law_1509 ?_
  refine z_top (b := z1) e1 ?_
  refine lv_aload_n hx hb dL_law_1510 rfl (lv_at hl 4 rfl) ?_
  refine lv_iload hx hb dL_law_1511 (lv_at hl 0 rfl) ?_
  refine lv_iconst (v := iI 2) hx hb dL_law_1513 rfl ?_
  refine z_add hx hb (z := ((i : Nat) : Int) + 2) dL_law_1514 rfl ?_
  refine z_sld hC hX hbl hS (k := i + 2) (by omega) (by omega) (by omega) dL_law_1515 ?_
  refine z_top (b := z2) e2 ?_
  refine lv_aload_n hx hb dL_law_1516 rfl (lv_at hl 1 rfl) ?_
  have hO0 : zO s H := hO.ext0 (zS_F hS)
  have hol := ho.lt
  refine z_goX (Cc + 2) (Sc + 12) (z_runSw (As := [.ref (ρ (0, 0, 0)), .int (iI z1), .int (iI z2), .ref oa]) (rest := []) hC hml hl.1 (z_monW (m_X0_at hE H (hO.ext0 (zS_F hS)) ρ σ z1 z2 oa n9 d9 s9 hh hdm ho hoa hof hnc ⟨hz1, hz2⟩)) (lw_SW q1403 q1404 q61 q1405) nd_X0_at rfl rfl (Nat.le_of_ble_eq_true rfl) ⟨Nat.le_of_ble_eq_true rfl, Nat.le_of_ble_eq_true rfl⟩ ⟨zfit (k := 2) (z := 601152) rfl rfl (by omega), zfit (k := 12) (z := 7254250) rfl rfl (by omega)⟩ dL_law_1517) ⟨zad (k := 2) rfl (by omega), zad (k := 12) rfl (by omega)⟩ hS (fun q z => Or.inr (by rw [← hH0]; exact z.elim (fun w => FC.ge hh.sep w) (fun w => by rw [w]; exact hoa))) (fun E ce q9 Hx1 locs hp hF hS1 hce hcv hcl => ?_) (fun r H2 locs hp hF hS1 => ?_)
  · exact hp.1.elim
  obtain ⟨⟨kk, rfl, σ1, n1, d1, s1, hpo, ho, hk1⟩, hmk⟩ := hp
  have hP : va_P G.1 zCl [] H2 := va_nil
  have hD : va_D (zA M0 H0) [] := va_nilD
  obtain ⟨ρ1, hh, e0, hdm, hm, hof, hdj⟩ := LI_cls hE hO0 hm hof hom hol hdj hdm hF hmk hpo
  have hP : va_P G.1 zCl ([]) H2 := hP
  have hD : va_D (zA M0 H0) ([]) := hD
  have hS := hS1
  refine lv_istore (lv' := [(5, .int (iI kk)), (4, .int (iI ((i : Nat) : Int))), (3, .ref oa), (2, .ref (μ (0, 0, 0))), (1, .ref (ρ (0, 0, 0))), (0, .ref b)]) hx hb dL_law_1520 hl (by decide) rfl (fun ls hl => ?_)
  refine lv_aload_n hx hb dL_law_1522 rfl (lv_at hl 3 rfl) ?_
  refine lv_aload_n hx hb dL_law_1523 rfl (lv_at hl 5 rfl) ?_
  refine lv_iload hx hb dL_law_1524 (lv_at hl 1 rfl) ?_
  refine lv_iconst (v := iI 1) hx hb dL_law_1526 rfl ?_
  refine z_add hx hb (z := ((i : Nat) : Int) + 1) dL_law_1527 rfl ?_
  refine z_sld hC hX hbl hS (k := i + 1) (by omega) (by omega) (by omega) dL_law_1528 ?_
  refine z_top (b := z1) e1 ?_
  refine lv_aload_n hx hb dL_law_1529 rfl (lv_at hl 5 rfl) ?_
  refine lv_iload hx hb dL_law_1530 (lv_at hl 1 rfl) ?_
  refine lv_iconst (v := iI 2) hx hb dL_law_1532 rfl ?_
  refine z_add hx hb (z := ((i : Nat) : Int) + 2) dL_law_1533 rfl ?_
  refine z_sld hC hX hbl hS (k := i + 2) (by omega) (by omega) (by omega) dL_law_1534 ?_
  refine z_top (b := z2) e2 ?_
  have hO1 : zO s H2 := hO.ext0 (zS_F hS)
  have hol1 := ho.lt
  refine z_go (Cc + 2) (Sc + 12) (z_runV (As := [.int (iI z1), .int (iI z2)]) (rest := []) hC hml hl.1 (z_mon (m_X3_at hE H2 (hO.ext0 (zS_F hS)) μ σ th z1 z2 hm ⟨hz1, hz2⟩)) (lw_V q1803 q1804 q1805 q67 q1806) rfl nd_X3_at rfl (z_rv hC (ci := 2) rfl hm.2.2.1.1 rfl) rfl (Nat.le_of_ble_eq_true rfl) ⟨Nat.le_of_ble_eq_true rfl, Nat.le_of_ble_eq_true rfl⟩ ⟨zfit (k := 0) (z := 601152) rfl rfl (by omega), zfit (k := 0) (z := 7254250) rfl rfl (by omega)⟩ dL_law_1535) ⟨zad (k := 0) rfl (by omega), zad (k := 0) rfl (by omega)⟩ hS (fun q z => Or.inr (by rw [← hH0]; exact FM.ge hm.sep z)) (fun r H3 locs hp hF hS1 => ?_)
  obtain ⟨⟨yb, rfl, k2, σ2, hpm, h2⟩, hmk⟩ := hp
  have hP : va_P G.1 zCl [] H3 := va_nil
  have hD : va_D (zA M0 H0) [] := va_nilD
  have ho := ho.ext hF hom
  obtain ⟨μ1, hm, em, hdm, hh, hom, hdj⟩ := LI_mdl hE hO1 hh hom hol1 hdj hdm hF hmk hpm
  have hP : va_P G.1 zCl ([]) H3 := hP
  have hD : va_D (zA M0 H0) ([]) := hD
  have hS := hS1
  have hag := z_agr (ex := [IOB]) (X := X_at σ z1 z2) (B := R_at σ z1 z2 yb σ2) nd_1 (fun a E hX => by obtain ⟨y, hR, -⟩ := a; exact Rx_at hR hX) (fun a E hX => Rx_at a hX) (fun E E' a b => Xu_at a b) hk1 h2
  obtain ⟨ek, hk3, hkk⟩ := hag
  have hk3 : k2 ≤ 3 := Nat.le_trans hk3 (by decide)
  subst ek
  refine lv_istore (lv' := [(6, .int (iI yb)), (5, .int (iI ((k2 : Nat) : Int))), (4, .int (iI ((i : Nat) : Int))), (3, .ref oa), (2, .ref (μ (0, 0, 0))), (1, .ref (ρ (0, 0, 0))), (0, .ref b)]) hx hb dL_law_1538 hl (by decide) rfl (fun ls hl => ?_)
  refine lv_aload_n hx hb dL_law_1540 rfl (lv_at hl 4 rfl) ?_
  rw [← em]
  refine z_go (Cc + 2) (Sc + 12) (z_runV (As := []) (rest := []) hC hml hl.1 (m_X3_thrown hE H3 (hO.ext0 (zS_F hS)) μ1 σ2 ((k2 : Nat) : Int) hm) (lw_V q1512 q1513 q1514 q67 q1515) rfl nd_X3_thrown rfl (z_rv hC (ci := 2) rfl hm.2.2.1.1 rfl) rfl (Nat.le_of_ble_eq_true rfl) ⟨Nat.le_of_ble_eq_true rfl, Nat.le_of_ble_eq_true rfl⟩ ⟨zfit (k := 0) (z := 601152) rfl rfl (by omega), zfit (k := 0) (z := 7254250) rfl rfl (by omega)⟩ dL_law_1541) ⟨zad (k := 0) rfl (by omega), zad (k := 0) rfl (by omega)⟩ hS (fun _ z => z.elim) (fun r H4 locs hp hF hS1 => ?_)
  obtain ⟨_, rfl, rfl⟩ := hp
  have hP : va_P G.1 zCl [] H4 := va_nil
  have hD : va_D (zA M0 H0) [] := va_nilD
  have hh := hh.ext0 hE hF
  have hm := hm.ext0 hE hF
  have hdm := hdm.ext0 hF
  have ho := ho.ext0 hF
  have hP : va_P G.1 zCl ([]) H4 := hP
  have hD : va_D (zA M0 H0) ([]) := hD
  have hS := hS1
  have hhF := hh
  have hmF := hm
  have hdmF := hdm
  have hoF := ho
  have hofF := hof
  have homF := hom
  have hdjF := hdj
  refine lv_iload hx hb dL_law_1544 (lv_at hl 1 rfl) ?_
  refine z_ceq (tgt := 1551) hx hb dL_law_1546 (by decide) (by omega) (fun c5 => ?_) (fun c5 => ?_)
  · refine lv_iload hx hb dL_law_1551 (lv_at hl 1 rfl) ?_
    refine z_zne (tgt := 1569) hx hb dL_law_1553 (by decide) (by omega) (fun c6 => ?_) (fun c6 => ?_)
    · obtain ⟨-, es1, es2⟩ := hkk.resolve_left (fun w => by have := w.1; omega)
      subst es1
      subst es2
      refine lv_goto (tgt := 2435) hx hb dL_law_1569 (by decide) ?_
      exact W.widen (by omega) (by omega) (IH _ _ _ ρ1 μ1 _ _ n1 d1 s1 hhF hmF e0 em hdmF hoF hofF homF hdjF hS (lv_sub hl [2, 3, 4, 5, 6] rfl))
    · obtain ⟨k0, hA, hB⟩ := hkk.resolve_right (fun w => by have := w.1; omega)
      obtain ⟨y1, hR1, en⟩ := hA
      obtain ⟨ey, es⟩ := Rd_at hR1 hB
      subst es
      refine lv_aload_n hx hb dL_law_1556 rfl (lv_at hl 3 rfl) ?_
      refine z_getn hC (k := 0) rfl in_X4 hoF (by decide) q886 (fun _ h => h) rfl dL_law_1557 ?_
      refine lv_iload hx hb dL_law_1560 (lv_at hl 0 rfl) ?_
      refine lv_i2l hx hb dL_law_1562 rfl ?_
      refine z_lcq hx hb (by rw [en, ey]) dL_law_1563 ?_
      refine z_zeq (tgt := 1569) hx hb dL_law_1564 (by decide) (by omega) (fun c7 => ?_) (fun c7 => ?_)
      · refine lv_goto (tgt := 2435) hx hb dL_law_1569 (by decide) ?_
        exact W.widen (by omega) (by omega) (IH _ _ _ ρ1 μ1 _ _ n1 d1 s1 hhF hmF e0 em hdmF hoF hofF homF hdjF hS (lv_sub hl [2, 3, 4, 5, 6] rfl))
      · omega
  · omega

set_option maxHeartbeats 4000000 in
theorem lwc_20 {p : Program} {l : Launch} {e : Env} {s : State} {m : MethodId} {below : List Frame} {meth : Method} {c : Code} {G : zG} {H0 : Heap} {b L xa ma oa : Nat} {xs : Nat → Int32} {Q : State → Prop} {i Cc Sc : Nat} (hE : zE l s G) (hC : zC p l s G s m #[.ref b] c "VersorhallLaw" cL_law) (hml : c.maxLocals = 9) (hH0 : s.heap = H0) (hX : va_X b L xs s H0) (hbl : b < H0.size) (hL : L ≤ 256) (hnc : zNc s) (hoa : s.heap.size ≤ oa) (hi4 : i + 4 ≤ L) (hcc : Cc + 9000 ≤ 601152 ∧ Sc + 110000 ≤ 7254250) (IH : lwJ p l e s m below meth c G H0 b xa ma oa Q 2435 i (Cc + 9000) (Sc + 110000)) : lwJ p l e s m below meth c G H0 b xa ma oa Q 1572 i Cc Sc := by
  intro H locs ls ρ μ σ th n9 d9 s9 hh hm exa ema hdm ho hof hom hdj hS hl
  subst exa
  subst ema
  have hx := hC.x
  have hb := hC.b
  have hp9 := hh.ok.1
  have hO : zO s H0 := ⟨by rw [hH0]; exact Nat.le_refl _, fun _ _ => by rw [hH0]⟩
  have hP : va_P G.1 zCl [] H := va_nil
  have hD : va_D (zA M0 H0) [] := va_nilD
  obtain ⟨z1, e1⟩ : ∃ z : Int, (xs (i + 1)).toInt = z := ⟨_, rfl⟩
  have hz1 : zi z1 := by rw [← e1]; exact ⟨Int32.le_toInt _, Int32.toInt_lt _⟩
  obtain ⟨z2, e2⟩ : ∃ z : Int, (xs (i + 2)).toInt = z := ⟨_, rfl⟩
  have hz2 : zi z2 := by rw [← e2]; exact ⟨Int32.le_toInt _, Int32.toInt_lt _⟩
  refine lv_aload_n hx hb dL_law_1572 rfl (lv_at hl 3 rfl) ?_
  refine lv_aload_n hx hb dL_law_1573 rfl (lv_at hl 4 rfl) ?_
  refine lv_iload hx hb dL_law_1574 (lv_at hl 0 rfl) ?_
  refine lv_iconst (v := iI 1) hx hb dL_law_1576 rfl ?_
  refine z_add hx hb (z := ((i : Nat) : Int) + 1) dL_law_1577 rfl ?_
  refine z_sld hC hX hbl hS (k := i + 1) (by omega) (by omega) (by omega) dL_law_1578 ?_
  refine z_top (b := z1) e1 ?_
  refine lv_aload_n hx hb dL_law_1579 rfl (lv_at hl 4 rfl) ?_
  refine lv_iload hx hb dL_law_1580 (lv_at hl 0 rfl) ?_
  refine lv_iconst (v := iI 2) hx hb dL_law_1582 rfl ?_
  refine z_add hx hb (z := ((i : Nat) : Int) + 2) dL_law_1583 rfl ?_
  refine z_sld hC hX hbl hS (k := i + 2) (by omega) (by omega) (by omega) dL_law_1584 ?_
  refine z_top (b := z2) e2 ?_
  refine lv_aload_n hx hb dL_law_1585 rfl (lv_at hl 1 rfl) ?_
  have hO0 : zO s H := hO.ext0 (zS_F hS)
  have hol := ho.lt
  refine z_goX (Cc + 126) (Sc + 1232) (z_runSw (As := [.ref (ρ (0, 0, 0)), .int (iI z1), .int (iI z2), .ref oa]) (rest := []) hC hml hl.1 (z_monW (m_X0_ofElement hE H (hO.ext0 (zS_F hS)) ρ σ z1 z2 oa n9 d9 s9 hh hdm ho hoa hof hnc ⟨hz1, hz2⟩)) (lw_SW q1410 q1411 q61 q1412) nd_X0_ofElement rfl rfl (Nat.le_of_ble_eq_true rfl) ⟨Nat.le_of_ble_eq_true rfl, Nat.le_of_ble_eq_true rfl⟩ ⟨zfit (k := 126) (z := 601152) rfl rfl (by omega), zfit (k := 1232) (z := 7254250) rfl rfl (by omega)⟩ dL_law_1586) ⟨zad (k := 126) rfl (by omega), zad (k := 1232) rfl (by omega)⟩ hS (fun q z => Or.inr (by rw [← hH0]; exact z.elim (fun w => FC.ge hh.sep w) (fun w => by rw [w]; exact hoa))) (fun E ce q9 Hx1 locs hp hF hS1 hce hcv hcl => ?_) (fun r H2 locs hp hF hS1 => ?_)
  · exact hp.1.elim
  obtain ⟨⟨kk, rfl, σ1, n1, d1, s1, hpo, ho, hk1⟩, hmk⟩ := hp
  have hP : va_P G.1 zCl [] H2 := va_nil
  have hD : va_D (zA M0 H0) [] := va_nilD
  obtain ⟨ρ1, hh, e0, hdm, hm, hof, hdj⟩ := LI_cls hE hO0 hm hof hom hol hdj hdm hF hmk hpo
  have hP : va_P G.1 zCl ([]) H2 := hP
  have hD : va_D (zA M0 H0) ([]) := hD
  have hS := hS1
  refine lv_istore (lv' := [(5, .int (iI kk)), (4, .int (iI ((i : Nat) : Int))), (3, .ref oa), (2, .ref (μ (0, 0, 0))), (1, .ref (ρ (0, 0, 0))), (0, .ref b)]) hx hb dL_law_1589 hl (by decide) rfl (fun ls hl => ?_)
  refine lv_aload_n hx hb dL_law_1591 rfl (lv_at hl 3 rfl) ?_
  refine lv_aload_n hx hb dL_law_1592 rfl (lv_at hl 5 rfl) ?_
  refine lv_iload hx hb dL_law_1593 (lv_at hl 1 rfl) ?_
  refine lv_iconst (v := iI 1) hx hb dL_law_1595 rfl ?_
  refine z_add hx hb (z := ((i : Nat) : Int) + 1) dL_law_1596 rfl ?_
  refine z_sld hC hX hbl hS (k := i + 1) (by omega) (by omega) (by omega) dL_law_1597 ?_
  refine z_top (b := z1) e1 ?_
  refine lv_aload_n hx hb dL_law_1598 rfl (lv_at hl 5 rfl) ?_
  refine lv_iload hx hb dL_law_1599 (lv_at hl 1 rfl) ?_
  refine lv_iconst (v := iI 2) hx hb dL_law_1601 rfl ?_
  refine z_add hx hb (z := ((i : Nat) : Int) + 2) dL_law_1602 rfl ?_
  refine z_sld hC hX hbl hS (k := i + 2) (by omega) (by omega) (by omega) dL_law_1603 ?_
  refine z_top (b := z2) e2 ?_
  have hO1 : zO s H2 := hO.ext0 (zS_F hS)
  have hol1 := ho.lt
  refine z_go ((Cc + 126) + 200) ((Sc + 1232) + 4000) (z_runV (As := [.int (iI z1), .int (iI z2)]) (rest := []) hC hml hl.1 (z_mon (m_X3_ofElement hE H2 (hO.ext0 (zS_F hS)) μ σ th z1 z2 hm ⟨hz1, hz2⟩)) (lw_V q1807 q1808 q1809 q67 q1810) rfl nd_X3_ofElement rfl (z_rv hC (ci := 2) rfl hm.2.2.1.1 rfl) rfl (Nat.le_of_ble_eq_true rfl) ⟨Nat.le_of_ble_eq_true rfl, Nat.le_of_ble_eq_true rfl⟩ ⟨zfit (k := 200) (z := 601152) rfl rfl (by omega), zfit (k := 4000) (z := 7254250) rfl rfl (by omega)⟩ dL_law_1604) ⟨zad (k := 200) rfl (by omega), zad (k := 4000) rfl (by omega)⟩ hS (fun q z => Or.inr (by rw [← hH0]; exact FM.ge hm.sep z)) (fun r H3 locs hp hF hS1 => ?_)
  obtain ⟨⟨yb, rfl, k2, σ2, hpm, h2⟩, hmk⟩ := hp
  have hP : va_P G.1 zCl [] H3 := va_nil
  have hD : va_D (zA M0 H0) [] := va_nilD
  have ho := ho.ext hF hom
  obtain ⟨μ1, hm, em, hdm, hh, hom, hdj⟩ := LI_mdl hE hO1 hh hom hol1 hdj hdm hF hmk hpm
  have hP : va_P G.1 zCl ([]) H3 := hP
  have hD : va_D (zA M0 H0) ([]) := hD
  have hS := hS1
  have hag := z_agr (ex := [IOB, IAE]) (X := X_ofElement σ z1 z2) (B := R_ofElement σ z1 z2 yb σ2) (nd_2 (by decide)) (fun a E hX => by obtain ⟨y, hR, -⟩ := a; exact Rx_ofElement hR hX) (fun a E hX => Rx_ofElement a hX) (fun E E' a b => Xu_ofElement a b) hk1 h2
  obtain ⟨ek, hk3, hkk⟩ := hag
  have hk3 : k2 ≤ 3 := Nat.le_trans hk3 (by decide)
  subst ek
  refine lv_istore (lv' := [(6, .int (iI yb)), (5, .int (iI ((k2 : Nat) : Int))), (4, .int (iI ((i : Nat) : Int))), (3, .ref oa), (2, .ref (μ (0, 0, 0))), (1, .ref (ρ (0, 0, 0))), (0, .ref b)]) hx hb dL_law_1607 hl (by decide) rfl (fun ls hl => ?_)
  refine lv_aload_n hx hb dL_law_1609 rfl (lv_at hl 4 rfl) ?_
  rw [← em]
  refine z_go ((Cc + 126) + 200) ((Sc + 1232) + 4000) (z_runV (As := []) (rest := []) hC hml hl.1 (m_X3_thrown hE H3 (hO.ext0 (zS_F hS)) μ1 σ2 ((k2 : Nat) : Int) hm) (lw_V q1512 q1513 q1514 q67 q1515) rfl nd_X3_thrown rfl (z_rv hC (ci := 2) rfl hm.2.2.1.1 rfl) rfl (Nat.le_of_ble_eq_true rfl) ⟨Nat.le_of_ble_eq_true rfl, Nat.le_of_ble_eq_true rfl⟩ ⟨zfit (k := 0) (z := 601152) rfl rfl (by omega), zfit (k := 0) (z := 7254250) rfl rfl (by omega)⟩ dL_law_1610) ⟨zad (k := 0) rfl (by omega), zad (k := 0) rfl (by omega)⟩ hS (fun _ z => z.elim) (fun r H4 locs hp hF hS1 => ?_)
  obtain ⟨_, rfl, rfl⟩ := hp
  have hP : va_P G.1 zCl [] H4 := va_nil
  have hD : va_D (zA M0 H0) [] := va_nilD
  have hh := hh.ext0 hE hF
  have hm := hm.ext0 hE hF
  have hdm := hdm.ext0 hF
  have ho := ho.ext0 hF
  have hP : va_P G.1 zCl ([]) H4 := hP
  have hD : va_D (zA M0 H0) ([]) := hD
  have hS := hS1
  have hhF := hh
  have hmF := hm
  have hdmF := hdm
  have hoF := ho
  have hofF := hof
  have homF := hom
  have hdjF := hdj
  refine lv_iload hx hb dL_law_1613 (lv_at hl 1 rfl) ?_
  refine z_ceq (tgt := 1620) hx hb dL_law_1615 (by decide) (by omega) (fun c5 => ?_) (fun c5 => ?_)
  · refine lv_iload hx hb dL_law_1620 (lv_at hl 1 rfl) ?_
    refine z_zne (tgt := 1638) hx hb dL_law_1622 (by decide) (by omega) (fun c6 => ?_) (fun c6 => ?_)
    · obtain ⟨-, es1, es2⟩ := hkk.resolve_left (fun w => by have := w.1; omega)
      subst es1
      subst es2
      refine lv_goto (tgt := 2435) hx hb dL_law_1638 (by decide) ?_
      exact W.widen (by omega) (by omega) (IH _ _ _ ρ1 μ1 _ _ n1 d1 s1 hhF hmF e0 em hdmF hoF hofF homF hdjF hS (lv_sub hl [2, 3, 4, 5, 6] rfl))
    · obtain ⟨k0, hA, hB⟩ := hkk.resolve_right (fun w => by have := w.1; omega)
      obtain ⟨y1, hR1, en⟩ := hA
      obtain ⟨ey, es⟩ := Rd_ofElement hR1 hB
      subst es
      refine lv_aload_n hx hb dL_law_1625 rfl (lv_at hl 3 rfl) ?_
      refine z_getn hC (k := 0) rfl in_X4 hoF (by decide) q886 (fun _ h => h) rfl dL_law_1626 ?_
      refine lv_iload hx hb dL_law_1629 (lv_at hl 0 rfl) ?_
      refine lv_i2l hx hb dL_law_1631 rfl ?_
      refine z_lcq hx hb (by rw [en, ey]) dL_law_1632 ?_
      refine z_zeq (tgt := 1638) hx hb dL_law_1633 (by decide) (by omega) (fun c7 => ?_) (fun c7 => ?_)
      · refine lv_goto (tgt := 2435) hx hb dL_law_1638 (by decide) ?_
        exact W.widen (by omega) (by omega) (IH _ _ _ ρ1 μ1 _ _ n1 d1 s1 hhF hmF e0 em hdmF hoF hofF homF hdjF hS (lv_sub hl [2, 3, 4, 5, 6] rfl))
      · omega
  · omega

set_option maxHeartbeats 4000000 in
theorem lwc_22 {p : Program} {l : Launch} {e : Env} {s : State} {m : MethodId} {below : List Frame} {meth : Method} {c : Code} {G : zG} {H0 : Heap} {b L xa ma oa : Nat} {xs : Nat → Int32} {Q : State → Prop} {i Cc Sc : Nat} (hE : zE l s G) (hC : zC p l s G s m #[.ref b] c "VersorhallLaw" cL_law) (hml : c.maxLocals = 9) (hH0 : s.heap = H0) (hX : va_X b L xs s H0) (hbl : b < H0.size) (hL : L ≤ 256) (hnc : zNc s) (hoa : s.heap.size ≤ oa) (hi4 : i + 4 ≤ L) (hcc : Cc + 9000 ≤ 601152 ∧ Sc + 110000 ≤ 7254250) (IH : lwJ p l e s m below meth c G H0 b xa ma oa Q 2435 i (Cc + 9000) (Sc + 110000)) : lwJ p l e s m below meth c G H0 b xa ma oa Q 1699 i Cc Sc := by
  intro H locs ls ρ μ σ th n9 d9 s9 hh hm exa ema hdm ho hof hom hdj hS hl
  subst exa
  subst ema
  have hx := hC.x
  have hb := hC.b
  have hp9 := hh.ok.1
  have hO : zO s H0 := ⟨by rw [hH0]; exact Nat.le_refl _, fun _ _ => by rw [hH0]⟩
  have hP : va_P G.1 zCl [] H := va_nil
  have hD : va_D (zA M0 H0) [] := va_nilD
  obtain ⟨z1, e1⟩ : ∃ z : Int, (xs (i + 1)).toInt = z := ⟨_, rfl⟩
  have hz1 : zi z1 := by rw [← e1]; exact ⟨Int32.le_toInt _, Int32.toInt_lt _⟩
  obtain ⟨z2, e2⟩ : ∃ z : Int, (xs (i + 2)).toInt = z := ⟨_, rfl⟩
  have hz2 : zi z2 := by rw [← e2]; exact ⟨Int32.le_toInt _, Int32.toInt_lt _⟩
  refine lv_aload_n hx hb dL_law_1699 rfl (lv_at hl 3 rfl) ?_
  refine lv_aload_n hx hb dL_law_1700 rfl (lv_at hl 4 rfl) ?_
  refine lv_iload hx hb dL_law_1701 (lv_at hl 0 rfl) ?_
  refine lv_iconst (v := iI 1) hx hb dL_law_1703 rfl ?_
  refine z_add hx hb (z := ((i : Nat) : Int) + 1) dL_law_1704 rfl ?_
  refine z_sld hC hX hbl hS (k := i + 1) (by omega) (by omega) (by omega) dL_law_1705 ?_
  refine z_top (b := z1) e1 ?_
  refine lv_aload_n hx hb dL_law_1706 rfl (lv_at hl 4 rfl) ?_
  refine lv_iload hx hb dL_law_1707 (lv_at hl 0 rfl) ?_
  refine lv_iconst (v := iI 2) hx hb dL_law_1709 rfl ?_
  refine z_add hx hb (z := ((i : Nat) : Int) + 2) dL_law_1710 rfl ?_
  refine z_sld hC hX hbl hS (k := i + 2) (by omega) (by omega) (by omega) dL_law_1711 ?_
  refine z_top (b := z2) e2 ?_
  refine lv_aload_n hx hb dL_law_1712 rfl (lv_at hl 1 rfl) ?_
  have hO0 : zO s H := hO.ext0 (zS_F hS)
  have hol := ho.lt
  refine z_goX (Cc + 3) (Sc + 16) (z_runSw (As := [.ref (ρ (0, 0, 0)), .int (iI z1), .int (iI z2), .ref oa]) (rest := []) hC hml hl.1 (z_monW (m_X0_ofAlgebra hE H (hO.ext0 (zS_F hS)) ρ σ z1 z2 oa n9 d9 s9 hh hdm ho hoa hof hnc ⟨hz1, hz2⟩)) (lw_SW q1424 q1425 q61 q1426) nd_X0_ofAlgebra rfl rfl (Nat.le_of_ble_eq_true rfl) ⟨Nat.le_of_ble_eq_true rfl, Nat.le_of_ble_eq_true rfl⟩ ⟨zfit (k := 3) (z := 601152) rfl rfl (by omega), zfit (k := 16) (z := 7254250) rfl rfl (by omega)⟩ dL_law_1713) ⟨zad (k := 3) rfl (by omega), zad (k := 16) rfl (by omega)⟩ hS (fun q z => Or.inr (by rw [← hH0]; exact z.elim (fun w => FC.ge hh.sep w) (fun w => by rw [w]; exact hoa))) (fun E ce q9 Hx1 locs hp hF hS1 hce hcv hcl => ?_) (fun r H2 locs hp hF hS1 => ?_)
  · exact hp.1.elim
  obtain ⟨⟨kk, rfl, σ1, n1, d1, s1, hpo, ho, hk1⟩, hmk⟩ := hp
  have hP : va_P G.1 zCl [] H2 := va_nil
  have hD : va_D (zA M0 H0) [] := va_nilD
  obtain ⟨ρ1, hh, e0, hdm, hm, hof, hdj⟩ := LI_cls hE hO0 hm hof hom hol hdj hdm hF hmk hpo
  have hP : va_P G.1 zCl ([]) H2 := hP
  have hD : va_D (zA M0 H0) ([]) := hD
  have hS := hS1
  refine lv_istore (lv' := [(5, .int (iI kk)), (4, .int (iI ((i : Nat) : Int))), (3, .ref oa), (2, .ref (μ (0, 0, 0))), (1, .ref (ρ (0, 0, 0))), (0, .ref b)]) hx hb dL_law_1716 hl (by decide) rfl (fun ls hl => ?_)
  refine lv_aload_n hx hb dL_law_1718 rfl (lv_at hl 3 rfl) ?_
  refine lv_aload_n hx hb dL_law_1719 rfl (lv_at hl 5 rfl) ?_
  refine lv_iload hx hb dL_law_1720 (lv_at hl 1 rfl) ?_
  refine lv_iconst (v := iI 1) hx hb dL_law_1722 rfl ?_
  refine z_add hx hb (z := ((i : Nat) : Int) + 1) dL_law_1723 rfl ?_
  refine z_sld hC hX hbl hS (k := i + 1) (by omega) (by omega) (by omega) dL_law_1724 ?_
  refine z_top (b := z1) e1 ?_
  refine lv_aload_n hx hb dL_law_1725 rfl (lv_at hl 5 rfl) ?_
  refine lv_iload hx hb dL_law_1726 (lv_at hl 1 rfl) ?_
  refine lv_iconst (v := iI 2) hx hb dL_law_1728 rfl ?_
  refine z_add hx hb (z := ((i : Nat) : Int) + 2) dL_law_1729 rfl ?_
  refine z_sld hC hX hbl hS (k := i + 2) (by omega) (by omega) (by omega) dL_law_1730 ?_
  refine z_top (b := z2) e2 ?_
  have hO1 : zO s H2 := hO.ext0 (zS_F hS)
  have hol1 := ho.lt
  refine z_go ((Cc + 3) + 1) ((Sc + 16) + 6) (z_runV (As := [.int (iI z1), .int (iI z2)]) (rest := []) hC hml hl.1 (z_mon (m_X3_ofAlgebra hE H2 (hO.ext0 (zS_F hS)) μ σ th z1 z2 hm ⟨hz1, hz2⟩)) (lw_V q1842 q1843 q1844 q67 q1845) rfl nd_X3_ofAlgebra rfl (z_rv hC (ci := 2) rfl hm.2.2.1.1 rfl) rfl (Nat.le_of_ble_eq_true rfl) ⟨Nat.le_of_ble_eq_true rfl, Nat.le_of_ble_eq_true rfl⟩ ⟨zfit (k := 1) (z := 601152) rfl rfl (by omega), zfit (k := 6) (z := 7254250) rfl rfl (by omega)⟩ dL_law_1731) ⟨zad (k := 1) rfl (by omega), zad (k := 6) rfl (by omega)⟩ hS (fun q z => Or.inr (by rw [← hH0]; exact FM.ge hm.sep z)) (fun r H3 locs hp hF hS1 => ?_)
  obtain ⟨⟨yb, rfl, k2, σ2, hpm, h2⟩, hmk⟩ := hp
  have hP : va_P G.1 zCl [] H3 := va_nil
  have hD : va_D (zA M0 H0) [] := va_nilD
  have ho := ho.ext hF hom
  obtain ⟨μ1, hm, em, hdm, hh, hom, hdj⟩ := LI_mdl hE hO1 hh hom hol1 hdj hdm hF hmk hpm
  have hP : va_P G.1 zCl ([]) H3 := hP
  have hD : va_D (zA M0 H0) ([]) := hD
  have hS := hS1
  have hag := z_agr (ex := [IOB, IAE]) (X := X_ofAlgebra σ z1 z2) (B := R_ofAlgebra σ z1 z2 yb σ2) (nd_2 (by decide)) (fun a E hX => by obtain ⟨y, hR, -⟩ := a; exact Rx_ofAlgebra hR hX) (fun a E hX => Rx_ofAlgebra a hX) (fun E E' a b => Xu_ofAlgebra a b) hk1 h2
  obtain ⟨ek, hk3, hkk⟩ := hag
  have hk3 : k2 ≤ 3 := Nat.le_trans hk3 (by decide)
  subst ek
  refine lv_istore (lv' := [(6, .int (iI yb)), (5, .int (iI ((k2 : Nat) : Int))), (4, .int (iI ((i : Nat) : Int))), (3, .ref oa), (2, .ref (μ (0, 0, 0))), (1, .ref (ρ (0, 0, 0))), (0, .ref b)]) hx hb dL_law_1734 hl (by decide) rfl (fun ls hl => ?_)
  refine lv_aload_n hx hb dL_law_1736 rfl (lv_at hl 4 rfl) ?_
  rw [← em]
  refine z_go ((Cc + 3) + 1) ((Sc + 16) + 6) (z_runV (As := []) (rest := []) hC hml hl.1 (m_X3_thrown hE H3 (hO.ext0 (zS_F hS)) μ1 σ2 ((k2 : Nat) : Int) hm) (lw_V q1512 q1513 q1514 q67 q1515) rfl nd_X3_thrown rfl (z_rv hC (ci := 2) rfl hm.2.2.1.1 rfl) rfl (Nat.le_of_ble_eq_true rfl) ⟨Nat.le_of_ble_eq_true rfl, Nat.le_of_ble_eq_true rfl⟩ ⟨zfit (k := 0) (z := 601152) rfl rfl (by omega), zfit (k := 0) (z := 7254250) rfl rfl (by omega)⟩ dL_law_1737) ⟨zad (k := 0) rfl (by omega), zad (k := 0) rfl (by omega)⟩ hS (fun _ z => z.elim) (fun r H4 locs hp hF hS1 => ?_)
  obtain ⟨_, rfl, rfl⟩ := hp
  have hP : va_P G.1 zCl [] H4 := va_nil
  have hD : va_D (zA M0 H0) [] := va_nilD
  have hh := hh.ext0 hE hF
  have hm := hm.ext0 hE hF
  have hdm := hdm.ext0 hF
  have ho := ho.ext0 hF
  have hP : va_P G.1 zCl ([]) H4 := hP
  have hD : va_D (zA M0 H0) ([]) := hD
  have hS := hS1
  have hhF := hh
  have hmF := hm
  have hdmF := hdm
  have hoF := ho
  have hofF := hof
  have homF := hom
  have hdjF := hdj
  refine lv_iload hx hb dL_law_1740 (lv_at hl 1 rfl) ?_
  refine z_ceq (tgt := 1747) hx hb dL_law_1742 (by decide) (by omega) (fun c5 => ?_) (fun c5 => ?_)
  · refine lv_iload hx hb dL_law_1747 (lv_at hl 1 rfl) ?_
    refine z_zne (tgt := 1765) hx hb dL_law_1749 (by decide) (by omega) (fun c6 => ?_) (fun c6 => ?_)
    · obtain ⟨-, es1, es2⟩ := hkk.resolve_left (fun w => by have := w.1; omega)
      subst es1
      subst es2
      refine lv_goto (tgt := 2435) hx hb dL_law_1765 (by decide) ?_
      exact W.widen (by omega) (by omega) (IH _ _ _ ρ1 μ1 _ _ n1 d1 s1 hhF hmF e0 em hdmF hoF hofF homF hdjF hS (lv_sub hl [2, 3, 4, 5, 6] rfl))
    · obtain ⟨k0, hA, hB⟩ := hkk.resolve_right (fun w => by have := w.1; omega)
      obtain ⟨y1, hR1, en⟩ := hA
      obtain ⟨ey, es⟩ := Rd_ofAlgebra hR1 hB
      subst es
      refine lv_aload_n hx hb dL_law_1752 rfl (lv_at hl 3 rfl) ?_
      refine z_getn hC (k := 0) rfl in_X4 hoF (by decide) q886 (fun _ h => h) rfl dL_law_1753 ?_
      refine lv_iload hx hb dL_law_1756 (lv_at hl 0 rfl) ?_
      refine lv_i2l hx hb dL_law_1758 rfl ?_
      refine z_lcq hx hb (by rw [en, ey]) dL_law_1759 ?_
      refine z_zeq (tgt := 1765) hx hb dL_law_1760 (by decide) (by omega) (fun c7 => ?_) (fun c7 => ?_)
      · refine lv_goto (tgt := 2435) hx hb dL_law_1765 (by decide) ?_
        exact W.widen (by omega) (by omega) (IH _ _ _ ρ1 μ1 _ _ n1 d1 s1 hhF hmF e0 em hdmF hoF hofF homF hdjF hS (lv_sub hl [2, 3, 4, 5, 6] rfl))
      · omega
  · omega

set_option maxHeartbeats 4000000 in
theorem lwc_23 {p : Program} {l : Launch} {e : Env} {s : State} {m : MethodId} {below : List Frame} {meth : Method} {c : Code} {G : zG} {H0 : Heap} {b L xa ma oa : Nat} {xs : Nat → Int32} {Q : State → Prop} {i Cc Sc : Nat} (hE : zE l s G) (hC : zC p l s G s m #[.ref b] c "VersorhallLaw" cL_law) (hml : c.maxLocals = 9) (hH0 : s.heap = H0) (hX : va_X b L xs s H0) (hbl : b < H0.size) (hL : L ≤ 256) (hnc : zNc s) (hoa : s.heap.size ≤ oa) (hi4 : i + 4 ≤ L) (hcc : Cc + 9000 ≤ 601152 ∧ Sc + 110000 ≤ 7254250) (IH : lwJ p l e s m below meth c G H0 b xa ma oa Q 2435 i (Cc + 9000) (Sc + 110000)) : lwJ p l e s m below meth c G H0 b xa ma oa Q 1768 i Cc Sc := by
  intro H locs ls ρ μ σ th n9 d9 s9 hh hm exa ema hdm ho hof hom hdj hS hl
  subst exa
  subst ema
  have hx := hC.x
  have hb := hC.b
  have hp9 := hh.ok.1
  have hO : zO s H0 := ⟨by rw [hH0]; exact Nat.le_refl _, fun _ _ => by rw [hH0]⟩
  have hP : va_P G.1 zCl [] H := va_nil
  have hD : va_D (zA M0 H0) [] := va_nilD
  obtain ⟨z1, e1⟩ : ∃ z : Int, (xs (i + 1)).toInt = z := ⟨_, rfl⟩
  have hz1 : zi z1 := by rw [← e1]; exact ⟨Int32.le_toInt _, Int32.toInt_lt _⟩
  obtain ⟨z2, e2⟩ : ∃ z : Int, (xs (i + 2)).toInt = z := ⟨_, rfl⟩
  have hz2 : zi z2 := by rw [← e2]; exact ⟨Int32.le_toInt _, Int32.toInt_lt _⟩
  obtain ⟨z3, e3⟩ : ∃ z : Int, (xs (i + 3)).toInt = z := ⟨_, rfl⟩
  have hz3 : zi z3 := by rw [← e3]; exact ⟨Int32.le_toInt _, Int32.toInt_lt _⟩
  refine lv_aload_n hx hb dL_law_1768 rfl (lv_at hl 3 rfl) ?_
  refine lv_aload_n hx hb dL_law_1769 rfl (lv_at hl 4 rfl) ?_
  refine lv_iload hx hb dL_law_1770 (lv_at hl 0 rfl) ?_
  refine lv_iconst (v := iI 1) hx hb dL_law_1772 rfl ?_
  refine z_add hx hb (z := ((i : Nat) : Int) + 1) dL_law_1773 rfl ?_
  refine z_sld hC hX hbl hS (k := i + 1) (by omega) (by omega) (by omega) dL_law_1774 ?_
  refine z_top (b := z1) e1 ?_
  refine lv_aload_n hx hb dL_law_1775 rfl (lv_at hl 4 rfl) ?_
  refine lv_iload hx hb dL_law_1776 (lv_at hl 0 rfl) ?_
  refine lv_iconst (v := iI 2) hx hb dL_law_1778 rfl ?_
  refine z_add hx hb (z := ((i : Nat) : Int) + 2) dL_law_1779 rfl ?_
  refine z_sld hC hX hbl hS (k := i + 2) (by omega) (by omega) (by omega) dL_law_1780 ?_
  refine z_top (b := z2) e2 ?_
  refine lv_aload_n hx hb dL_law_1781 rfl (lv_at hl 4 rfl) ?_
  refine lv_iload hx hb dL_law_1782 (lv_at hl 0 rfl) ?_
  refine lv_iconst (v := iI 3) hx hb dL_law_1784 rfl ?_
  refine z_add hx hb (z := ((i : Nat) : Int) + 3) dL_law_1785 rfl ?_
  refine z_sld hC hX hbl hS (k := i + 3) (by omega) (by omega) (by omega) dL_law_1786 ?_
  refine z_top (b := z3) e3 ?_
  refine lv_aload_n hx hb dL_law_1787 rfl (lv_at hl 1 rfl) ?_
  have hO0 : zO s H := hO.ext0 (zS_F hS)
  have hol := ho.lt
  refine z_goX (Cc + 3) (Sc + 18) (z_runSw (As := [.ref (ρ (0, 0, 0)), .int (iI z1), .int (iI z2), .int (iI z3), .ref oa]) (rest := []) hC hml hl.1 (z_monW (m_X0_sign hE H (hO.ext0 (zS_F hS)) ρ σ z1 z2 z3 oa n9 d9 s9 hh hdm ho hoa hof hnc ⟨hz1, hz2, hz3⟩)) (lw_SW q1431 q1432 q61 q1433) nd_X0_sign rfl rfl (Nat.le_of_ble_eq_true rfl) ⟨Nat.le_of_ble_eq_true rfl, Nat.le_of_ble_eq_true rfl⟩ ⟨zfit (k := 3) (z := 601152) rfl rfl (by omega), zfit (k := 18) (z := 7254250) rfl rfl (by omega)⟩ dL_law_1788) ⟨zad (k := 3) rfl (by omega), zad (k := 18) rfl (by omega)⟩ hS (fun q z => Or.inr (by rw [← hH0]; exact z.elim (fun w => FC.ge hh.sep w) (fun w => by rw [w]; exact hoa))) (fun E ce q9 Hx1 locs hp hF hS1 hce hcv hcl => ?_) (fun r H2 locs hp hF hS1 => ?_)
  · exact hp.1.elim
  obtain ⟨⟨kk, rfl, σ1, n1, d1, s1, hpo, ho, hk1⟩, hmk⟩ := hp
  have hP : va_P G.1 zCl [] H2 := va_nil
  have hD : va_D (zA M0 H0) [] := va_nilD
  obtain ⟨ρ1, hh, e0, hdm, hm, hof, hdj⟩ := LI_cls hE hO0 hm hof hom hol hdj hdm hF hmk hpo
  have hP : va_P G.1 zCl ([]) H2 := hP
  have hD : va_D (zA M0 H0) ([]) := hD
  have hS := hS1
  refine lv_istore (lv' := [(5, .int (iI kk)), (4, .int (iI ((i : Nat) : Int))), (3, .ref oa), (2, .ref (μ (0, 0, 0))), (1, .ref (ρ (0, 0, 0))), (0, .ref b)]) hx hb dL_law_1791 hl (by decide) rfl (fun ls hl => ?_)
  refine lv_aload_n hx hb dL_law_1793 rfl (lv_at hl 3 rfl) ?_
  refine lv_aload_n hx hb dL_law_1794 rfl (lv_at hl 5 rfl) ?_
  refine lv_iload hx hb dL_law_1795 (lv_at hl 1 rfl) ?_
  refine lv_iconst (v := iI 1) hx hb dL_law_1797 rfl ?_
  refine z_add hx hb (z := ((i : Nat) : Int) + 1) dL_law_1798 rfl ?_
  refine z_sld hC hX hbl hS (k := i + 1) (by omega) (by omega) (by omega) dL_law_1799 ?_
  refine z_top (b := z1) e1 ?_
  refine lv_aload_n hx hb dL_law_1800 rfl (lv_at hl 5 rfl) ?_
  refine lv_iload hx hb dL_law_1801 (lv_at hl 1 rfl) ?_
  refine lv_iconst (v := iI 2) hx hb dL_law_1803 rfl ?_
  refine z_add hx hb (z := ((i : Nat) : Int) + 2) dL_law_1804 rfl ?_
  refine z_sld hC hX hbl hS (k := i + 2) (by omega) (by omega) (by omega) dL_law_1805 ?_
  refine z_top (b := z2) e2 ?_
  refine lv_aload_n hx hb dL_law_1806 rfl (lv_at hl 5 rfl) ?_
  refine lv_iload hx hb dL_law_1807 (lv_at hl 1 rfl) ?_
  refine lv_iconst (v := iI 3) hx hb dL_law_1809 rfl ?_
  refine z_add hx hb (z := ((i : Nat) : Int) + 3) dL_law_1810 rfl ?_
  refine z_sld hC hX hbl hS (k := i + 3) (by omega) (by omega) (by omega) dL_law_1811 ?_
  refine z_top (b := z3) e3 ?_
  have hO1 : zO s H2 := hO.ext0 (zS_F hS)
  have hol1 := ho.lt
  refine z_go (Cc + 3) (Sc + 18) (z_runV (As := [.int (iI z1), .int (iI z2), .int (iI z3)]) (rest := []) hC hml hl.1 (z_mon (m_X3_sign hE H2 (hO.ext0 (zS_F hS)) μ σ th z1 z2 z3 hm ⟨hz1, hz2, hz3⟩)) (lw_V q1858 q1859 q1860 q67 q1861) rfl nd_X3_sign rfl (z_rv hC (ci := 2) rfl hm.2.2.1.1 rfl) rfl (Nat.le_of_ble_eq_true rfl) ⟨Nat.le_of_ble_eq_true rfl, Nat.le_of_ble_eq_true rfl⟩ ⟨zfit (k := 0) (z := 601152) rfl rfl (by omega), zfit (k := 0) (z := 7254250) rfl rfl (by omega)⟩ dL_law_1812) ⟨zad (k := 0) rfl (by omega), zad (k := 0) rfl (by omega)⟩ hS (fun q z => Or.inr (by rw [← hH0]; exact FM.ge hm.sep z)) (fun r H3 locs hp hF hS1 => ?_)
  obtain ⟨⟨yb, rfl, k2, σ2, hpm, h2⟩, hmk⟩ := hp
  have hP : va_P G.1 zCl [] H3 := va_nil
  have hD : va_D (zA M0 H0) [] := va_nilD
  have ho := ho.ext hF hom
  obtain ⟨μ1, hm, em, hdm, hh, hom, hdj⟩ := LI_mdl hE hO1 hh hom hol1 hdj hdm hF hmk hpm
  have hP : va_P G.1 zCl ([]) H3 := hP
  have hD : va_D (zA M0 H0) ([]) := hD
  have hS := hS1
  have hag := z_agr (ex := [IOB]) (X := X_sign σ z1 z2 z3) (B := R_sign σ z1 z2 z3 yb σ2) nd_1 (fun a E hX => by obtain ⟨y, hR, -⟩ := a; exact Rx_sign hR hX) (fun a E hX => Rx_sign a hX) (fun E E' a b => Xu_sign a b) hk1 h2
  obtain ⟨ek, hk3, hkk⟩ := hag
  have hk3 : k2 ≤ 3 := Nat.le_trans hk3 (by decide)
  subst ek
  refine lv_istore (lv' := [(6, .int (iI yb)), (5, .int (iI ((k2 : Nat) : Int))), (4, .int (iI ((i : Nat) : Int))), (3, .ref oa), (2, .ref (μ (0, 0, 0))), (1, .ref (ρ (0, 0, 0))), (0, .ref b)]) hx hb dL_law_1815 hl (by decide) rfl (fun ls hl => ?_)
  refine lv_aload_n hx hb dL_law_1817 rfl (lv_at hl 4 rfl) ?_
  rw [← em]
  refine z_go (Cc + 3) (Sc + 18) (z_runV (As := []) (rest := []) hC hml hl.1 (m_X3_thrown hE H3 (hO.ext0 (zS_F hS)) μ1 σ2 ((k2 : Nat) : Int) hm) (lw_V q1512 q1513 q1514 q67 q1515) rfl nd_X3_thrown rfl (z_rv hC (ci := 2) rfl hm.2.2.1.1 rfl) rfl (Nat.le_of_ble_eq_true rfl) ⟨Nat.le_of_ble_eq_true rfl, Nat.le_of_ble_eq_true rfl⟩ ⟨zfit (k := 0) (z := 601152) rfl rfl (by omega), zfit (k := 0) (z := 7254250) rfl rfl (by omega)⟩ dL_law_1818) ⟨zad (k := 0) rfl (by omega), zad (k := 0) rfl (by omega)⟩ hS (fun _ z => z.elim) (fun r H4 locs hp hF hS1 => ?_)
  obtain ⟨_, rfl, rfl⟩ := hp
  have hP : va_P G.1 zCl [] H4 := va_nil
  have hD : va_D (zA M0 H0) [] := va_nilD
  have hh := hh.ext0 hE hF
  have hm := hm.ext0 hE hF
  have hdm := hdm.ext0 hF
  have ho := ho.ext0 hF
  have hP : va_P G.1 zCl ([]) H4 := hP
  have hD : va_D (zA M0 H0) ([]) := hD
  have hS := hS1
  have hhF := hh
  have hmF := hm
  have hdmF := hdm
  have hoF := ho
  have hofF := hof
  have homF := hom
  have hdjF := hdj
  refine lv_iload hx hb dL_law_1821 (lv_at hl 1 rfl) ?_
  refine z_ceq (tgt := 1828) hx hb dL_law_1823 (by decide) (by omega) (fun c5 => ?_) (fun c5 => ?_)
  · refine lv_iload hx hb dL_law_1828 (lv_at hl 1 rfl) ?_
    refine z_zne (tgt := 1846) hx hb dL_law_1830 (by decide) (by omega) (fun c6 => ?_) (fun c6 => ?_)
    · obtain ⟨-, es1, es2⟩ := hkk.resolve_left (fun w => by have := w.1; omega)
      subst es1
      subst es2
      refine lv_goto (tgt := 2435) hx hb dL_law_1846 (by decide) ?_
      exact W.widen (by omega) (by omega) (IH _ _ _ ρ1 μ1 _ _ n1 d1 s1 hhF hmF e0 em hdmF hoF hofF homF hdjF hS (lv_sub hl [2, 3, 4, 5, 6] rfl))
    · obtain ⟨k0, hA, hB⟩ := hkk.resolve_right (fun w => by have := w.1; omega)
      obtain ⟨y1, hR1, en⟩ := hA
      obtain ⟨ey, es⟩ := Rd_sign hR1 hB
      subst es
      refine lv_aload_n hx hb dL_law_1833 rfl (lv_at hl 3 rfl) ?_
      refine z_getn hC (k := 0) rfl in_X4 hoF (by decide) q886 (fun _ h => h) rfl dL_law_1834 ?_
      refine lv_iload hx hb dL_law_1837 (lv_at hl 0 rfl) ?_
      refine lv_i2l hx hb dL_law_1839 rfl ?_
      refine z_lcq hx hb (by rw [en, ey]) dL_law_1840 ?_
      refine z_zeq (tgt := 1846) hx hb dL_law_1841 (by decide) (by omega) (fun c7 => ?_) (fun c7 => ?_)
      · refine lv_goto (tgt := 2435) hx hb dL_law_1846 (by decide) ?_
        exact W.widen (by omega) (by omega) (IH _ _ _ ρ1 μ1 _ _ n1 d1 s1 hhF hmF e0 em hdmF hoF hofF homF hdjF hS (lv_sub hl [2, 3, 4, 5, 6] rfl))
      · omega
  · omega

set_option maxHeartbeats 4000000 in
theorem lwc_24 {p : Program} {l : Launch} {e : Env} {s : State} {m : MethodId} {below : List Frame} {meth : Method} {c : Code} {G : zG} {H0 : Heap} {b L xa ma oa : Nat} {xs : Nat → Int32} {Q : State → Prop} {i Cc Sc : Nat} (hE : zE l s G) (hC : zC p l s G s m #[.ref b] c "VersorhallLaw" cL_law) (hml : c.maxLocals = 9) (hH0 : s.heap = H0) (hX : va_X b L xs s H0) (hbl : b < H0.size) (hL : L ≤ 256) (hnc : zNc s) (hoa : s.heap.size ≤ oa) (hi4 : i + 4 ≤ L) (hcc : Cc + 9000 ≤ 601152 ∧ Sc + 110000 ≤ 7254250) (IH : lwJ p l e s m below meth c G H0 b xa ma oa Q 2435 i (Cc + 9000) (Sc + 110000)) : lwJ p l e s m below meth c G H0 b xa ma oa Q 1849 i Cc Sc := by
  intro H locs ls ρ μ σ th n9 d9 s9 hh hm exa ema hdm ho hof hom hdj hS hl
  subst exa
  subst ema
  have hx := hC.x
  have hb := hC.b
  have hp9 := hh.ok.1
  have hO : zO s H0 := ⟨by rw [hH0]; exact Nat.le_refl _, fun _ _ => by rw [hH0]⟩
  have hP : va_P G.1 zCl [] H := va_nil
  have hD : va_D (zA M0 H0) [] := va_nilD
  obtain ⟨z1, e1⟩ : ∃ z : Int, (xs (i + 1)).toInt = z := ⟨_, rfl⟩
  have hz1 : zi z1 := by rw [← e1]; exact ⟨Int32.le_toInt _, Int32.toInt_lt _⟩
  obtain ⟨z2, e2⟩ : ∃ z : Int, (xs (i + 2)).toInt = z := ⟨_, rfl⟩
  have hz2 : zi z2 := by rw [← e2]; exact ⟨Int32.le_toInt _, Int32.toInt_lt _⟩
  refine lv_aload_n hx hb dL_law_1849 rfl (lv_at hl 3 rfl) ?_
  refine lv_aload_n hx hb dL_law_1850 rfl (lv_at hl 4 rfl) ?_
  refine lv_iload hx hb dL_law_1851 (lv_at hl 0 rfl) ?_
  refine lv_iconst (v := iI 1) hx hb dL_law_1853 rfl ?_
  refine z_add hx hb (z := ((i : Nat) : Int) + 1) dL_law_1854 rfl ?_
  refine z_sld hC hX hbl hS (k := i + 1) (by omega) (by omega) (by omega) dL_law_1855 ?_
  refine z_top (b := z1) e1 ?_
  refine lv_aload_n hx hb dL_law_1856 rfl (lv_at hl 4 rfl) ?_
  refine lv_iload hx hb dL_law_1857 (lv_at hl 0 rfl) ?_
  refine lv_iconst (v := iI 2) hx hb dL_law_1859 rfl ?_
  refine z_add hx hb (z := ((i : Nat) : Int) + 2) dL_law_1860 rfl ?_
  refine z_sld hC hX hbl hS (k := i + 2) (by omega) (by omega) (by omega) dL_law_1861 ?_
  refine z_top (b := z2) e2 ?_
  refine lv_aload_n hx hb dL_law_1862 rfl (lv_at hl 1 rfl) ?_
  have hO0 : zO s H := hO.ext0 (zS_F hS)
  have hol := ho.lt
  refine z_goX (Cc + 2) (Sc + 12) (z_runSw (As := [.ref (ρ (0, 0, 0)), .int (iI z1), .int (iI z2), .ref oa]) (rest := []) hC hml hl.1 (z_monW (m_X0_breaks hE H (hO.ext0 (zS_F hS)) ρ σ z1 z2 oa n9 d9 s9 hh hdm ho hoa hof hnc ⟨hz1, hz2⟩)) (lw_SW q1438 q1439 q61 q1440) nd_X0_breaks rfl rfl (Nat.le_of_ble_eq_true rfl) ⟨Nat.le_of_ble_eq_true rfl, Nat.le_of_ble_eq_true rfl⟩ ⟨zfit (k := 2) (z := 601152) rfl rfl (by omega), zfit (k := 12) (z := 7254250) rfl rfl (by omega)⟩ dL_law_1863) ⟨zad (k := 2) rfl (by omega), zad (k := 12) rfl (by omega)⟩ hS (fun q z => Or.inr (by rw [← hH0]; exact z.elim (fun w => FC.ge hh.sep w) (fun w => by rw [w]; exact hoa))) (fun E ce q9 Hx1 locs hp hF hS1 hce hcv hcl => ?_) (fun r H2 locs hp hF hS1 => ?_)
  · exact hp.1.elim
  obtain ⟨⟨kk, rfl, σ1, n1, d1, s1, hpo, ho, hk1⟩, hmk⟩ := hp
  have hP : va_P G.1 zCl [] H2 := va_nil
  have hD : va_D (zA M0 H0) [] := va_nilD
  obtain ⟨ρ1, hh, e0, hdm, hm, hof, hdj⟩ := LI_cls hE hO0 hm hof hom hol hdj hdm hF hmk hpo
  have hP : va_P G.1 zCl ([]) H2 := hP
  have hD : va_D (zA M0 H0) ([]) := hD
  have hS := hS1
  refine lv_istore (lv' := [(5, .int (iI kk)), (4, .int (iI ((i : Nat) : Int))), (3, .ref oa), (2, .ref (μ (0, 0, 0))), (1, .ref (ρ (0, 0, 0))), (0, .ref b)]) hx hb dL_law_1866 hl (by decide) rfl (fun ls hl => ?_)
  refine lv_aload_n hx hb dL_law_1868 rfl (lv_at hl 3 rfl) ?_
  refine lv_aload_n hx hb dL_law_1869 rfl (lv_at hl 5 rfl) ?_
  refine lv_iload hx hb dL_law_1870 (lv_at hl 1 rfl) ?_
  refine lv_iconst (v := iI 1) hx hb dL_law_1872 rfl ?_
  refine z_add hx hb (z := ((i : Nat) : Int) + 1) dL_law_1873 rfl ?_
  refine z_sld hC hX hbl hS (k := i + 1) (by omega) (by omega) (by omega) dL_law_1874 ?_
  refine z_top (b := z1) e1 ?_
  refine lv_aload_n hx hb dL_law_1875 rfl (lv_at hl 5 rfl) ?_
  refine lv_iload hx hb dL_law_1876 (lv_at hl 1 rfl) ?_
  refine lv_iconst (v := iI 2) hx hb dL_law_1878 rfl ?_
  refine z_add hx hb (z := ((i : Nat) : Int) + 2) dL_law_1879 rfl ?_
  refine z_sld hC hX hbl hS (k := i + 2) (by omega) (by omega) (by omega) dL_law_1880 ?_
  refine z_top (b := z2) e2 ?_
  have hO1 : zO s H2 := hO.ext0 (zS_F hS)
  have hol1 := ho.lt
  refine z_go (Cc + 2) (Sc + 12) (z_runV (As := [.int (iI z1), .int (iI z2)]) (rest := []) hC hml hl.1 (z_mon (m_X3_breaks hE H2 (hO.ext0 (zS_F hS)) μ σ th z1 z2 hm ⟨hz1, hz2⟩)) (lw_V q1862 q1863 q1864 q67 q1865) rfl nd_X3_breaks rfl (z_rv hC (ci := 2) rfl hm.2.2.1.1 rfl) rfl (Nat.le_of_ble_eq_true rfl) ⟨Nat.le_of_ble_eq_true rfl, Nat.le_of_ble_eq_true rfl⟩ ⟨zfit (k := 0) (z := 601152) rfl rfl (by omega), zfit (k := 0) (z := 7254250) rfl rfl (by omega)⟩ dL_law_1881) ⟨zad (k := 0) rfl (by omega), zad (k := 0) rfl (by omega)⟩ hS (fun q z => Or.inr (by rw [← hH0]; exact FM.ge hm.sep z)) (fun r H3 locs hp hF hS1 => ?_)
  obtain ⟨⟨yb, rfl, k2, σ2, hpm, h2⟩, hmk⟩ := hp
  have hP : va_P G.1 zCl [] H3 := va_nil
  have hD : va_D (zA M0 H0) [] := va_nilD
  have ho := ho.ext hF hom
  obtain ⟨μ1, hm, em, hdm, hh, hom, hdj⟩ := LI_mdl hE hO1 hh hom hol1 hdj hdm hF hmk hpm
  have hP : va_P G.1 zCl ([]) H3 := hP
  have hD : va_D (zA M0 H0) ([]) := hD
  have hS := hS1
  have hag := z_agr (ex := [IOB]) (X := X_breaks σ z1 z2) (B := R_breaks σ z1 z2 yb σ2) nd_1 (fun a E hX => by obtain ⟨y, hR, -⟩ := a; exact Rx_breaks hR hX) (fun a E hX => Rx_breaks a hX) (fun E E' a b => Xu_breaks a b) hk1 h2
  obtain ⟨ek, hk3, hkk⟩ := hag
  have hk3 : k2 ≤ 3 := Nat.le_trans hk3 (by decide)
  subst ek
  refine lv_istore (lv' := [(6, .int (iI yb)), (5, .int (iI ((k2 : Nat) : Int))), (4, .int (iI ((i : Nat) : Int))), (3, .ref oa), (2, .ref (μ (0, 0, 0))), (1, .ref (ρ (0, 0, 0))), (0, .ref b)]) hx hb dL_law_1884 hl (by decide) rfl (fun ls hl => ?_)
  refine lv_aload_n hx hb dL_law_1886 rfl (lv_at hl 4 rfl) ?_
  rw [← em]
  refine z_go (Cc + 2) (Sc + 12) (z_runV (As := []) (rest := []) hC hml hl.1 (m_X3_thrown hE H3 (hO.ext0 (zS_F hS)) μ1 σ2 ((k2 : Nat) : Int) hm) (lw_V q1512 q1513 q1514 q67 q1515) rfl nd_X3_thrown rfl (z_rv hC (ci := 2) rfl hm.2.2.1.1 rfl) rfl (Nat.le_of_ble_eq_true rfl) ⟨Nat.le_of_ble_eq_true rfl, Nat.le_of_ble_eq_true rfl⟩ ⟨zfit (k := 0) (z := 601152) rfl rfl (by omega), zfit (k := 0) (z := 7254250) rfl rfl (by omega)⟩ dL_law_1887) ⟨zad (k := 0) rfl (by omega), zad (k := 0) rfl (by omega)⟩ hS (fun _ z => z.elim) (fun r H4 locs hp hF hS1 => ?_)
  obtain ⟨_, rfl, rfl⟩ := hp
  have hP : va_P G.1 zCl [] H4 := va_nil
  have hD : va_D (zA M0 H0) [] := va_nilD
  have hh := hh.ext0 hE hF
  have hm := hm.ext0 hE hF
  have hdm := hdm.ext0 hF
  have ho := ho.ext0 hF
  have hP : va_P G.1 zCl ([]) H4 := hP
  have hD : va_D (zA M0 H0) ([]) := hD
  have hS := hS1
  have hhF := hh
  have hmF := hm
  have hdmF := hdm
  have hoF := ho
  have hofF := hof
  have homF := hom
  have hdjF := hdj
  refine lv_iload hx hb dL_law_1890 (lv_at hl 1 rfl) ?_
  refine z_ceq (tgt := 1897) hx hb dL_law_1892 (by decide) (by omega) (fun c5 => ?_) (fun c5 => ?_)
  · refine lv_iload hx hb dL_law_1897 (lv_at hl 1 rfl) ?_
    refine z_zne (tgt := 1915) hx hb dL_law_1899 (by decide) (by omega) (fun c6 => ?_) (fun c6 => ?_)
    · obtain ⟨-, es1, es2⟩ := hkk.resolve_left (fun w => by have := w.1; omega)
      subst es1
      subst es2
      refine lv_goto (tgt := 2435) hx hb dL_law_1915 (by decide) ?_
      exact W.widen (by omega) (by omega) (IH _ _ _ ρ1 μ1 _ _ n1 d1 s1 hhF hmF e0 em hdmF hoF hofF homF hdjF hS (lv_sub hl [2, 3, 4, 5, 6] rfl))
    · obtain ⟨k0, hA, hB⟩ := hkk.resolve_right (fun w => by have := w.1; omega)
      obtain ⟨y1, hR1, en⟩ := hA
      obtain ⟨ey, es⟩ := Rd_breaks hR1 hB
      subst es
      refine lv_aload_n hx hb dL_law_1902 rfl (lv_at hl 3 rfl) ?_
      refine z_getn hC (k := 0) rfl in_X4 hoF (by decide) q886 (fun _ h => h) rfl dL_law_1903 ?_
      refine lv_iload hx hb dL_law_1906 (lv_at hl 0 rfl) ?_
      refine lv_i2l hx hb dL_law_1908 rfl ?_
      refine z_lcq hx hb (by rw [en, ey]) dL_law_1909 ?_
      refine z_zeq (tgt := 1915) hx hb dL_law_1910 (by decide) (by omega) (fun c7 => ?_) (fun c7 => ?_)
      · refine lv_goto (tgt := 2435) hx hb dL_law_1915 (by decide) ?_
        exact W.widen (by omega) (by omega) (IH _ _ _ ρ1 μ1 _ _ n1 d1 s1 hhF hmF e0 em hdmF hoF hofF homF hdjF hS (lv_sub hl [2, 3, 4, 5, 6] rfl))
      · omega
  · omega

set_option maxHeartbeats 4000000 in
theorem lwc_28 {p : Program} {l : Launch} {e : Env} {s : State} {m : MethodId} {below : List Frame} {meth : Method} {c : Code} {G : zG} {H0 : Heap} {b L xa ma oa : Nat} {xs : Nat → Int32} {Q : State → Prop} {i Cc Sc : Nat} (hE : zE l s G) (hC : zC p l s G s m #[.ref b] c "VersorhallLaw" cL_law) (hml : c.maxLocals = 9) (hH0 : s.heap = H0) (hX : va_X b L xs s H0) (hbl : b < H0.size) (hL : L ≤ 256) (hnc : zNc s) (hoa : s.heap.size ≤ oa) (hi4 : i + 4 ≤ L) (hcc : Cc + 9000 ≤ 601152 ∧ Sc + 110000 ≤ 7254250) (IH : lwJ p l e s m below meth c G H0 b xa ma oa Q 2435 i (Cc + 9000) (Sc + 110000)) : lwJ p l e s m below meth c G H0 b xa ma oa Q 2076 i Cc Sc := by
  intro H locs ls ρ μ σ th n9 d9 s9 hh hm exa ema hdm ho hof hom hdj hS hl
  subst exa
  subst ema
  have hx := hC.x
  have hb := hC.b
  have hp9 := hh.ok.1
  have hO : zO s H0 := ⟨by rw [hH0]; exact Nat.le_refl _, fun _ _ => by rw [hH0]⟩
  have hP : va_P G.1 zCl [] H := va_nil
  have hD : va_D (zA M0 H0) [] := va_nilD
  obtain ⟨z1, e1⟩ : ∃ z : Int, (xs (i + 1)).toInt = z := ⟨_, rfl⟩
  have hz1 : zi z1 := by rw [← e1]; exact ⟨Int32.le_toInt _, Int32.toInt_lt _⟩
  refine lv_aload_n hx hb dL_law_2076 rfl (lv_at hl 3 rfl) ?_
  refine lv_aload_n hx hb dL_law_2077 rfl (lv_at hl 4 rfl) ?_
  refine lv_iload hx hb dL_law_2078 (lv_at hl 0 rfl) ?_
  refine lv_iconst (v := iI 1) hx hb dL_law_2080 rfl ?_
  refine z_add hx hb (z := ((i : Nat) : Int) + 1) dL_law_2081 rfl ?_
  refine z_sld hC hX hbl hS (k := i + 1) (by omega) (by omega) (by omega) dL_law_2082 ?_
  refine z_top (b := z1) e1 ?_
  refine lv_aload_n hx hb dL_law_2083 rfl (lv_at hl 1 rfl) ?_
  have hO0 : zO s H := hO.ext0 (zS_F hS)
  have hol := ho.lt
  refine z_goX (Cc + 61) (Sc + 706) (z_runSw (As := [.ref (ρ (0, 0, 0)), .int (iI z1), .ref oa]) (rest := []) hC hml hl.1 (z_monW (m_X0_many hE H (hO.ext0 (zS_F hS)) ρ σ z1 oa n9 d9 s9 hh hdm ho hoa hof hnc hz1)) (lw_SW q1452 q1453 q61 q1454) nd_X0_many rfl rfl (Nat.le_of_ble_eq_true rfl) ⟨Nat.le_of_ble_eq_true rfl, Nat.le_of_ble_eq_true rfl⟩ ⟨zfit (k := 61) (z := 601152) rfl rfl (by omega), zfit (k := 706) (z := 7254250) rfl rfl (by omega)⟩ dL_law_2084) ⟨zad (k := 61) rfl (by omega), zad (k := 706) rfl (by omega)⟩ hS (fun q z => Or.inr (by rw [← hH0]; exact z.elim (fun w => FC.ge hh.sep w) (fun w => by rw [w]; exact hoa))) (fun E ce q9 Hx1 locs hp hF hS1 hce hcv hcl => ?_) (fun r H2 locs hp hF hS1 => ?_)
  · exact hp.1.elim
  obtain ⟨⟨kk, rfl, σ1, n1, d1, s1, hpo, ho, hk1⟩, hmk⟩ := hp
  have hP : va_P G.1 zCl [] H2 := va_nil
  have hD : va_D (zA M0 H0) [] := va_nilD
  obtain ⟨ρ1, hh, e0, hdm, hm, hof, hdj⟩ := LI_cls hE hO0 hm hof hom hol hdj hdm hF hmk hpo
  have hP : va_P G.1 zCl ([]) H2 := hP
  have hD : va_D (zA M0 H0) ([]) := hD
  have hS := hS1
  refine lv_istore (lv' := [(5, .int (iI kk)), (4, .int (iI ((i : Nat) : Int))), (3, .ref oa), (2, .ref (μ (0, 0, 0))), (1, .ref (ρ (0, 0, 0))), (0, .ref b)]) hx hb dL_law_2087 hl (by decide) rfl (fun ls hl => ?_)
  refine lv_aload_n hx hb dL_law_2089 rfl (lv_at hl 3 rfl) ?_
  refine lv_aload_n hx hb dL_law_2090 rfl (lv_at hl 5 rfl) ?_
  refine lv_iload hx hb dL_law_2091 (lv_at hl 1 rfl) ?_
  refine lv_iconst (v := iI 1) hx hb dL_law_2093 rfl ?_
  refine z_add hx hb (z := ((i : Nat) : Int) + 1) dL_law_2094 rfl ?_
  refine z_sld hC hX hbl hS (k := i + 1) (by omega) (by omega) (by omega) dL_law_2095 ?_
  refine z_top (b := z1) e1 ?_
  have hO1 : zO s H2 := hO.ext0 (zS_F hS)
  have hol1 := ho.lt
  refine z_go ((Cc + 61) + 60) ((Sc + 706) + 700) (z_runV (As := [.int (iI z1)]) (rest := []) hC hml hl.1 (z_mon (m_X3_many hE H2 (hO.ext0 (zS_F hS)) μ σ th z1 hm hz1)) (lw_V q1894 q1895 q1896 q67 q1897) rfl nd_X3_many rfl (z_rv hC (ci := 2) rfl hm.2.2.1.1 rfl) rfl (Nat.le_of_ble_eq_true rfl) ⟨Nat.le_of_ble_eq_true rfl, Nat.le_of_ble_eq_true rfl⟩ ⟨zfit (k := 60) (z := 601152) rfl rfl (by omega), zfit (k := 700) (z := 7254250) rfl rfl (by omega)⟩ dL_law_2096) ⟨zad (k := 60) rfl (by omega), zad (k := 700) rfl (by omega)⟩ hS (fun q z => Or.inr (by rw [← hH0]; exact FM.ge hm.sep z)) (fun r H3 locs hp hF hS1 => ?_)
  obtain ⟨⟨yb, rfl, k2, σ2, hpm, h2⟩, hmk⟩ := hp
  have hP : va_P G.1 zCl [] H3 := va_nil
  have hD : va_D (zA M0 H0) [] := va_nilD
  have ho := ho.ext hF hom
  obtain ⟨μ1, hm, em, hdm, hh, hom, hdj⟩ := LI_mdl hE hO1 hh hom hol1 hdj hdm hF hmk hpm
  have hP : va_P G.1 zCl ([]) H3 := hP
  have hD : va_D (zA M0 H0) ([]) := hD
  have hS := hS1
  have hag := z_agr (ex := [IAE]) (X := X_many σ z1) (B := R_many σ z1 yb σ2) nd_1 (fun a E hX => by obtain ⟨y, hR, -⟩ := a; exact Rx_many hR hX) (fun a E hX => Rx_many a hX) (fun E E' a b => Xu_many a b) hk1 h2
  obtain ⟨ek, hk3, hkk⟩ := hag
  have hk3 : k2 ≤ 3 := Nat.le_trans hk3 (by decide)
  subst ek
  refine lv_istore (lv' := [(6, .int (iI yb)), (5, .int (iI ((k2 : Nat) : Int))), (4, .int (iI ((i : Nat) : Int))), (3, .ref oa), (2, .ref (μ (0, 0, 0))), (1, .ref (ρ (0, 0, 0))), (0, .ref b)]) hx hb dL_law_2099 hl (by decide) rfl (fun ls hl => ?_)
  refine lv_aload_n hx hb dL_law_2101 rfl (lv_at hl 4 rfl) ?_
  rw [← em]
  refine z_go ((Cc + 61) + 60) ((Sc + 706) + 700) (z_runV (As := []) (rest := []) hC hml hl.1 (m_X3_thrown hE H3 (hO.ext0 (zS_F hS)) μ1 σ2 ((k2 : Nat) : Int) hm) (lw_V q1512 q1513 q1514 q67 q1515) rfl nd_X3_thrown rfl (z_rv hC (ci := 2) rfl hm.2.2.1.1 rfl) rfl (Nat.le_of_ble_eq_true rfl) ⟨Nat.le_of_ble_eq_true rfl, Nat.le_of_ble_eq_true rfl⟩ ⟨zfit (k := 0) (z := 601152) rfl rfl (by omega), zfit (k := 0) (z := 7254250) rfl rfl (by omega)⟩ dL_law_2102) ⟨zad (k := 0) rfl (by omega), zad (k := 0) rfl (by omega)⟩ hS (fun _ z => z.elim) (fun r H4 locs hp hF hS1 => ?_)
  obtain ⟨_, rfl, rfl⟩ := hp
  have hP : va_P G.1 zCl [] H4 := va_nil
  have hD : va_D (zA M0 H0) [] := va_nilD
  have hh := hh.ext0 hE hF
  have hm := hm.ext0 hE hF
  have hdm := hdm.ext0 hF
  have ho := ho.ext0 hF
  have hP : va_P G.1 zCl ([]) H4 := hP
  have hD : va_D (zA M0 H0) ([]) := hD
  have hS := hS1
  have hhF := hh
  have hmF := hm
  have hdmF := hdm
  have hoF := ho
  have hofF := hof
  have homF := hom
  have hdjF := hdj
  refine lv_iload hx hb dL_law_2105 (lv_at hl 1 rfl) ?_
  refine z_ceq (tgt := 2112) hx hb dL_law_2107 (by decide) (by omega) (fun c5 => ?_) (fun c5 => ?_)
  · refine lv_iload hx hb dL_law_2112 (lv_at hl 1 rfl) ?_
    refine z_zne (tgt := 2130) hx hb dL_law_2114 (by decide) (by omega) (fun c6 => ?_) (fun c6 => ?_)
    · obtain ⟨-, es1, es2⟩ := hkk.resolve_left (fun w => by have := w.1; omega)
      subst es1
      subst es2
      refine lv_goto (tgt := 2435) hx hb dL_law_2130 (by decide) ?_
      exact W.widen (by omega) (by omega) (IH _ _ _ ρ1 μ1 _ _ n1 d1 s1 hhF hmF e0 em hdmF hoF hofF homF hdjF hS (lv_sub hl [2, 3, 4, 5, 6] rfl))
    · obtain ⟨k0, hA, hB⟩ := hkk.resolve_right (fun w => by have := w.1; omega)
      obtain ⟨y1, hR1, en⟩ := hA
      obtain ⟨ey, es⟩ := Rd_many hR1 hB
      subst es
      refine lv_aload_n hx hb dL_law_2117 rfl (lv_at hl 3 rfl) ?_
      refine z_getn hC (k := 0) rfl in_X4 hoF (by decide) q886 (fun _ h => h) rfl dL_law_2118 ?_
      refine lv_iload hx hb dL_law_2121 (lv_at hl 0 rfl) ?_
      refine lv_i2l hx hb dL_law_2123 rfl ?_
      refine z_lcq hx hb (by rw [en, ey]) dL_law_2124 ?_
      refine z_zeq (tgt := 2130) hx hb dL_law_2125 (by decide) (by omega) (fun c7 => ?_) (fun c7 => ?_)
      · refine lv_goto (tgt := 2435) hx hb dL_law_2130 (by decide) ?_
        exact W.widen (by omega) (by omega) (IH _ _ _ ρ1 μ1 _ _ n1 d1 s1 hhF hmF e0 em hdmF hoF hofF homF hdjF hS (lv_sub hl [2, 3, 4, 5, 6] rfl))
      · omega
  · omega

set_option maxHeartbeats 4000000 in
theorem lwc_29 {p : Program} {l : Launch} {e : Env} {s : State} {m : MethodId} {below : List Frame} {meth : Method} {c : Code} {G : zG} {H0 : Heap} {b L xa ma oa : Nat} {xs : Nat → Int32} {Q : State → Prop} {i Cc Sc : Nat} (hE : zE l s G) (hC : zC p l s G s m #[.ref b] c "VersorhallLaw" cL_law) (hml : c.maxLocals = 9) (hH0 : s.heap = H0) (hX : va_X b L xs s H0) (hbl : b < H0.size) (hL : L ≤ 256) (hnc : zNc s) (hoa : s.heap.size ≤ oa) (hi4 : i + 4 ≤ L) (hcc : Cc + 9000 ≤ 601152 ∧ Sc + 110000 ≤ 7254250) (IH : lwJ p l e s m below meth c G H0 b xa ma oa Q 2435 i (Cc + 9000) (Sc + 110000)) : lwJ p l e s m below meth c G H0 b xa ma oa Q 2133 i Cc Sc := by
  intro H locs ls ρ μ σ th n9 d9 s9 hh hm exa ema hdm ho hof hom hdj hS hl
  subst exa
  subst ema
  have hx := hC.x
  have hb := hC.b
  have hp9 := hh.ok.1
  have hO : zO s H0 := ⟨by rw [hH0]; exact Nat.le_refl _, fun _ _ => by rw [hH0]⟩
  have hP : va_P G.1 zCl [] H := va_nil
  have hD : va_D (zA M0 H0) [] := va_nilD
  obtain ⟨z1, e1⟩ : ∃ z : Int, (xs (i + 1)).toInt = z := ⟨_, rfl⟩
  have hz1 : zi z1 := by rw [← e1]; exact ⟨Int32.le_toInt _, Int32.toInt_lt _⟩
  obtain ⟨z2, e2⟩ : ∃ z : Int, (xs (i + 2)).toInt = z := ⟨_, rfl⟩
  have hz2 : zi z2 := by rw [← e2]; exact ⟨Int32.le_toInt _, Int32.toInt_lt _⟩
  refine lv_aload_n hx hb dL_law_2133 rfl (lv_at hl 3 rfl) ?_
  refine lv_aload_n hx hb dL_law_2134 rfl (lv_at hl 4 rfl) ?_
  refine lv_iload hx hb dL_law_2135 (lv_at hl 0 rfl) ?_
  refine lv_iconst (v := iI 1) hx hb dL_law_2137 rfl ?_
  refine z_add hx hb (z := ((i : Nat) : Int) + 1) dL_law_2138 rfl ?_
  refine z_sld hC hX hbl hS (k := i + 1) (by omega) (by omega) (by omega) dL_law_2139 ?_
  refine z_top (b := z1) e1 ?_
  refine lv_aload_n hx hb dL_law_2140 rfl (lv_at hl 4 rfl) ?_
  refine lv_iload hx hb dL_law_2141 (lv_at hl 0 rfl) ?_
  refine lv_iconst (v := iI 2) hx hb dL_law_2143 rfl ?_
  refine z_add hx hb (z := ((i : Nat) : Int) + 2) dL_law_2144 rfl ?_
  refine z_sld hC hX hbl hS (k := i + 2) (by omega) (by omega) (by omega) dL_law_2145 ?_
  refine z_top (b := z2) e2 ?_
  refine lv_aload_n hx hb dL_law_2146 rfl (lv_at hl 1 rfl) ?_
  have hO0 : zO s H := hO.ext0 (zS_F hS)
  have hol := ho.lt
  refine z_goX (Cc + 9) (Sc + 75) (z_runSw (As := [.ref (ρ (0, 0, 0)), .int (iI z1), .int (iI z2), .ref oa]) (rest := []) hC hml hl.1 (z_monW (m_X0_apart hE H (hO.ext0 (zS_F hS)) ρ σ z1 z2 oa n9 d9 s9 hh hdm ho hoa hof hnc ⟨hz1, hz2⟩)) (lw_SW q1459 q1460 q61 q1461) nd_X0_apart rfl rfl (Nat.le_of_ble_eq_true rfl) ⟨Nat.le_of_ble_eq_true rfl, Nat.le_of_ble_eq_true rfl⟩ ⟨zfit (k := 9) (z := 601152) rfl rfl (by omega), zfit (k := 75) (z := 7254250) rfl rfl (by omega)⟩ dL_law_2147) ⟨zad (k := 9) rfl (by omega), zad (k := 75) rfl (by omega)⟩ hS (fun q z => Or.inr (by rw [← hH0]; exact z.elim (fun w => FC.ge hh.sep w) (fun w => by rw [w]; exact hoa))) (fun E ce q9 Hx1 locs hp hF hS1 hce hcv hcl => ?_) (fun r H2 locs hp hF hS1 => ?_)
  · exact hp.1.elim
  obtain ⟨⟨kk, rfl, σ1, n1, d1, s1, hpo, ho, hk1⟩, hmk⟩ := hp
  have hP : va_P G.1 zCl [] H2 := va_nil
  have hD : va_D (zA M0 H0) [] := va_nilD
  obtain ⟨ρ1, hh, e0, hdm, hm, hof, hdj⟩ := LI_cls hE hO0 hm hof hom hol hdj hdm hF hmk hpo
  have hP : va_P G.1 zCl ([]) H2 := hP
  have hD : va_D (zA M0 H0) ([]) := hD
  have hS := hS1
  refine lv_istore (lv' := [(5, .int (iI kk)), (4, .int (iI ((i : Nat) : Int))), (3, .ref oa), (2, .ref (μ (0, 0, 0))), (1, .ref (ρ (0, 0, 0))), (0, .ref b)]) hx hb dL_law_2150 hl (by decide) rfl (fun ls hl => ?_)
  refine lv_aload_n hx hb dL_law_2152 rfl (lv_at hl 3 rfl) ?_
  refine lv_aload_n hx hb dL_law_2153 rfl (lv_at hl 5 rfl) ?_
  refine lv_iload hx hb dL_law_2154 (lv_at hl 1 rfl) ?_
  refine lv_iconst (v := iI 1) hx hb dL_law_2156 rfl ?_
  refine z_add hx hb (z := ((i : Nat) : Int) + 1) dL_law_2157 rfl ?_
  refine z_sld hC hX hbl hS (k := i + 1) (by omega) (by omega) (by omega) dL_law_2158 ?_
  refine z_top (b := z1) e1 ?_
  refine lv_aload_n hx hb dL_law_2159 rfl (lv_at hl 5 rfl) ?_
  refine lv_iload hx hb dL_law_2160 (lv_at hl 1 rfl) ?_
  refine lv_iconst (v := iI 2) hx hb dL_law_2162 rfl ?_
  refine z_add hx hb (z := ((i : Nat) : Int) + 2) dL_law_2163 rfl ?_
  refine z_sld hC hX hbl hS (k := i + 2) (by omega) (by omega) (by omega) dL_law_2164 ?_
  refine z_top (b := z2) e2 ?_
  have hO1 : zO s H2 := hO.ext0 (zS_F hS)
  have hol1 := ho.lt
  refine z_go ((Cc + 9) + 3) ((Sc + 75) + 48) (z_runV (As := [.int (iI z1), .int (iI z2)]) (rest := []) hC hml hl.1 (z_mon (m_X3_apart hE H2 (hO.ext0 (zS_F hS)) μ σ th z1 z2 hm ⟨hz1, hz2⟩)) (lw_V q1902 q1903 q1904 q67 q1905) rfl nd_X3_apart rfl (z_rv hC (ci := 2) rfl hm.2.2.1.1 rfl) rfl (Nat.le_of_ble_eq_true rfl) ⟨Nat.le_of_ble_eq_true rfl, Nat.le_of_ble_eq_true rfl⟩ ⟨zfit (k := 3) (z := 601152) rfl rfl (by omega), zfit (k := 48) (z := 7254250) rfl rfl (by omega)⟩ dL_law_2165) ⟨zad (k := 3) rfl (by omega), zad (k := 48) rfl (by omega)⟩ hS (fun q z => Or.inr (by rw [← hH0]; exact FM.ge hm.sep z)) (fun r H3 locs hp hF hS1 => ?_)
  obtain ⟨⟨yb, rfl, k2, σ2, hpm, h2⟩, hmk⟩ := hp
  have hP : va_P G.1 zCl [] H3 := va_nil
  have hD : va_D (zA M0 H0) [] := va_nilD
  have ho := ho.ext hF hom
  obtain ⟨μ1, hm, em, hdm, hh, hom, hdj⟩ := LI_mdl hE hO1 hh hom hol1 hdj hdm hF hmk hpm
  have hP : va_P G.1 zCl ([]) H3 := hP
  have hD : va_D (zA M0 H0) ([]) := hD
  have hS := hS1
  have hag := z_agr (ex := [IOB, IAE]) (X := X_apart σ z1 z2) (B := R_apart σ z1 z2 yb σ2) (nd_2 (by decide)) (fun a E hX => by obtain ⟨y, hR, -⟩ := a; exact Rx_apart hR hX) (fun a E hX => Rx_apart a hX) (fun E E' a b => Xu_apart a b) hk1 h2
  obtain ⟨ek, hk3, hkk⟩ := hag
  have hk3 : k2 ≤ 3 := Nat.le_trans hk3 (by decide)
  subst ek
  refine lv_istore (lv' := [(6, .int (iI yb)), (5, .int (iI ((k2 : Nat) : Int))), (4, .int (iI ((i : Nat) : Int))), (3, .ref oa), (2, .ref (μ (0, 0, 0))), (1, .ref (ρ (0, 0, 0))), (0, .ref b)]) hx hb dL_law_2168 hl (by decide) rfl (fun ls hl => ?_)
  refine lv_aload_n hx hb dL_law_2170 rfl (lv_at hl 4 rfl) ?_
  rw [← em]
  refine z_go ((Cc + 9) + 3) ((Sc + 75) + 48) (z_runV (As := []) (rest := []) hC hml hl.1 (m_X3_thrown hE H3 (hO.ext0 (zS_F hS)) μ1 σ2 ((k2 : Nat) : Int) hm) (lw_V q1512 q1513 q1514 q67 q1515) rfl nd_X3_thrown rfl (z_rv hC (ci := 2) rfl hm.2.2.1.1 rfl) rfl (Nat.le_of_ble_eq_true rfl) ⟨Nat.le_of_ble_eq_true rfl, Nat.le_of_ble_eq_true rfl⟩ ⟨zfit (k := 0) (z := 601152) rfl rfl (by omega), zfit (k := 0) (z := 7254250) rfl rfl (by omega)⟩ dL_law_2171) ⟨zad (k := 0) rfl (by omega), zad (k := 0) rfl (by omega)⟩ hS (fun _ z => z.elim) (fun r H4 locs hp hF hS1 => ?_)
  obtain ⟨_, rfl, rfl⟩ := hp
  have hP : va_P G.1 zCl [] H4 := va_nil
  have hD : va_D (zA M0 H0) [] := va_nilD
  have hh := hh.ext0 hE hF
  have hm := hm.ext0 hE hF
  have hdm := hdm.ext0 hF
  have ho := ho.ext0 hF
  have hP : va_P G.1 zCl ([]) H4 := hP
  have hD : va_D (zA M0 H0) ([]) := hD
  have hS := hS1
  have hhF := hh
  have hmF := hm
  have hdmF := hdm
  have hoF := ho
  have hofF := hof
  have homF := hom
  have hdjF := hdj
  refine lv_iload hx hb dL_law_2174 (lv_at hl 1 rfl) ?_
  refine z_ceq (tgt := 2181) hx hb dL_law_2176 (by decide) (by omega) (fun c5 => ?_) (fun c5 => ?_)
  · refine lv_iload hx hb dL_law_2181 (lv_at hl 1 rfl) ?_
    refine z_zne (tgt := 2199) hx hb dL_law_2183 (by decide) (by omega) (fun c6 => ?_) (fun c6 => ?_)
    · obtain ⟨-, es1, es2⟩ := hkk.resolve_left (fun w => by have := w.1; omega)
      subst es1
      subst es2
      refine lv_goto (tgt := 2435) hx hb dL_law_2199 (by decide) ?_
      exact W.widen (by omega) (by omega) (IH _ _ _ ρ1 μ1 _ _ n1 d1 s1 hhF hmF e0 em hdmF hoF hofF homF hdjF hS (lv_sub hl [2, 3, 4, 5, 6] rfl))
    · obtain ⟨k0, hA, hB⟩ := hkk.resolve_right (fun w => by have := w.1; omega)
      obtain ⟨y1, hR1, en⟩ := hA
      obtain ⟨ey, es⟩ := Rd_apart hR1 hB
      subst es
      refine lv_aload_n hx hb dL_law_2186 rfl (lv_at hl 3 rfl) ?_
      refine z_getn hC (k := 0) rfl in_X4 hoF (by decide) q886 (fun _ h => h) rfl dL_law_2187 ?_
      refine lv_iload hx hb dL_law_2190 (lv_at hl 0 rfl) ?_
      refine lv_i2l hx hb dL_law_2192 rfl ?_
      refine z_lcq hx hb (by rw [en, ey]) dL_law_2193 ?_
      refine z_zeq (tgt := 2199) hx hb dL_law_2194 (by decide) (by omega) (fun c7 => ?_) (fun c7 => ?_)
      · refine lv_goto (tgt := 2435) hx hb dL_law_2199 (by decide) ?_
        exact W.widen (by omega) (by omega) (IH _ _ _ ρ1 μ1 _ _ n1 d1 s1 hhF hmF e0 em hdmF hoF hofF homF hdjF hS (lv_sub hl [2, 3, 4, 5, 6] rfl))
      · omega
  · omega

set_option maxHeartbeats 4000000 in
theorem lwc_30 {p : Program} {l : Launch} {e : Env} {s : State} {m : MethodId} {below : List Frame} {meth : Method} {c : Code} {G : zG} {H0 : Heap} {b L xa ma oa : Nat} {xs : Nat → Int32} {Q : State → Prop} {i Cc Sc : Nat} (hE : zE l s G) (hC : zC p l s G s m #[.ref b] c "VersorhallLaw" cL_law) (hml : c.maxLocals = 9) (hH0 : s.heap = H0) (hX : va_X b L xs s H0) (hbl : b < H0.size) (hL : L ≤ 256) (hnc : zNc s) (hoa : s.heap.size ≤ oa) (hi4 : i + 4 ≤ L) (hcc : Cc + 9000 ≤ 601152 ∧ Sc + 110000 ≤ 7254250) (IH : lwJ p l e s m below meth c G H0 b xa ma oa Q 2435 i (Cc + 9000) (Sc + 110000)) : lwJ p l e s m below meth c G H0 b xa ma oa Q 2202 i Cc Sc := by
  intro H locs ls ρ μ σ th n9 d9 s9 hh hm exa ema hdm ho hof hom hdj hS hl
  subst exa
  subst ema
  have hx := hC.x
  have hb := hC.b
  have hp9 := hh.ok.1
  have hO : zO s H0 := ⟨by rw [hH0]; exact Nat.le_refl _, fun _ _ => by rw [hH0]⟩
  have hP : va_P G.1 zCl [] H := va_nil
  have hD : va_D (zA M0 H0) [] := va_nilD
  obtain ⟨z1, e1⟩ : ∃ z : Int, (xs (i + 1)).toInt = z := ⟨_, rfl⟩
  have hz1 : zi z1 := by rw [← e1]; exact ⟨Int32.le_toInt _, Int32.toInt_lt _⟩
  obtain ⟨z2, e2⟩ : ∃ z : Int, (xs (i + 2)).toInt = z := ⟨_, rfl⟩
  have hz2 : zi z2 := by rw [← e2]; exact ⟨Int32.le_toInt _, Int32.toInt_lt _⟩
  refine lv_aload_n hx hb dL_law_2202 rfl (lv_at hl 3 rfl) ?_
  refine lv_aload_n hx hb dL_law_2203 rfl (lv_at hl 4 rfl) ?_
  refine lv_iload hx hb dL_law_2204 (lv_at hl 0 rfl) ?_
  refine lv_iconst (v := iI 1) hx hb dL_law_2206 rfl ?_
  refine z_add hx hb (z := ((i : Nat) : Int) + 1) dL_law_2207 rfl ?_
  refine z_sld hC hX hbl hS (k := i + 1) (by omega) (by omega) (by omega) dL_law_2208 ?_
  refine z_top (b := z1) e1 ?_
  refine lv_aload_n hx hb dL_law_2209 rfl (lv_at hl 4 rfl) ?_
  refine lv_iload hx hb dL_law_2210 (lv_at hl 0 rfl) ?_
  refine lv_iconst (v := iI 2) hx hb dL_law_2212 rfl ?_
  refine z_add hx hb (z := ((i : Nat) : Int) + 2) dL_law_2213 rfl ?_
  refine z_sld hC hX hbl hS (k := i + 2) (by omega) (by omega) (by omega) dL_law_2214 ?_
  refine z_top (b := z2) e2 ?_
  refine lv_aload_n hx hb dL_law_2215 rfl (lv_at hl 1 rfl) ?_
  have hO0 : zO s H := hO.ext0 (zS_F hS)
  have hol := ho.lt
  refine z_goX (Cc + 3) (Sc + 16) (z_runSw (As := [.ref (ρ (0, 0, 0)), .int (iI z1), .int (iI z2), .ref oa]) (rest := []) hC hml hl.1 (z_monW (m_X0_row hE H (hO.ext0 (zS_F hS)) ρ σ z1 z2 oa n9 d9 s9 hh hdm ho hoa hof hnc ⟨hz1, hz2⟩)) (lw_SW q1466 q1467 q61 q1468) nd_X0_row rfl rfl (Nat.le_of_ble_eq_true rfl) ⟨Nat.le_of_ble_eq_true rfl, Nat.le_of_ble_eq_true rfl⟩ ⟨zfit (k := 3) (z := 601152) rfl rfl (by omega), zfit (k := 16) (z := 7254250) rfl rfl (by omega)⟩ dL_law_2216) ⟨zad (k := 3) rfl (by omega), zad (k := 16) rfl (by omega)⟩ hS (fun q z => Or.inr (by rw [← hH0]; exact z.elim (fun w => FC.ge hh.sep w) (fun w => by rw [w]; exact hoa))) (fun E ce q9 Hx1 locs hp hF hS1 hce hcv hcl => ?_) (fun r H2 locs hp hF hS1 => ?_)
  · exact hp.1.elim
  obtain ⟨⟨kk, rfl, σ1, n1, d1, s1, hpo, ho, hk1⟩, hmk⟩ := hp
  have hP : va_P G.1 zCl [] H2 := va_nil
  have hD : va_D (zA M0 H0) [] := va_nilD
  obtain ⟨ρ1, hh, e0, hdm, hm, hof, hdj⟩ := LI_cls hE hO0 hm hof hom hol hdj hdm hF hmk hpo
  have hP : va_P G.1 zCl ([]) H2 := hP
  have hD : va_D (zA M0 H0) ([]) := hD
  have hS := hS1
  refine lv_istore (lv' := [(5, .int (iI kk)), (4, .int (iI ((i : Nat) : Int))), (3, .ref oa), (2, .ref (μ (0, 0, 0))), (1, .ref (ρ (0, 0, 0))), (0, .ref b)]) hx hb dL_law_2219 hl (by decide) rfl (fun ls hl => ?_)
  refine lv_aload_n hx hb dL_law_2221 rfl (lv_at hl 3 rfl) ?_
  refine lv_aload_n hx hb dL_law_2222 rfl (lv_at hl 5 rfl) ?_
  refine lv_iload hx hb dL_law_2223 (lv_at hl 1 rfl) ?_
  refine lv_iconst (v := iI 1) hx hb dL_law_2225 rfl ?_
  refine z_add hx hb (z := ((i : Nat) : Int) + 1) dL_law_2226 rfl ?_
  refine z_sld hC hX hbl hS (k := i + 1) (by omega) (by omega) (by omega) dL_law_2227 ?_
  refine z_top (b := z1) e1 ?_
  refine lv_aload_n hx hb dL_law_2228 rfl (lv_at hl 5 rfl) ?_
  refine lv_iload hx hb dL_law_2229 (lv_at hl 1 rfl) ?_
  refine lv_iconst (v := iI 2) hx hb dL_law_2231 rfl ?_
  refine z_add hx hb (z := ((i : Nat) : Int) + 2) dL_law_2232 rfl ?_
  refine z_sld hC hX hbl hS (k := i + 2) (by omega) (by omega) (by omega) dL_law_2233 ?_
  refine z_top (b := z2) e2 ?_
  have hO1 : zO s H2 := hO.ext0 (zS_F hS)
  have hol1 := ho.lt
  refine z_go (Cc + 3) (Sc + 16) (z_runV (As := [.int (iI z1), .int (iI z2)]) (rest := []) hC hml hl.1 (z_mon (m_X3_row_2 hE H2 (hO.ext0 (zS_F hS)) μ σ th z1 z2 hm ⟨hz1, hz2⟩)) (lw_V q1906 q1907 q1908 q67 q1909) rfl nd_X3_row_2 rfl (z_rv hC (ci := 2) rfl hm.2.2.1.1 rfl) rfl (Nat.le_of_ble_eq_true rfl) ⟨Nat.le_of_ble_eq_true rfl, Nat.le_of_ble_eq_true rfl⟩ ⟨zfit (k := 0) (z := 601152) rfl rfl (by omega), zfit (k := 0) (z := 7254250) rfl rfl (by omega)⟩ dL_law_2234) ⟨zad (k := 0) rfl (by omega), zad (k := 0) rfl (by omega)⟩ hS (fun q z => Or.inr (by rw [← hH0]; exact FM.ge hm.sep z)) (fun r H3 locs hp hF hS1 => ?_)
  obtain ⟨⟨yb, rfl, k2, σ2, hpm, h2⟩, hmk⟩ := hp
  have hP : va_P G.1 zCl [] H3 := va_nil
  have hD : va_D (zA M0 H0) [] := va_nilD
  have ho := ho.ext hF hom
  obtain ⟨μ1, hm, em, hdm, hh, hom, hdj⟩ := LI_mdl hE hO1 hh hom hol1 hdj hdm hF hmk hpm
  have hP : va_P G.1 zCl ([]) H3 := hP
  have hD : va_D (zA M0 H0) ([]) := hD
  have hS := hS1
  have hag := z_agr (ex := [IOB, IAE]) (X := X_row σ z1 z2) (B := R_row σ z1 z2 yb σ2) (nd_2 (by decide)) (fun a E hX => by obtain ⟨y, hR, -⟩ := a; exact Rx_row hR hX) (fun a E hX => Rx_row a hX) (fun E E' a b => Xu_row a b) hk1 h2
  obtain ⟨ek, hk3, hkk⟩ := hag
  have hk3 : k2 ≤ 3 := Nat.le_trans hk3 (by decide)
  subst ek
  refine lv_istore (lv' := [(6, .int (iI yb)), (5, .int (iI ((k2 : Nat) : Int))), (4, .int (iI ((i : Nat) : Int))), (3, .ref oa), (2, .ref (μ (0, 0, 0))), (1, .ref (ρ (0, 0, 0))), (0, .ref b)]) hx hb dL_law_2237 hl (by decide) rfl (fun ls hl => ?_)
  refine lv_aload_n hx hb dL_law_2239 rfl (lv_at hl 4 rfl) ?_
  rw [← em]
  refine z_go (Cc + 3) (Sc + 16) (z_runV (As := []) (rest := []) hC hml hl.1 (m_X3_thrown hE H3 (hO.ext0 (zS_F hS)) μ1 σ2 ((k2 : Nat) : Int) hm) (lw_V q1512 q1513 q1514 q67 q1515) rfl nd_X3_thrown rfl (z_rv hC (ci := 2) rfl hm.2.2.1.1 rfl) rfl (Nat.le_of_ble_eq_true rfl) ⟨Nat.le_of_ble_eq_true rfl, Nat.le_of_ble_eq_true rfl⟩ ⟨zfit (k := 0) (z := 601152) rfl rfl (by omega), zfit (k := 0) (z := 7254250) rfl rfl (by omega)⟩ dL_law_2240) ⟨zad (k := 0) rfl (by omega), zad (k := 0) rfl (by omega)⟩ hS (fun _ z => z.elim) (fun r H4 locs hp hF hS1 => ?_)
  obtain ⟨_, rfl, rfl⟩ := hp
  have hP : va_P G.1 zCl [] H4 := va_nil
  have hD : va_D (zA M0 H0) [] := va_nilD
  have hh := hh.ext0 hE hF
  have hm := hm.ext0 hE hF
  have hdm := hdm.ext0 hF
  have ho := ho.ext0 hF
  have hP : va_P G.1 zCl ([]) H4 := hP
  have hD : va_D (zA M0 H0) ([]) := hD
  have hS := hS1
  have hhF := hh
  have hmF := hm
  have hdmF := hdm
  have hoF := ho
  have hofF := hof
  have homF := hom
  have hdjF := hdj
  refine lv_iload hx hb dL_law_2243 (lv_at hl 1 rfl) ?_
  refine z_ceq (tgt := 2250) hx hb dL_law_2245 (by decide) (by omega) (fun c5 => ?_) (fun c5 => ?_)
  · refine lv_iload hx hb dL_law_2250 (lv_at hl 1 rfl) ?_
    refine z_zne (tgt := 2268) hx hb dL_law_2252 (by decide) (by omega) (fun c6 => ?_) (fun c6 => ?_)
    · obtain ⟨-, es1, es2⟩ := hkk.resolve_left (fun w => by have := w.1; omega)
      subst es1
      subst es2
      refine lv_goto (tgt := 2435) hx hb dL_law_2268 (by decide) ?_
      exact W.widen (by omega) (by omega) (IH _ _ _ ρ1 μ1 _ _ n1 d1 s1 hhF hmF e0 em hdmF hoF hofF homF hdjF hS (lv_sub hl [2, 3, 4, 5, 6] rfl))
    · obtain ⟨k0, hA, hB⟩ := hkk.resolve_right (fun w => by have := w.1; omega)
      obtain ⟨y1, hR1, en⟩ := hA
      obtain ⟨ey, es⟩ := Rd_row hR1 hB
      subst es
      refine lv_aload_n hx hb dL_law_2255 rfl (lv_at hl 3 rfl) ?_
      refine z_getn hC (k := 0) rfl in_X4 hoF (by decide) q886 (fun _ h => h) rfl dL_law_2256 ?_
      refine lv_iload hx hb dL_law_2259 (lv_at hl 0 rfl) ?_
      refine lv_i2l hx hb dL_law_2261 rfl ?_
      refine z_lcq hx hb (by rw [en, ey]) dL_law_2262 ?_
      refine z_zeq (tgt := 2268) hx hb dL_law_2263 (by decide) (by omega) (fun c7 => ?_) (fun c7 => ?_)
      · refine lv_goto (tgt := 2435) hx hb dL_law_2268 (by decide) ?_
        exact W.widen (by omega) (by omega) (IH _ _ _ ρ1 μ1 _ _ n1 d1 s1 hhF hmF e0 em hdmF hoF hofF homF hdjF hS (lv_sub hl [2, 3, 4, 5, 6] rfl))
      · omega
  · omega

set_option maxHeartbeats 4000000 in
theorem lwc_31 {p : Program} {l : Launch} {e : Env} {s : State} {m : MethodId} {below : List Frame} {meth : Method} {c : Code} {G : zG} {H0 : Heap} {b L xa ma oa : Nat} {xs : Nat → Int32} {Q : State → Prop} {i Cc Sc : Nat} (hE : zE l s G) (hC : zC p l s G s m #[.ref b] c "VersorhallLaw" cL_law) (hml : c.maxLocals = 9) (hH0 : s.heap = H0) (hX : va_X b L xs s H0) (hbl : b < H0.size) (hL : L ≤ 256) (hnc : zNc s) (hoa : s.heap.size ≤ oa) (hi4 : i + 4 ≤ L) (hcc : Cc + 9000 ≤ 601152 ∧ Sc + 110000 ≤ 7254250) (IH : lwJ p l e s m below meth c G H0 b xa ma oa Q 2435 i (Cc + 9000) (Sc + 110000)) : lwJ p l e s m below meth c G H0 b xa ma oa Q 2271 i Cc Sc := by
  intro H locs ls ρ μ σ th n9 d9 s9 hh hm exa ema hdm ho hof hom hdj hS hl
  subst exa
  subst ema
  have hx := hC.x
  have hb := hC.b
  have hp9 := hh.ok.1
  have hO : zO s H0 := ⟨by rw [hH0]; exact Nat.le_refl _, fun _ _ => by rw [hH0]⟩
  have hP : va_P G.1 zCl [] H := va_nil
  have hD : va_D (zA M0 H0) [] := va_nilD
  obtain ⟨z1, e1⟩ : ∃ z : Int, (xs (i + 1)).toInt = z := ⟨_, rfl⟩
  have hz1 : zi z1 := by rw [← e1]; exact ⟨Int32.le_toInt _, Int32.toInt_lt _⟩
  obtain ⟨z2, e2⟩ : ∃ z : Int, (xs (i + 2)).toInt = z := ⟨_, rfl⟩
  have hz2 : zi z2 := by rw [← e2]; exact ⟨Int32.le_toInt _, Int32.toInt_lt _⟩
  refine lv_aload_n hx hb dL_law_2271 rfl (lv_at hl 3 rfl) ?_
  refine lv_aload_n hx hb dL_law_2272 rfl (lv_at hl 4 rfl) ?_
  refine lv_iload hx hb dL_law_2273 (lv_at hl 0 rfl) ?_
  refine lv_iconst (v := iI 1) hx hb dL_law_2275 rfl ?_
  refine z_add hx hb (z := ((i : Nat) : Int) + 1) dL_law_2276 rfl ?_
  refine z_sld hC hX hbl hS (k := i + 1) (by omega) (by omega) (by omega) dL_law_2277 ?_
  refine z_top (b := z1) e1 ?_
  refine lv_aload_n hx hb dL_law_2278 rfl (lv_at hl 4 rfl) ?_
  refine lv_iload hx hb dL_law_2279 (lv_at hl 0 rfl) ?_
  refine lv_iconst (v := iI 2) hx hb dL_law_2281 rfl ?_
  refine z_add hx hb (z := ((i : Nat) : Int) + 2) dL_law_2282 rfl ?_
  refine z_sld hC hX hbl hS (k := i + 2) (by omega) (by omega) (by omega) dL_law_2283 ?_
  refine z_top (b := z2) e2 ?_
  refine lv_aload_n hx hb dL_law_2284 rfl (lv_at hl 1 rfl) ?_
  have hO0 : zO s H := hO.ext0 (zS_F hS)
  have hol := ho.lt
  refine z_goX (Cc + 2) (Sc + 12) (z_runSw (As := [.ref (ρ (0, 0, 0)), .int (iI z1), .int (iI z2), .ref oa]) (rest := []) hC hml hl.1 (z_monW (m_X0_match hE H (hO.ext0 (zS_F hS)) ρ σ z1 z2 oa n9 d9 s9 hh hdm ho hoa hof hnc ⟨hz1, hz2⟩)) (lw_SW q1473 q1474 q61 q1475) nd_X0_match rfl rfl (Nat.le_of_ble_eq_true rfl) ⟨Nat.le_of_ble_eq_true rfl, Nat.le_of_ble_eq_true rfl⟩ ⟨zfit (k := 2) (z := 601152) rfl rfl (by omega), zfit (k := 12) (z := 7254250) rfl rfl (by omega)⟩ dL_law_2285) ⟨zad (k := 2) rfl (by omega), zad (k := 12) rfl (by omega)⟩ hS (fun q z => Or.inr (by rw [← hH0]; exact z.elim (fun w => FC.ge hh.sep w) (fun w => by rw [w]; exact hoa))) (fun E ce q9 Hx1 locs hp hF hS1 hce hcv hcl => ?_) (fun r H2 locs hp hF hS1 => ?_)
  · exact hp.1.elim
  obtain ⟨⟨kk, rfl, σ1, n1, d1, s1, hpo, ho, hk1⟩, hmk⟩ := hp
  have hP : va_P G.1 zCl [] H2 := va_nil
  have hD : va_D (zA M0 H0) [] := va_nilD
  obtain ⟨ρ1, hh, e0, hdm, hm, hof, hdj⟩ := LI_cls hE hO0 hm hof hom hol hdj hdm hF hmk hpo
  have hP : va_P G.1 zCl ([]) H2 := hP
  have hD : va_D (zA M0 H0) ([]) := hD
  have hS := hS1
  refine lv_istore (lv' := [(5, .int (iI kk)), (4, .int (iI ((i : Nat) : Int))), (3, .ref oa), (2, .ref (μ (0, 0, 0))), (1, .ref (ρ (0, 0, 0))), (0, .ref b)]) hx hb dL_law_2288 hl (by decide) rfl (fun ls hl => ?_)
  refine lv_aload_n hx hb dL_law_2290 rfl (lv_at hl 3 rfl) ?_
  refine lv_aload_n hx hb dL_law_2291 rfl (lv_at hl 5 rfl) ?_
  refine lv_iload hx hb dL_law_2292 (lv_at hl 1 rfl) ?_
  refine lv_iconst (v := iI 1) hx hb dL_law_2294 rfl ?_
  refine z_add hx hb (z := ((i : Nat) : Int) + 1) dL_law_2295 rfl ?_
  refine z_sld hC hX hbl hS (k := i + 1) (by omega) (by omega) (by omega) dL_law_2296 ?_
  refine z_top (b := z1) e1 ?_
  refine lv_aload_n hx hb dL_law_2297 rfl (lv_at hl 5 rfl) ?_
  refine lv_iload hx hb dL_law_2298 (lv_at hl 1 rfl) ?_
  refine lv_iconst (v := iI 2) hx hb dL_law_2300 rfl ?_
  refine z_add hx hb (z := ((i : Nat) : Int) + 2) dL_law_2301 rfl ?_
  refine z_sld hC hX hbl hS (k := i + 2) (by omega) (by omega) (by omega) dL_law_2302 ?_
  refine z_top (b := z2) e2 ?_
  have hO1 : zO s H2 := hO.ext0 (zS_F hS)
  have hol1 := ho.lt
  refine z_go (Cc + 2) (Sc + 12) (z_runV (As := [.int (iI z1), .int (iI z2)]) (rest := []) hC hml hl.1 (z_mon (m_X3_match hE H2 (hO.ext0 (zS_F hS)) μ σ th z1 z2 hm ⟨hz1, hz2⟩)) (lw_V q1918 q1919 q1920 q67 q1921) rfl nd_X3_match rfl (z_rv hC (ci := 2) rfl hm.2.2.1.1 rfl) rfl (Nat.le_of_ble_eq_true rfl) ⟨Nat.le_of_ble_eq_true rfl, Nat.le_of_ble_eq_true rfl⟩ ⟨zfit (k := 0) (z := 601152) rfl rfl (by omega), zfit (k := 0) (z := 7254250) rfl rfl (by omega)⟩ dL_law_2303) ⟨zad (k := 0) rfl (by omega), zad (k := 0) rfl (by omega)⟩ hS (fun q z => Or.inr (by rw [← hH0]; exact FM.ge hm.sep z)) (fun r H3 locs hp hF hS1 => ?_)
  obtain ⟨⟨yb, rfl, k2, σ2, hpm, h2⟩, hmk⟩ := hp
  have hP : va_P G.1 zCl [] H3 := va_nil
  have hD : va_D (zA M0 H0) [] := va_nilD
  have ho := ho.ext hF hom
  obtain ⟨μ1, hm, em, hdm, hh, hom, hdj⟩ := LI_mdl hE hO1 hh hom hol1 hdj hdm hF hmk hpm
  have hP : va_P G.1 zCl ([]) H3 := hP
  have hD : va_D (zA M0 H0) ([]) := hD
  have hS := hS1
  have hag := z_agr (ex := [IOB]) (X := X_match σ z1 z2) (B := R_match σ z1 z2 yb σ2) nd_1 (fun a E hX => by obtain ⟨y, hR, -⟩ := a; exact Rx_match hR hX) (fun a E hX => Rx_match a hX) (fun E E' a b => Xu_match a b) hk1 h2
  obtain ⟨ek, hk3, hkk⟩ := hag
  have hk3 : k2 ≤ 3 := Nat.le_trans hk3 (by decide)
  subst ek
  refine lv_istore (lv' := [(6, .int (iI yb)), (5, .int (iI ((k2 : Nat) : Int))), (4, .int (iI ((i : Nat) : Int))), (3, .ref oa), (2, .ref (μ (0, 0, 0))), (1, .ref (ρ (0, 0, 0))), (0, .ref b)]) hx hb dL_law_2306 hl (by decide) rfl (fun ls hl => ?_)
  refine lv_aload_n hx hb dL_law_2308 rfl (lv_at hl 4 rfl) ?_
  rw [← em]
  refine z_go (Cc + 2) (Sc + 12) (z_runV (As := []) (rest := []) hC hml hl.1 (m_X3_thrown hE H3 (hO.ext0 (zS_F hS)) μ1 σ2 ((k2 : Nat) : Int) hm) (lw_V q1512 q1513 q1514 q67 q1515) rfl nd_X3_thrown rfl (z_rv hC (ci := 2) rfl hm.2.2.1.1 rfl) rfl (Nat.le_of_ble_eq_true rfl) ⟨Nat.le_of_ble_eq_true rfl, Nat.le_of_ble_eq_true rfl⟩ ⟨zfit (k := 0) (z := 601152) rfl rfl (by omega), zfit (k := 0) (z := 7254250) rfl rfl (by omega)⟩ dL_law_2309) ⟨zad (k := 0) rfl (by omega), zad (k := 0) rfl (by omega)⟩ hS (fun _ z => z.elim) (fun r H4 locs hp hF hS1 => ?_)
  obtain ⟨_, rfl, rfl⟩ := hp
  have hP : va_P G.1 zCl [] H4 := va_nil
  have hD : va_D (zA M0 H0) [] := va_nilD
  have hh := hh.ext0 hE hF
  have hm := hm.ext0 hE hF
  have hdm := hdm.ext0 hF
  have ho := ho.ext0 hF
  have hP : va_P G.1 zCl ([]) H4 := hP
  have hD : va_D (zA M0 H0) ([]) := hD
  have hS := hS1
  have hhF := hh
  have hmF := hm
  have hdmF := hdm
  have hoF := ho
  have hofF := hof
  have homF := hom
  have hdjF := hdj
  refine lv_iload hx hb dL_law_2312 (lv_at hl 1 rfl) ?_
  refine z_ceq (tgt := 2319) hx hb dL_law_2314 (by decide) (by omega) (fun c5 => ?_) (fun c5 => ?_)
  · refine lv_iload hx hb dL_law_2319 (lv_at hl 1 rfl) ?_
    refine z_zne (tgt := 2337) hx hb dL_law_2321 (by decide) (by omega) (fun c6 => ?_) (fun c6 => ?_)
    · obtain ⟨-, es1, es2⟩ := hkk.resolve_left (fun w => by have := w.1; omega)
      subst es1
      subst es2
      refine lv_goto (tgt := 2435) hx hb dL_law_2337 (by decide) ?_
      exact W.widen (by omega) (by omega) (IH _ _ _ ρ1 μ1 _ _ n1 d1 s1 hhF hmF e0 em hdmF hoF hofF homF hdjF hS (lv_sub hl [2, 3, 4, 5, 6] rfl))
    · obtain ⟨k0, hA, hB⟩ := hkk.resolve_right (fun w => by have := w.1; omega)
      obtain ⟨y1, hR1, en⟩ := hA
      obtain ⟨ey, es⟩ := Rd_match hR1 hB
      subst es
      refine lv_aload_n hx hb dL_law_2324 rfl (lv_at hl 3 rfl) ?_
      refine z_getn hC (k := 0) rfl in_X4 hoF (by decide) q886 (fun _ h => h) rfl dL_law_2325 ?_
      refine lv_iload hx hb dL_law_2328 (lv_at hl 0 rfl) ?_
      refine lv_i2l hx hb dL_law_2330 rfl ?_
      refine z_lcq hx hb (by rw [en, ey]) dL_law_2331 ?_
      refine z_zeq (tgt := 2337) hx hb dL_law_2332 (by decide) (by omega) (fun c7 => ?_) (fun c7 => ?_)
      · refine lv_goto (tgt := 2435) hx hb dL_law_2337 (by decide) ?_
        exact W.widen (by omega) (by omega) (IH _ _ _ ρ1 μ1 _ _ n1 d1 s1 hhF hmF e0 em hdmF hoF hofF homF hdjF hS (lv_sub hl [2, 3, 4, 5, 6] rfl))
      · omega
  · omega

set_option maxHeartbeats 4000000 in
theorem lwc_32 {p : Program} {l : Launch} {e : Env} {s : State} {m : MethodId} {below : List Frame} {meth : Method} {c : Code} {G : zG} {H0 : Heap} {b L xa ma oa : Nat} {xs : Nat → Int32} {Q : State → Prop} {i Cc Sc : Nat} (hE : zE l s G) (hC : zC p l s G s m #[.ref b] c "VersorhallLaw" cL_law) (hml : c.maxLocals = 9) (hH0 : s.heap = H0) (hX : va_X b L xs s H0) (hbl : b < H0.size) (hL : L ≤ 256) (hnc : zNc s) (hoa : s.heap.size ≤ oa) (hi4 : i + 4 ≤ L) (hcc : Cc + 9000 ≤ 601152 ∧ Sc + 110000 ≤ 7254250) (IH : lwJ p l e s m below meth c G H0 b xa ma oa Q 2435 i (Cc + 9000) (Sc + 110000)) : lwJ p l e s m below meth c G H0 b xa ma oa Q 2340 i Cc Sc := by
  intro H locs ls ρ μ σ th n9 d9 s9 hh hm exa ema hdm ho hof hom hdj hS hl
  subst exa
  subst ema
  have hx := hC.x
  have hb := hC.b
  have hp9 := hh.ok.1
  have hO : zO s H0 := ⟨by rw [hH0]; exact Nat.le_refl _, fun _ _ => by rw [hH0]⟩
  have hP : va_P G.1 zCl [] H := va_nil
  have hD : va_D (zA M0 H0) [] := va_nilD
  obtain ⟨z1, e1⟩ : ∃ z : Int, (xs (i + 1)).toInt = z := ⟨_, rfl⟩
  have hz1 : zi z1 := by rw [← e1]; exact ⟨Int32.le_toInt _, Int32.toInt_lt _⟩
  obtain ⟨z2, e2⟩ : ∃ z : Int, (xs (i + 2)).toInt = z := ⟨_, rfl⟩
  have hz2 : zi z2 := by rw [← e2]; exact ⟨Int32.le_toInt _, Int32.toInt_lt _⟩
  obtain ⟨z3, e3⟩ : ∃ z : Int, (xs (i + 3)).toInt = z := ⟨_, rfl⟩
  have hz3 : zi z3 := by rw [← e3]; exact ⟨Int32.le_toInt _, Int32.toInt_lt _⟩
  refine lv_aload_n hx hb dL_law_2340 rfl (lv_at hl 3 rfl) ?_
  refine lv_aload_n hx hb dL_law_2341 rfl (lv_at hl 4 rfl) ?_
  refine lv_iload hx hb dL_law_2342 (lv_at hl 0 rfl) ?_
  refine lv_iconst (v := iI 1) hx hb dL_law_2344 rfl ?_
  refine z_add hx hb (z := ((i : Nat) : Int) + 1) dL_law_2345 rfl ?_
  refine z_sld hC hX hbl hS (k := i + 1) (by omega) (by omega) (by omega) dL_law_2346 ?_
  refine z_top (b := z1) e1 ?_
  refine lv_aload_n hx hb dL_law_2347 rfl (lv_at hl 4 rfl) ?_
  refine lv_iload hx hb dL_law_2348 (lv_at hl 0 rfl) ?_
  refine lv_iconst (v := iI 2) hx hb dL_law_2350 rfl ?_
  refine z_add hx hb (z := ((i : Nat) : Int) + 2) dL_law_2351 rfl ?_
  refine z_sld hC hX hbl hS (k := i + 2) (by omega) (by omega) (by omega) dL_law_2352 ?_
  refine z_top (b := z2) e2 ?_
  refine lv_aload_n hx hb dL_law_2353 rfl (lv_at hl 4 rfl) ?_
  refine lv_iload hx hb dL_law_2354 (lv_at hl 0 rfl) ?_
  refine lv_iconst (v := iI 3) hx hb dL_law_2356 rfl ?_
  refine z_add hx hb (z := ((i : Nat) : Int) + 3) dL_law_2357 rfl ?_
  refine z_sld hC hX hbl hS (k := i + 3) (by omega) (by omega) (by omega) dL_law_2358 ?_
  refine z_top (b := z3) e3 ?_
  refine lv_aload_n hx hb dL_law_2359 rfl (lv_at hl 1 rfl) ?_
  have hO0 : zO s H := hO.ext0 (zS_F hS)
  have hol := ho.lt
  refine z_goX (Cc + 2) (Sc + 12) (z_runSw (As := [.ref (ρ (0, 0, 0)), .int (iI z1), .int (iI z2), .int (iI z3), .ref oa]) (rest := []) hC hml hl.1 (z_monW (m_X0_scaleOf hE H (hO.ext0 (zS_F hS)) ρ σ z1 z2 z3 oa n9 d9 s9 hh hdm ho hoa hof hnc ⟨hz1, hz2, hz3⟩)) (lw_SW q1480 q1481 q61 q1482) nd_X0_scaleOf rfl rfl (Nat.le_of_ble_eq_true rfl) ⟨Nat.le_of_ble_eq_true rfl, Nat.le_of_ble_eq_true rfl⟩ ⟨zfit (k := 2) (z := 601152) rfl rfl (by omega), zfit (k := 12) (z := 7254250) rfl rfl (by omega)⟩ dL_law_2360) ⟨zad (k := 2) rfl (by omega), zad (k := 12) rfl (by omega)⟩ hS (fun q z => Or.inr (by rw [← hH0]; exact z.elim (fun w => FC.ge hh.sep w) (fun w => by rw [w]; exact hoa))) (fun E ce q9 Hx1 locs hp hF hS1 hce hcv hcl => ?_) (fun r H2 locs hp hF hS1 => ?_)
  · exact hp.1.elim
  obtain ⟨⟨kk, rfl, σ1, n1, d1, s1, hpo, ho, hk1⟩, hmk⟩ := hp
  have hP : va_P G.1 zCl [] H2 := va_nil
  have hD : va_D (zA M0 H0) [] := va_nilD
  obtain ⟨ρ1, hh, e0, hdm, hm, hof, hdj⟩ := LI_cls hE hO0 hm hof hom hol hdj hdm hF hmk hpo
  have hP : va_P G.1 zCl ([]) H2 := hP
  have hD : va_D (zA M0 H0) ([]) := hD
  have hS := hS1
  refine lv_istore (lv' := [(5, .int (iI kk)), (4, .int (iI ((i : Nat) : Int))), (3, .ref oa), (2, .ref (μ (0, 0, 0))), (1, .ref (ρ (0, 0, 0))), (0, .ref b)]) hx hb dL_law_2363 hl (by decide) rfl (fun ls hl => ?_)
  refine lv_aload_n hx hb dL_law_2365 rfl (lv_at hl 3 rfl) ?_
  refine lv_aload_n hx hb dL_law_2366 rfl (lv_at hl 5 rfl) ?_
  refine lv_iload hx hb dL_law_2367 (lv_at hl 1 rfl) ?_
  refine lv_iconst (v := iI 1) hx hb dL_law_2369 rfl ?_
  refine z_add hx hb (z := ((i : Nat) : Int) + 1) dL_law_2370 rfl ?_
  refine z_sld hC hX hbl hS (k := i + 1) (by omega) (by omega) (by omega) dL_law_2371 ?_
  refine z_top (b := z1) e1 ?_
  refine lv_aload_n hx hb dL_law_2372 rfl (lv_at hl 5 rfl) ?_
  refine lv_iload hx hb dL_law_2373 (lv_at hl 1 rfl) ?_
  refine lv_iconst (v := iI 2) hx hb dL_law_2375 rfl ?_
  refine z_add hx hb (z := ((i : Nat) : Int) + 2) dL_law_2376 rfl ?_
  refine z_sld hC hX hbl hS (k := i + 2) (by omega) (by omega) (by omega) dL_law_2377 ?_
  refine z_top (b := z2) e2 ?_
  refine lv_aload_n hx hb dL_law_2378 rfl (lv_at hl 5 rfl) ?_
  refine lv_iload hx hb dL_law_2379 (lv_at hl 1 rfl) ?_
  refine lv_iconst (v := iI 3) hx hb dL_law_2381 rfl ?_
  refine z_add hx hb (z := ((i : Nat) : Int) + 3) dL_law_2382 rfl ?_
  refine z_sld hC hX hbl hS (k := i + 3) (by omega) (by omega) (by omega) dL_law_2383 ?_
  refine z_top (b := z3) e3 ?_
  have hO1 : zO s H2 := hO.ext0 (zS_F hS)
  have hol1 := ho.lt
  refine z_go (Cc + 2) (Sc + 12) (z_runV (As := [.int (iI z1), .int (iI z2), .int (iI z3)]) (rest := []) hC hml hl.1 (z_mon (m_X3_scaleOf hE H2 (hO.ext0 (zS_F hS)) μ σ th z1 z2 z3 hm ⟨hz1, hz2, hz3⟩)) (lw_V q1934 q1935 q1936 q67 q1937) rfl nd_X3_scaleOf rfl (z_rv hC (ci := 2) rfl hm.2.2.1.1 rfl) rfl (Nat.le_of_ble_eq_true rfl) ⟨Nat.le_of_ble_eq_true rfl, Nat.le_of_ble_eq_true rfl⟩ ⟨zfit (k := 0) (z := 601152) rfl rfl (by omega), zfit (k := 0) (z := 7254250) rfl rfl (by omega)⟩ dL_law_2384) ⟨zad (k := 0) rfl (by omega), zad (k := 0) rfl (by omega)⟩ hS (fun q z => Or.inr (by rw [← hH0]; exact FM.ge hm.sep z)) (fun r H3 locs hp hF hS1 => ?_)
  obtain ⟨⟨yb, rfl, k2, σ2, hpm, h2⟩, hmk⟩ := hp
  have hP : va_P G.1 zCl [] H3 := va_nil
  have hD : va_D (zA M0 H0) [] := va_nilD
  have ho := ho.ext hF hom
  obtain ⟨μ1, hm, em, hdm, hh, hom, hdj⟩ := LI_mdl hE hO1 hh hom hol1 hdj hdm hF hmk hpm
  have hP : va_P G.1 zCl ([]) H3 := hP
  have hD : va_D (zA M0 H0) ([]) := hD
  have hS := hS1
  have hag := z_agr (ex := [IOB]) (X := X_scaleOf σ z1 z2 z3) (B := R_scaleOf σ z1 z2 z3 yb σ2) nd_1 (fun a E hX => by obtain ⟨y, hR, -⟩ := a; exact Rx_scaleOf hR hX) (fun a E hX => Rx_scaleOf a hX) (fun E E' a b => Xu_scaleOf a b) hk1 h2
  obtain ⟨ek, hk3, hkk⟩ := hag
  have hk3 : k2 ≤ 3 := Nat.le_trans hk3 (by decide)
  subst ek
  refine lv_istore (lv' := [(6, .int (iI yb)), (5, .int (iI ((k2 : Nat) : Int))), (4, .int (iI ((i : Nat) : Int))), (3, .ref oa), (2, .ref (μ (0, 0, 0))), (1, .ref (ρ (0, 0, 0))), (0, .ref b)]) hx hb dL_law_2387 hl (by decide) rfl (fun ls hl => ?_)
  refine lv_aload_n hx hb dL_law_2389 rfl (lv_at hl 4 rfl) ?_
  rw [← em]
  refine z_go (Cc + 2) (Sc + 12) (z_runV (As := []) (rest := []) hC hml hl.1 (m_X3_thrown hE H3 (hO.ext0 (zS_F hS)) μ1 σ2 ((k2 : Nat) : Int) hm) (lw_V q1512 q1513 q1514 q67 q1515) rfl nd_X3_thrown rfl (z_rv hC (ci := 2) rfl hm.2.2.1.1 rfl) rfl (Nat.le_of_ble_eq_true rfl) ⟨Nat.le_of_ble_eq_true rfl, Nat.le_of_ble_eq_true rfl⟩ ⟨zfit (k := 0) (z := 601152) rfl rfl (by omega), zfit (k := 0) (z := 7254250) rfl rfl (by omega)⟩ dL_law_2390) ⟨zad (k := 0) rfl (by omega), zad (k := 0) rfl (by omega)⟩ hS (fun _ z => z.elim) (fun r H4 locs hp hF hS1 => ?_)
  obtain ⟨_, rfl, rfl⟩ := hp
  have hP : va_P G.1 zCl [] H4 := va_nil
  have hD : va_D (zA M0 H0) [] := va_nilD
  have hh := hh.ext0 hE hF
  have hm := hm.ext0 hE hF
  have hdm := hdm.ext0 hF
  have ho := ho.ext0 hF
  have hP : va_P G.1 zCl ([]) H4 := hP
  have hD : va_D (zA M0 H0) ([]) := hD
  have hS := hS1
  have hhF := hh
  have hmF := hm
  have hdmF := hdm
  have hoF := ho
  have hofF := hof
  have homF := hom
  have hdjF := hdj
  refine lv_iload hx hb dL_law_2393 (lv_at hl 1 rfl) ?_
  refine z_ceq (tgt := 2400) hx hb dL_law_2395 (by decide) (by omega) (fun c5 => ?_) (fun c5 => ?_)
  · refine lv_iload hx hb dL_law_2400 (lv_at hl 1 rfl) ?_
    refine z_zne (tgt := 2418) hx hb dL_law_2402 (by decide) (by omega) (fun c6 => ?_) (fun c6 => ?_)
    · obtain ⟨-, es1, es2⟩ := hkk.resolve_left (fun w => by have := w.1; omega)
      subst es1
      subst es2
      refine lv_goto (tgt := 2435) hx hb dL_law_2418 (by decide) ?_
      exact W.widen (by omega) (by omega) (IH _ _ _ ρ1 μ1 _ _ n1 d1 s1 hhF hmF e0 em hdmF hoF hofF homF hdjF hS (lv_sub hl [2, 3, 4, 5, 6] rfl))
    · obtain ⟨k0, hA, hB⟩ := hkk.resolve_right (fun w => by have := w.1; omega)
      obtain ⟨y1, hR1, en⟩ := hA
      obtain ⟨ey, es⟩ := Rd_scaleOf hR1 hB
      subst es
      refine lv_aload_n hx hb dL_law_2405 rfl (lv_at hl 3 rfl) ?_
      refine z_getn hC (k := 0) rfl in_X4 hoF (by decide) q886 (fun _ h => h) rfl dL_law_2406 ?_
      refine lv_iload hx hb dL_law_2409 (lv_at hl 0 rfl) ?_
      refine lv_i2l hx hb dL_law_2411 rfl ?_
      refine z_lcq hx hb (by rw [en, ey]) dL_law_2412 ?_
      refine z_zeq (tgt := 2418) hx hb dL_law_2413 (by decide) (by omega) (fun c7 => ?_) (fun c7 => ?_)
      · refine lv_goto (tgt := 2435) hx hb dL_law_2418 (by decide) ?_
        exact W.widen (by omega) (by omega) (IH _ _ _ ρ1 μ1 _ _ n1 d1 s1 hhF hmF e0 em hdmF hoF hofF homF hdjF hS (lv_sub hl [2, 3, 4, 5, 6] rfl))
      · omega
  · omega

