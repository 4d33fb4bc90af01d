/-! THE LAW: its cases -/
set_option maxRecDepth 100000
/-- what holds at a place of the law's round -/
abbrev lwJ (p : Program) (l : Launch) (e : Env) (s : State) (m : MethodId) (below : List Frame) (meth : Method) (c : Code) (G : zG) (H0 : Heap) (b xa ma oa : Nat) (Q : State → Prop) (pc i cells slots : Nat) : Prop :=
  ∀ (H : Heap) (locs : List Loc) (ls : Array Slot) (ρ μ : Ro → Nat) (σ : St) (th : Int) (n9 : Int64) (d9 : UInt64) (s9 : Value), HC G s ρ σ H → HM G s μ σ th H → ρ (0, 0, 0) = xa → μ (0, 0, 0) = ma → zMn (ρ (5, 0, 0)) {} H → zAt G oa (zOb 3 [(.long n9), (.double d9), s9]) H → ¬ FC G ρ σ oa → ¬ FM G μ σ oa → (∀ z, FC G ρ σ z → ¬ FM G μ σ z) → va_S (zA M0 H0) H0 H locs → lv_has ls 9 [(4, .int (iI ((i : Nat) : Int))), (3, .ref oa), (2, .ref ma), (1, .ref xa), (0, .ref b)] → W p l e room_1 s m #[.ref b] below meth c H locs cells slots Q (F0 m pc ls [])
set_option maxHeartbeats 4000000 in
theorem lwc_0 {p : Program} {l : Launch} {e : Env} {s : State} {m : MethodId} {below : List Frame} {meth : Method} {c : Code} {G : zG} {H0 : Heap} {b L xa ma oa : Nat} {xs : Nat → Int32} {Q : State → Prop} {i Cc Sc : Nat} (hE : zE l s G) (hC : zC p l s G s m #[.ref b] c "VersorhallLaw" cL_law) (hml : c.maxLocals = 9) (hH0 : s.heap = H0) (hX : va_X b L xs s H0) (hbl : b < H0.size) (hL : L ≤ 256) (hnc : zNc s) (hoa : s.heap.size ≤ oa) (hi4 : i + 4 ≤ L) (hcc : Cc + 9000 ≤ 601152 ∧ Sc + 110000 ≤ 7254250) (IH : lwJ p l e s m below meth c G H0 b xa ma oa Q 2435 i (Cc + 9000) (Sc + 110000)) : lwJ p l e s m below meth c G H0 b xa ma oa Q 192 i Cc Sc := by
  intro H locs ls ρ μ σ th n9 d9 s9 hh hm exa ema hdm ho hof hom hdj hS hl
  subst exa
  subst ema
  have hx := hC.x
  have hb := hC.b
  have hp9 := hh.ok.1
  have hO : zO s H0 := ⟨by rw [hH0]; exact Nat.le_refl _, fun _ _ => by rw [hH0]⟩
  have hP : va_P G.1 zCl [] H := va_nil
  have hD : va_D (zA M0 H0) [] := va_nilD
  obtain ⟨z1, e1⟩ : ∃ z : Int, (xs (i + 1)).toInt = z := ⟨_, rfl⟩
  have hz1 : zi z1 := by rw [← e1]; exact ⟨Int32.le_toInt _, Int32.toInt_lt _⟩
  refine lv_aload_n hx hb dL_law_192 rfl (lv_at hl 3 rfl) ?_
  refine lv_aload_n hx hb dL_law_193 rfl (lv_at hl 4 rfl) ?_
  refine lv_iload hx hb dL_law_194 (lv_at hl 0 rfl) ?_
  refine lv_iconst (v := iI 1) hx hb dL_law_196 rfl ?_
  refine z_add hx hb (z := ((i : Nat) : Int) + 1) dL_law_197 rfl ?_
  refine z_sld hC hX hbl hS (k := i + 1) (by omega) (by omega) (by omega) dL_law_198 ?_
  refine z_top (b := z1) e1 ?_
  refine lv_aload_n hx hb dL_law_199 rfl (lv_at hl 1 rfl) ?_
  have hO0 : zO s H := hO.ext0 (zS_F hS)
  have hol := ho.lt
  refine z_goX (Cc + 2) (Sc + 12) (z_runSw (As := [.ref (ρ (0, 0, 0)), .int (iI z1), .ref oa]) (rest := []) hC hml hl.1 (z_monW (m_X0_prime hE H (hO.ext0 (zS_F hS)) ρ σ z1 oa n9 d9 s9 hh hdm ho hoa hof hnc hz1)) (lw_SW q896 q897 q61 q898) nd_X0_prime rfl rfl (Nat.le_of_ble_eq_true rfl) ⟨Nat.le_of_ble_eq_true rfl, Nat.le_of_ble_eq_true rfl⟩ ⟨zfit (k := 2) (z := 601152) rfl rfl (by omega), zfit (k := 12) (z := 7254250) rfl rfl (by omega)⟩ dL_law_200) ⟨zad (k := 2) rfl (by omega), zad (k := 12) rfl (by omega)⟩ hS (fun q z => Or.inr (by rw [← hH0]; exact z.elim (fun w => FC.ge hh.sep w) (fun w => by rw [w]; exact hoa))) (fun E ce q9 Hx1 locs hp hF hS1 hce hcv hcl => ?_) (fun r H2 locs hp hF hS1 => ?_)
  · exact hp.1.elim
  obtain ⟨⟨kk, rfl, σ1, n1, d1, s1, hpo, ho, hk1⟩, hmk⟩ := hp
  have hP : va_P G.1 zCl [] H2 := va_nil
  have hD : va_D (zA M0 H0) [] := va_nilD
  obtain ⟨ρ1, hh, e0, hdm, hm, hof, hdj⟩ := LI_cls hE hO0 hm hof hom hol hdj hdm hF hmk hpo
  have hP : va_P G.1 zCl ([]) H2 := hP
  have hD : va_D (zA M0 H0) ([]) := hD
  have hS := hS1
  refine lv_istore (lv' := [(5, .int (iI kk)), (4, .int (iI ((i : Nat) : Int))), (3, .ref oa), (2, .ref (μ (0, 0, 0))), (1, .ref (ρ (0, 0, 0))), (0, .ref b)]) hx hb dL_law_203 hl (by decide) rfl (fun ls hl => ?_)
  refine lv_aload_n hx hb dL_law_205 rfl (lv_at hl 3 rfl) ?_
  refine lv_aload_n hx hb dL_law_206 rfl (lv_at hl 5 rfl) ?_
  refine lv_iload hx hb dL_law_207 (lv_at hl 1 rfl) ?_
  refine lv_iconst (v := iI 1) hx hb dL_law_209 rfl ?_
  refine z_add hx hb (z := ((i : Nat) : Int) + 1) dL_law_210 rfl ?_
  refine z_sld hC hX hbl hS (k := i + 1) (by omega) (by omega) (by omega) dL_law_211 ?_
  refine z_top (b := z1) e1 ?_
  have hO1 : zO s H2 := hO.ext0 (zS_F hS)
  have hol1 := ho.lt
  refine z_go (Cc + 2) (Sc + 12) (z_runV (As := [.int (iI z1)]) (rest := []) hC hml hl.1 (z_mon (m_X3_prime hE H2 (hO.ext0 (zS_F hS)) μ σ th z1 hm hz1)) (lw_V q1516 q1517 q1518 q67 q1519) rfl nd_X3_prime rfl (z_rv hC (ci := 2) rfl hm.2.2.1.1 rfl) rfl (Nat.le_of_ble_eq_true rfl) ⟨Nat.le_of_ble_eq_true rfl, Nat.le_of_ble_eq_true rfl⟩ ⟨zfit (k := 0) (z := 601152) rfl rfl (by omega), zfit (k := 0) (z := 7254250) rfl rfl (by omega)⟩ dL_law_212) ⟨zad (k := 0) rfl (by omega), zad (k := 0) rfl (by omega)⟩ hS (fun q z => Or.inr (by rw [← hH0]; exact FM.ge hm.sep z)) (fun r H3 locs hp hF hS1 => ?_)
  obtain ⟨⟨yb, rfl, k2, σ2, hpm, h2⟩, hmk⟩ := hp
  have hP : va_P G.1 zCl [] H3 := va_nil
  have hD : va_D (zA M0 H0) [] := va_nilD
  have ho := ho.ext hF hom
  obtain ⟨μ1, hm, em, hdm, hh, hom, hdj⟩ := LI_mdl hE hO1 hh hom hol1 hdj hdm hF hmk hpm
  have hP : va_P G.1 zCl ([]) H3 := hP
  have hD : va_D (zA M0 H0) ([]) := hD
  have hS := hS1
  have hag := z_agr (ex := [IAE, ISE]) (X := X_prime σ z1) (B := R_prime σ z1 yb σ2) (nd_2 (by decide)) (fun a E hX => by obtain ⟨y, hR, -⟩ := a; exact Rx_prime hR hX) (fun a E hX => Rx_prime a hX) (fun E E' a b => Xu_prime a b) hk1 h2
  obtain ⟨ek, hk3, hkk⟩ := hag
  have hk3 : k2 ≤ 3 := Nat.le_trans hk3 (by decide)
  subst ek
  refine lv_istore (lv' := [(6, .int (iI yb)), (5, .int (iI ((k2 : Nat) : Int))), (4, .int (iI ((i : Nat) : Int))), (3, .ref oa), (2, .ref (μ (0, 0, 0))), (1, .ref (ρ (0, 0, 0))), (0, .ref b)]) hx hb dL_law_215 hl (by decide) rfl (fun ls hl => ?_)
  refine lv_aload_n hx hb dL_law_217 rfl (lv_at hl 4 rfl) ?_
  rw [← em]
  refine z_go (Cc + 2) (Sc + 12) (z_runV (As := []) (rest := []) hC hml hl.1 (m_X3_thrown hE H3 (hO.ext0 (zS_F hS)) μ1 σ2 ((k2 : Nat) : Int) hm) (lw_V q1512 q1513 q1514 q67 q1515) rfl nd_X3_thrown rfl (z_rv hC (ci := 2) rfl hm.2.2.1.1 rfl) rfl (Nat.le_of_ble_eq_true rfl) ⟨Nat.le_of_ble_eq_true rfl, Nat.le_of_ble_eq_true rfl⟩ ⟨zfit (k := 0) (z := 601152) rfl rfl (by omega), zfit (k := 0) (z := 7254250) rfl rfl (by omega)⟩ dL_law_218) ⟨zad (k := 0) rfl (by omega), zad (k := 0) rfl (by omega)⟩ hS (fun _ z => z.elim) (fun r H4 locs hp hF hS1 => ?_)
  obtain ⟨_, rfl, rfl⟩ := hp
  have hP : va_P G.1 zCl [] H4 := va_nil
  have hD : va_D (zA M0 H0) [] := va_nilD
  have hh := hh.ext0 hE hF
  have hm := hm.ext0 hE hF
  have hdm := hdm.ext0 hF
  have ho := ho.ext0 hF
  have hP : va_P G.1 zCl ([]) H4 := hP
  have hD : va_D (zA M0 H0) ([]) := hD
  have hS := hS1
  have hhF := hh
  have hmF := hm
  have hdmF := hdm
  have hoF := ho
  have hofF := hof
  have homF := hom
  have hdjF := hdj
  refine lv_iload hx hb dL_law_221 (lv_at hl 1 rfl) ?_
  refine z_ceq (tgt := 228) hx hb dL_law_223 (by decide) (by omega) (fun c5 => ?_) (fun c5 => ?_)
  · refine lv_iload hx hb dL_law_228 (lv_at hl 1 rfl) ?_
    refine z_zne (tgt := 246) hx hb dL_law_230 (by decide) (by omega) (fun c6 => ?_) (fun c6 => ?_)
    · obtain ⟨-, es1, es2⟩ := hkk.resolve_left (fun w => by have := w.1; omega)
      subst es1
      subst es2
      refine lv_goto (tgt := 2435) hx hb dL_law_246 (by decide) ?_
      exact W.widen (by omega) (by omega) (IH _ _ _ ρ1 μ1 _ _ n1 d1 s1 hhF hmF e0 em hdmF hoF hofF homF hdjF hS (lv_sub hl [2, 3, 4, 5, 6] rfl))
    · obtain ⟨k0, hA, hB⟩ := hkk.resolve_right (fun w => by have := w.1; omega)
      obtain ⟨y1, hR1, en⟩ := hA
      obtain ⟨ey, es⟩ := Rd_prime hR1 hB
      subst es
      refine lv_aload_n hx hb dL_law_233 rfl (lv_at hl 3 rfl) ?_
      refine z_getn hC (k := 0) rfl in_X4 hoF (by decide) q886 (fun _ h => h) rfl dL_law_234 ?_
      refine lv_iload hx hb dL_law_237 (lv_at hl 0 rfl) ?_
      refine lv_i2l hx hb dL_law_239 rfl ?_
      refine z_lcq hx hb (by rw [en, ey]) dL_law_240 ?_
      refine z_zeq (tgt := 246) hx hb dL_law_241 (by decide) (by omega) (fun c7 => ?_) (fun c7 => ?_)
      · refine lv_goto (tgt := 2435) hx hb dL_law_246 (by decide) ?_
        exact W.widen (by omega) (by omega) (IH _ _ _ ρ1 μ1 _ _ n1 d1 s1 hhF hmF e0 em hdmF hoF hofF homF hdjF hS (lv_sub hl [2, 3, 4, 5, 6] rfl))
      · omega
  · omega

set_option maxHeartbeats 4000000 in
theorem lwc_1 {p : Program} {l : Launch} {e : Env} {s : State} {m : MethodId} {below : List Frame} {meth : Method} {c : Code} {G : zG} {H0 : Heap} {b L xa ma oa : Nat} {xs : Nat → Int32} {Q : State → Prop} {i Cc Sc : Nat} (hE : zE l s G) (hC : zC p l s G s m #[.ref b] c "VersorhallLaw" cL_law) (hml : c.maxLocals = 9) (hH0 : s.heap = H0) (hX : va_X b L xs s H0) (hbl : b < H0.size) (hL : L ≤ 256) (hnc : zNc s) (hoa : s.heap.size ≤ oa) (hi4 : i + 4 ≤ L) (hcc : Cc + 9000 ≤ 601152 ∧ Sc + 110000 ≤ 7254250) (IH : lwJ p l e s m below meth c G H0 b xa ma oa Q 2435 i (Cc + 9000) (Sc + 110000)) : lwJ p l e s m below meth c G H0 b xa ma oa Q 249 i Cc Sc := by
  intro H locs ls ρ μ σ th n9 d9 s9 hh hm exa ema hdm ho hof hom hdj hS hl
  subst exa
  subst ema
  have hx := hC.x
  have hb := hC.b
  have hp9 := hh.ok.1
  have hO : zO s H0 := ⟨by rw [hH0]; exact Nat.le_refl _, fun _ _ => by rw [hH0]⟩
  have hP : va_P G.1 zCl [] H := va_nil
  have hD : va_D (zA M0 H0) [] := va_nilD
  obtain ⟨z1, e1⟩ : ∃ z : Int, (xs (i + 1)).toInt = z := ⟨_, rfl⟩
  have hz1 : zi z1 := by rw [← e1]; exact ⟨Int32.le_toInt _, Int32.toInt_lt _⟩
  refine lv_aload_n hx hb dL_law_249 rfl (lv_at hl 3 rfl) ?_
  refine lv_aload_n hx hb dL_law_250 rfl (lv_at hl 4 rfl) ?_
  refine lv_iload hx hb dL_law_251 (lv_at hl 0 rfl) ?_
  refine lv_iconst (v := iI 1) hx hb dL_law_253 rfl ?_
  refine z_add hx hb (z := ((i : Nat) : Int) + 1) dL_law_254 rfl ?_
  refine z_sld hC hX hbl hS (k := i + 1) (by omega) (by omega) (by omega) dL_law_255 ?_
  refine z_top (b := z1) e1 ?_
  refine lv_aload_n hx hb dL_law_256 rfl (lv_at hl 1 rfl) ?_
  have hO0 : zO s H := hO.ext0 (zS_F hS)
  have hol := ho.lt
  refine z_goX (Cc + 8) (Sc + 35) (z_runSw (As := [.ref (ρ (0, 0, 0)), .int (iI z1), .ref oa]) (rest := []) hC hml hl.1 (z_monW (m_X0_algebra hE H (hO.ext0 (zS_F hS)) ρ σ z1 oa n9 d9 s9 hh hdm ho hoa hof hnc hz1)) (lw_SW q937 q938 q61 q939) nd_X0_algebra rfl rfl (Nat.le_of_ble_eq_true rfl) ⟨Nat.le_of_ble_eq_true rfl, Nat.le_of_ble_eq_true rfl⟩ ⟨zfit (k := 8) (z := 601152) rfl rfl (by omega), zfit (k := 35) (z := 7254250) rfl rfl (by omega)⟩ dL_law_257) ⟨zad (k := 8) rfl (by omega), zad (k := 35) rfl (by omega)⟩ hS (fun q z => Or.inr (by rw [← hH0]; exact z.elim (fun w => FC.ge hh.sep w) (fun w => by rw [w]; exact hoa))) (fun E ce q9 Hx1 locs hp hF hS1 hce hcv hcl => ?_) (fun r H2 locs hp hF hS1 => ?_)
  · exact hp.1.elim
  obtain ⟨⟨kk, rfl, σ1, n1, d1, s1, hpo, ho, hk1⟩, hmk⟩ := hp
  have hP : va_P G.1 zCl [] H2 := va_nil
  have hD : va_D (zA M0 H0) [] := va_nilD
  obtain ⟨ρ1, hh, e0, hdm, hm, hof, hdj⟩ := LI_cls hE hO0 hm hof hom hol hdj hdm hF hmk hpo
  have hP : va_P G.1 zCl ([]) H2 := hP
  have hD : va_D (zA M0 H0) ([]) := hD
  have hS := hS1
  refine lv_istore (lv' := [(5, .int (iI kk)), (4, .int (iI ((i : Nat) : Int))), (3, .ref oa), (2, .ref (μ (0, 0, 0))), (1, .ref (ρ (0, 0, 0))), (0, .ref b)]) hx hb dL_law_260 hl (by decide) rfl (fun ls hl => ?_)
  refine lv_aload_n hx hb dL_law_262 rfl (lv_at hl 3 rfl) ?_
  refine lv_aload_n hx hb dL_law_263 rfl (lv_at hl 5 rfl) ?_
  refine lv_iload hx hb dL_law_264 (lv_at hl 1 rfl) ?_
  refine lv_iconst (v := iI 1) hx hb dL_law_266 rfl ?_
  refine z_add hx hb (z := ((i : Nat) : Int) + 1) dL_law_267 rfl ?_
  refine z_sld hC hX hbl hS (k := i + 1) (by omega) (by omega) (by omega) dL_law_268 ?_
  refine z_top (b := z1) e1 ?_
  have hO1 : zO s H2 := hO.ext0 (zS_F hS)
  have hol1 := ho.lt
  refine z_go ((Cc + 8) + 6) ((Sc + 35) + 25) (z_runV (As := [.int (iI z1)]) (rest := []) hC hml hl.1 (z_mon (m_X3_algebra hE H2 (hO.ext0 (zS_F hS)) μ σ th z1 hm hz1)) (lw_V q1532 q1533 q1534 q67 q1535) rfl nd_X3_algebra rfl (z_rv hC (ci := 2) rfl hm.2.2.1.1 rfl) rfl (Nat.le_of_ble_eq_true rfl) ⟨Nat.le_of_ble_eq_true rfl, Nat.le_of_ble_eq_true rfl⟩ ⟨zfit (k := 6) (z := 601152) rfl rfl (by omega), zfit (k := 25) (z := 7254250) rfl rfl (by omega)⟩ dL_law_269) ⟨zad (k := 6) rfl (by omega), zad (k := 25) rfl (by omega)⟩ hS (fun q z => Or.inr (by rw [← hH0]; exact FM.ge hm.sep z)) (fun r H3 locs hp hF hS1 => ?_)
  obtain ⟨⟨yb, rfl, k2, σ2, hpm, h2⟩, hmk⟩ := hp
  have hP : va_P G.1 zCl [] H3 := va_nil
  have hD : va_D (zA M0 H0) [] := va_nilD
  have ho := ho.ext hF hom
  obtain ⟨μ1, hm, em, hdm, hh, hom, hdj⟩ := LI_mdl hE hO1 hh hom hol1 hdj hdm hF hmk hpm
  have hP : va_P G.1 zCl ([]) H3 := hP
  have hD : va_D (zA M0 H0) ([]) := hD
  have hS := hS1
  have hag := z_agr (ex := [IAE, ISE]) (X := X_algebra σ z1) (B := R_algebra σ z1 yb σ2) (nd_2 (by decide)) (fun a E hX => by obtain ⟨y, hR, -⟩ := a; exact Rx_algebra hR hX) (fun a E hX => Rx_algebra a hX) (fun E E' a b => Xu_algebra a b) hk1 h2
  obtain ⟨ek, hk3, hkk⟩ := hag
  have hk3 : k2 ≤ 3 := Nat.le_trans hk3 (by decide)
  subst ek
  refine lv_istore (lv' := [(6, .int (iI yb)), (5, .int (iI ((k2 : Nat) : Int))), (4, .int (iI ((i : Nat) : Int))), (3, .ref oa), (2, .ref (μ (0, 0, 0))), (1, .ref (ρ (0, 0, 0))), (0, .ref b)]) hx hb dL_law_272 hl (by decide) rfl (fun ls hl => ?_)
  refine lv_aload_n hx hb dL_law_274 rfl (lv_at hl 4 rfl) ?_
  rw [← em]
  refine z_go ((Cc + 8) + 6) ((Sc + 35) + 25) (z_runV (As := []) (rest := []) hC hml hl.1 (m_X3_thrown hE H3 (hO.ext0 (zS_F hS)) μ1 σ2 ((k2 : Nat) : Int) hm) (lw_V q1512 q1513 q1514 q67 q1515) rfl nd_X3_thrown rfl (z_rv hC (ci := 2) rfl hm.2.2.1.1 rfl) rfl (Nat.le_of_ble_eq_true rfl) ⟨Nat.le_of_ble_eq_true rfl, Nat.le_of_ble_eq_true rfl⟩ ⟨zfit (k := 0) (z := 601152) rfl rfl (by omega), zfit (k := 0) (z := 7254250) rfl rfl (by omega)⟩ dL_law_275) ⟨zad (k := 0) rfl (by omega), zad (k := 0) rfl (by omega)⟩ hS (fun _ z => z.elim) (fun r H4 locs hp hF hS1 => ?_)
  obtain ⟨_, rfl, rfl⟩ := hp
  have hP : va_P G.1 zCl [] H4 := va_nil
  have hD : va_D (zA M0 H0) [] := va_nilD
  have hh := hh.ext0 hE hF
  have hm := hm.ext0 hE hF
  have hdm := hdm.ext0 hF
  have ho := ho.ext0 hF
  have hP : va_P G.1 zCl ([]) H4 := hP
  have hD : va_D (zA M0 H0) ([]) := hD
  have hS := hS1
  have hhF := hh
  have hmF := hm
  have hdmF := hdm
  have hoF := ho
  have hofF := hof
  have homF := hom
  have hdjF := hdj
  refine lv_iload hx hb dL_law_278 (lv_at hl 1 rfl) ?_
  refine z_ceq (tgt := 285) hx hb dL_law_280 (by decide) (by omega) (fun c5 => ?_) (fun c5 => ?_)
  · refine lv_iload hx hb dL_law_285 (lv_at hl 1 rfl) ?_
    refine z_zne (tgt := 303) hx hb dL_law_287 (by decide) (by omega) (fun c6 => ?_) (fun c6 => ?_)
    · obtain ⟨-, es1, es2⟩ := hkk.resolve_left (fun w => by have := w.1; omega)
      subst es1
      subst es2
      refine lv_goto (tgt := 2435) hx hb dL_law_303 (by decide) ?_
      exact W.widen (by omega) (by omega) (IH _ _ _ ρ1 μ1 _ _ n1 d1 s1 hhF hmF e0 em hdmF hoF hofF homF hdjF hS (lv_sub hl [2, 3, 4, 5, 6] rfl))
    · obtain ⟨k0, hA, hB⟩ := hkk.resolve_right (fun w => by have := w.1; omega)
      obtain ⟨y1, hR1, en⟩ := hA
      obtain ⟨ey, es⟩ := Rd_algebra hR1 hB
      subst es
      refine lv_aload_n hx hb dL_law_290 rfl (lv_at hl 3 rfl) ?_
      refine z_getn hC (k := 0) rfl in_X4 hoF (by decide) q886 (fun _ h => h) rfl dL_law_291 ?_
      refine lv_iload hx hb dL_law_294 (lv_at hl 0 rfl) ?_
      refine lv_i2l hx hb dL_law_296 rfl ?_
      refine z_lcq hx hb (by rw [en, ey]) dL_law_297 ?_
      refine z_zeq (tgt := 303) hx hb dL_law_298 (by decide) (by omega) (fun c7 => ?_) (fun c7 => ?_)
      · refine lv_goto (tgt := 2435) hx hb dL_law_303 (by decide) ?_
        exact W.widen (by omega) (by omega) (IH _ _ _ ρ1 μ1 _ _ n1 d1 s1 hhF hmF e0 em hdmF hoF hofF homF hdjF hS (lv_sub hl [2, 3, 4, 5, 6] rfl))
      · omega
  · omega

set_option maxHeartbeats 4000000 in
theorem lwc_2 {p : Program} {l : Launch} {e : Env} {s : State} {m : MethodId} {below : List Frame} {meth : Method} {c : Code} {G : zG} {H0 : Heap} {b L xa ma oa : Nat} {xs : Nat → Int32} {Q : State → Prop} {i Cc Sc : Nat} (hE : zE l s G) (hC : zC p l s G s m #[.ref b] c "VersorhallLaw" cL_law) (hml : c.maxLocals = 9) (hH0 : s.heap = H0) (hX : va_X b L xs s H0) (hbl : b < H0.size) (hL : L ≤ 256) (hnc : zNc s) (hoa : s.heap.size ≤ oa) (hi4 : i + 4 ≤ L) (hcc : Cc + 9000 ≤ 601152 ∧ Sc + 110000 ≤ 7254250) (IH : lwJ p l e s m below meth c G H0 b xa ma oa Q 2435 i (Cc + 9000) (Sc + 110000)) : lwJ p l e s m below meth c G H0 b xa ma oa Q 306 i Cc Sc := by
  intro H locs ls ρ μ σ th n9 d9 s9 hh hm exa ema hdm ho hof hom hdj hS hl
  subst exa
  subst ema
  have hx := hC.x
  have hb := hC.b
  have hp9 := hh.ok.1
  have hO : zO s H0 := ⟨by rw [hH0]; exact Nat.le_refl _, fun _ _ => by rw [hH0]⟩
  have hP : va_P G.1 zCl [] H := va_nil
  have hD : va_D (zA M0 H0) [] := va_nilD
  obtain ⟨z1, e1⟩ : ∃ z : Int, (xs (i + 1)).toInt = z := ⟨_, rfl⟩
  have hz1 : zi z1 := by rw [← e1]; exact ⟨Int32.le_toInt _, Int32.toInt_lt _⟩
  obtain ⟨z2, e2⟩ : ∃ z : Int, (xs (i + 2)).toInt = z := ⟨_, rfl⟩
  have hz2 : zi z2 := by rw [← e2]; exact ⟨Int32.le_toInt _, Int32.toInt_lt _⟩
  refine lv_aload_n hx hb dL_law_306 rfl (lv_at hl 3 rfl) ?_
  refine lv_aload_n hx hb dL_law_307 rfl (lv_at hl 4 rfl) ?_
  refine lv_iload hx hb dL_law_308 (lv_at hl 0 rfl) ?_
  refine lv_iconst (v := iI 1) hx hb dL_law_310 rfl ?_
  refine z_add hx hb (z := ((i : Nat) : Int) + 1) dL_law_311 rfl ?_
  refine z_sld hC hX hbl hS (k := i + 1) (by omega) (by omega) (by omega) dL_law_312 ?_
  refine z_top (b := z1) e1 ?_
  refine lv_aload_n hx hb dL_law_313 rfl (lv_at hl 4 rfl) ?_
  refine lv_iload hx hb dL_law_314 (lv_at hl 0 rfl) ?_
  refine lv_iconst (v := iI 2) hx hb dL_law_316 rfl ?_
  refine z_add hx hb (z := ((i : Nat) : Int) + 2) dL_law_317 rfl ?_
  refine z_sld hC hX hbl hS (k := i + 2) (by omega) (by omega) (by omega) dL_law_318 ?_
  refine z_top (b := z2) e2 ?_
  refine lv_aload_n hx hb dL_law_319 rfl (lv_at hl 1 rfl) ?_
  have hO0 : zO s H := hO.ext0 (zS_F hS)
  have hol := ho.lt
  refine z_goX (Cc + 22) (Sc + 304) (z_runSw (As := [.ref (ρ (0, 0, 0)), .int (iI z1), .int (iI z2), .ref oa]) (rest := []) hC hml hl.1 (z_monW (m_X0_dial hE H (hO.ext0 (zS_F hS)) ρ σ z1 z2 oa n9 d9 s9 hh hdm ho hoa hof hnc ⟨hz1, hz2⟩)) (lw_SW q1030 q1031 q61 q1032) nd_X0_dial rfl rfl (Nat.le_of_ble_eq_true rfl) ⟨Nat.le_of_ble_eq_true rfl, Nat.le_of_ble_eq_true rfl⟩ ⟨zfit (k := 22) (z := 601152) rfl rfl (by omega), zfit (k := 304) (z := 7254250) rfl rfl (by omega)⟩ dL_law_320) ⟨zad (k := 22) rfl (by omega), zad (k := 304) rfl (by omega)⟩ hS (fun q z => Or.inr (by rw [← hH0]; exact z.elim (fun w => FC.ge hh.sep w) (fun w => by rw [w]; exact hoa))) (fun E ce q9 Hx1 locs hp hF hS1 hce hcv hcl => ?_) (fun r H2 locs hp hF hS1 => ?_)
  · exact hp.1.elim
  obtain ⟨⟨kk, rfl, σ1, n1, d1, s1, hpo, ho, hk1⟩, hmk⟩ := hp
  have hP : va_P G.1 zCl [] H2 := va_nil
  have hD : va_D (zA M0 H0) [] := va_nilD
  obtain ⟨ρ1, hh, e0, hdm, hm, hof, hdj⟩ := LI_cls hE hO0 hm hof hom hol hdj hdm hF hmk hpo
  have hP : va_P G.1 zCl ([]) H2 := hP
  have hD : va_D (zA M0 H0) ([]) := hD
  have hS := hS1
  refine lv_istore (lv' := [(5, .int (iI kk)), (4, .int (iI ((i : Nat) : Int))), (3, .ref oa), (2, .ref (μ (0, 0, 0))), (1, .ref (ρ (0, 0, 0))), (0, .ref b)]) hx hb dL_law_323 hl (by decide) rfl (fun ls hl => ?_)
  refine lv_aload_n hx hb dL_law_325 rfl (lv_at hl 3 rfl) ?_
  refine lv_aload_n hx hb dL_law_326 rfl (lv_at hl 5 rfl) ?_
  refine lv_iload hx hb dL_law_327 (lv_at hl 1 rfl) ?_
  refine lv_iconst (v := iI 1) hx hb dL_law_329 rfl ?_
  refine z_add hx hb (z := ((i : Nat) : Int) + 1) dL_law_330 rfl ?_
  refine z_sld hC hX hbl hS (k := i + 1) (by omega) (by omega) (by omega) dL_law_331 ?_
  refine z_top (b := z1) e1 ?_
  refine lv_aload_n hx hb dL_law_332 rfl (lv_at hl 5 rfl) ?_
  refine lv_iload hx hb dL_law_333 (lv_at hl 1 rfl) ?_
  refine lv_iconst (v := iI 2) hx hb dL_law_335 rfl ?_
  refine z_add hx hb (z := ((i : Nat) : Int) + 2) dL_law_336 rfl ?_
  refine z_sld hC hX hbl hS (k := i + 2) (by omega) (by omega) (by omega) dL_law_337 ?_
  refine z_top (b := z2) e2 ?_
  have hO1 : zO s H2 := hO.ext0 (zS_F hS)
  have hol1 := ho.lt
  refine z_go ((Cc + 22) + 17) ((Sc + 304) + 272) (z_runV (As := [.int (iI z1), .int (iI z2)]) (rest := []) hC hml hl.1 (z_mon (m_X3_dial hE H2 (hO.ext0 (zS_F hS)) μ σ th z1 z2 hm ⟨hz1, hz2⟩)) (lw_V q1579 q1580 q1581 q67 q1582) rfl nd_X3_dial rfl (z_rv hC (ci := 2) rfl hm.2.2.1.1 rfl) rfl (Nat.le_of_ble_eq_true rfl) ⟨Nat.le_of_ble_eq_true rfl, Nat.le_of_ble_eq_true rfl⟩ ⟨zfit (k := 17) (z := 601152) rfl rfl (by omega), zfit (k := 272) (z := 7254250) rfl rfl (by omega)⟩ dL_law_338) ⟨zad (k := 17) rfl (by omega), zad (k := 272) rfl (by omega)⟩ hS (fun q z => Or.inr (by rw [← hH0]; exact FM.ge hm.sep z)) (fun r H3 locs hp hF hS1 => ?_)
  obtain ⟨⟨yb, rfl, k2, σ2, hpm, h2⟩, hmk⟩ := hp
  have hP : va_P G.1 zCl [] H3 := va_nil
  have hD : va_D (zA M0 H0) [] := va_nilD
  have ho := ho.ext hF hom
  obtain ⟨μ1, hm, em, hdm, hh, hom, hdj⟩ := LI_mdl hE hO1 hh hom hol1 hdj hdm hF hmk hpm
  have hP : va_P G.1 zCl ([]) H3 := hP
  have hD : va_D (zA M0 H0) ([]) := hD
  have hS := hS1
  have hag := z_agr (ex := [IOB, IAE, ISE]) (X := X_dial σ z1 z2) (B := R_dial σ z1 z2 yb σ2) (nd_3 (by decide) (by decide) (by decide)) (fun a E hX => by obtain ⟨y, hR, -⟩ := a; exact Rx_dial hR hX) (fun a E hX => Rx_dial a hX) (fun E E' a b => Xu_dial a b) hk1 h2
  obtain ⟨ek, hk3, hkk⟩ := hag
  have hk3 : k2 ≤ 3 := Nat.le_trans hk3 (by decide)
  subst ek
  refine lv_istore (lv' := [(6, .int (iI yb)), (5, .int (iI ((k2 : Nat) : Int))), (4, .int (iI ((i : Nat) : Int))), (3, .ref oa), (2, .ref (μ (0, 0, 0))), (1, .ref (ρ (0, 0, 0))), (0, .ref b)]) hx hb dL_law_341 hl (by decide) rfl (fun ls hl => ?_)
  refine lv_aload_n hx hb dL_law_343 rfl (lv_at hl 4 rfl) ?_
  rw [← em]
  refine z_go ((Cc + 22) + 17) ((Sc + 304) + 272) (z_runV (As := []) (rest := []) hC hml hl.1 (m_X3_thrown hE H3 (hO.ext0 (zS_F hS)) μ1 σ2 ((k2 : Nat) : Int) hm) (lw_V q1512 q1513 q1514 q67 q1515) rfl nd_X3_thrown rfl (z_rv hC (ci := 2) rfl hm.2.2.1.1 rfl) rfl (Nat.le_of_ble_eq_true rfl) ⟨Nat.le_of_ble_eq_true rfl, Nat.le_of_ble_eq_true rfl⟩ ⟨zfit (k := 0) (z := 601152) rfl rfl (by omega), zfit (k := 0) (z := 7254250) rfl rfl (by omega)⟩ dL_law_344) ⟨zad (k := 0) rfl (by omega), zad (k := 0) rfl (by omega)⟩ hS (fun _ z => z.elim) (fun r H4 locs hp hF hS1 => ?_)
  obtain ⟨_, rfl, rfl⟩ := hp
  have hP : va_P G.1 zCl [] H4 := va_nil
  have hD : va_D (zA M0 H0) [] := va_nilD
  have hh := hh.ext0 hE hF
  have hm := hm.ext0 hE hF
  have hdm := hdm.ext0 hF
  have ho := ho.ext0 hF
  have hP : va_P G.1 zCl ([]) H4 := hP
  have hD : va_D (zA M0 H0) ([]) := hD
  have hS := hS1
  have hhF := hh
  have hmF := hm
  have hdmF := hdm
  have hoF := ho
  have hofF := hof
  have homF := hom
  have hdjF := hdj
  refine lv_iload hx hb dL_law_347 (lv_at hl 1 rfl) ?_
  refine z_ceq (tgt := 354) hx hb dL_law_349 (by decide) (by omega) (fun c5 => ?_) (fun c5 => ?_)
  · refine lv_iload hx hb dL_law_354 (lv_at hl 1 rfl) ?_
    refine z_zne (tgt := 372) hx hb dL_law_356 (by decide) (by omega) (fun c6 => ?_) (fun c6 => ?_)
    · obtain ⟨-, es1, es2⟩ := hkk.resolve_left (fun w => by have := w.1; omega)
      subst es1
      subst es2
      refine lv_goto (tgt := 2435) hx hb dL_law_372 (by decide) ?_
      exact W.widen (by omega) (by omega) (IH _ _ _ ρ1 μ1 _ _ n1 d1 s1 hhF hmF e0 em hdmF hoF hofF homF hdjF hS (lv_sub hl [2, 3, 4, 5, 6] rfl))
    · obtain ⟨k0, hA, hB⟩ := hkk.resolve_right (fun w => by have := w.1; omega)
      obtain ⟨y1, hR1, en⟩ := hA
      obtain ⟨ey, es⟩ := Rd_dial hR1 hB
      subst es
      refine lv_aload_n hx hb dL_law_359 rfl (lv_at hl 3 rfl) ?_
      refine z_getn hC (k := 0) rfl in_X4 hoF (by decide) q886 (fun _ h => h) rfl dL_law_360 ?_
      refine lv_iload hx hb dL_law_363 (lv_at hl 0 rfl) ?_
      refine lv_i2l hx hb dL_law_365 rfl ?_
      refine z_lcq hx hb (by rw [en, ey]) dL_law_366 ?_
      refine z_zeq (tgt := 372) hx hb dL_law_367 (by decide) (by omega) (fun c7 => ?_) (fun c7 => ?_)
      · refine lv_goto (tgt := 2435) hx hb dL_law_372 (by decide) ?_
        exact W.widen (by omega) (by omega) (IH _ _ _ ρ1 μ1 _ _ n1 d1 s1 hhF hmF e0 em hdmF hoF hofF homF hdjF hS (lv_sub hl [2, 3, 4, 5, 6] rfl))
      · omega
  · omega

set_option maxHeartbeats 4000000 in
theorem lwc_3 {p : Program} {l : Launch} {e : Env} {s : State} {m : MethodId} {below : List Frame} {meth : Method} {c : Code} {G : zG} {H0 : Heap} {b L xa ma oa : Nat} {xs : Nat → Int32} {Q : State → Prop} {i Cc Sc : Nat} (hE : zE l s G) (hC : zC p l s G s m #[.ref b] c "VersorhallLaw" cL_law) (hml : c.maxLocals = 9) (hH0 : s.heap = H0) (hX : va_X b L xs s H0) (hbl : b < H0.size) (hL : L ≤ 256) (hnc : zNc s) (hoa : s.heap.size ≤ oa) (hi4 : i + 4 ≤ L) (hcc : Cc + 9000 ≤ 601152 ∧ Sc + 110000 ≤ 7254250) (IH : lwJ p l e s m below meth c G H0 b xa ma oa Q 2435 i (Cc + 9000) (Sc + 110000)) : lwJ p l e s m below meth c G H0 b xa ma oa Q 375 i Cc Sc := by
  intro H locs ls ρ μ σ th n9 d9 s9 hh hm exa ema hdm ho hof hom hdj hS hl
  subst exa
  subst ema
  have hx := hC.x
  have hb := hC.b
  have hp9 := hh.ok.1
  have hO : zO s H0 := ⟨by rw [hH0]; exact Nat.le_refl _, fun _ _ => by rw [hH0]⟩
  have hP : va_P G.1 zCl [] H := va_nil
  have hD : va_D (zA M0 H0) [] := va_nilD
  obtain ⟨z1, e1⟩ : ∃ z : Int, (xs (i + 1)).toInt = z := ⟨_, rfl⟩
  have hz1 : zi z1 := by rw [← e1]; exact ⟨Int32.le_toInt _, Int32.toInt_lt _⟩
  refine lv_aload_n hx hb dL_law_375 rfl (lv_at hl 3 rfl) ?_
  refine lv_aload_n hx hb dL_law_376 rfl (lv_at hl 4 rfl) ?_
  refine lv_iload hx hb dL_law_377 (lv_at hl 0 rfl) ?_
  refine lv_iconst (v := iI 1) hx hb dL_law_379 rfl ?_
  refine z_add hx hb (z := ((i : Nat) : Int) + 1) dL_law_380 rfl ?_
  refine z_sld hC hX hbl hS (k := i + 1) (by omega) (by omega) (by omega) dL_law_381 ?_
  refine z_top (b := z1) e1 ?_
  refine lv_aload_n hx hb dL_law_382 rfl (lv_at hl 1 rfl) ?_
  have hO0 : zO s H := hO.ext0 (zS_F hS)
  have hol := ho.lt
  refine z_goX (Cc + 5) (Sc + 41) (z_runSw (As := [.ref (ρ (0, 0, 0)), .int (iI z1), .ref oa]) (rest := []) hC hml hl.1 (z_monW (m_X0_element hE H (hO.ext0 (zS_F hS)) ρ σ z1 oa n9 d9 s9 hh hdm ho hoa hof hnc hz1)) (lw_SW q1124 q1125 q61 q1126) nd_X0_element rfl rfl (Nat.le_of_ble_eq_true rfl) ⟨Nat.le_of_ble_eq_true rfl, Nat.le_of_ble_eq_true rfl⟩ ⟨zfit (k := 5) (z := 601152) rfl rfl (by omega), zfit (k := 41) (z := 7254250) rfl rfl (by omega)⟩ dL_law_383) ⟨zad (k := 5) rfl (by omega), zad (k := 41) rfl (by omega)⟩ hS (fun q z => Or.inr (by rw [← hH0]; exact z.elim (fun w => FC.ge hh.sep w) (fun w => by rw [w]; exact hoa))) (fun E ce q9 Hx1 locs hp hF hS1 hce hcv hcl => ?_) (fun r H2 locs hp hF hS1 => ?_)
  · exact hp.1.elim
  obtain ⟨⟨kk, rfl, σ1, n1, d1, s1, hpo, ho, hk1⟩, hmk⟩ := hp
  have hP : va_P G.1 zCl [] H2 := va_nil
  have hD : va_D (zA M0 H0) [] := va_nilD
  obtain ⟨ρ1, hh, e0, hdm, hm, hof, hdj⟩ := LI_cls hE hO0 hm hof hom hol hdj hdm hF hmk hpo
  have hP : va_P G.1 zCl ([]) H2 := hP
  have hD : va_D (zA M0 H0) ([]) := hD
  have hS := hS1
  refine lv_istore (lv' := [(5, .int (iI kk)), (4, .int (iI ((i : Nat) : Int))), (3, .ref oa), (2, .ref (μ (0, 0, 0))), (1, .ref (ρ (0, 0, 0))), (0, .ref b)]) hx hb dL_law_386 hl (by decide) rfl (fun ls hl => ?_)
  refine lv_aload_n hx hb dL_law_388 rfl (lv_at hl 3 rfl) ?_
  refine lv_aload_n hx hb dL_law_389 rfl (lv_at hl 5 rfl) ?_
  refine lv_iload hx hb dL_law_390 (lv_at hl 1 rfl) ?_
  refine lv_iconst (v := iI 1) hx hb dL_law_392 rfl ?_
  refine z_add hx hb (z := ((i : Nat) : Int) + 1) dL_law_393 rfl ?_
  refine z_sld hC hX hbl hS (k := i + 1) (by omega) (by omega) (by omega) dL_law_394 ?_
  refine z_top (b := z1) e1 ?_
  have hO1 : zO s H2 := hO.ext0 (zS_F hS)
  have hol1 := ho.lt
  refine z_go ((Cc + 5) + 3) ((Sc + 41) + 28) (z_runV (As := [.int (iI z1)]) (rest := []) hC hml hl.1 (z_mon (m_X3_element hE H2 (hO.ext0 (zS_F hS)) μ σ th z1 hm hz1)) (lw_V q1628 q1629 q1630 q67 q1631) rfl nd_X3_element rfl (z_rv hC (ci := 2) rfl hm.2.2.1.1 rfl) rfl (Nat.le_of_ble_eq_true rfl) ⟨Nat.le_of_ble_eq_true rfl, Nat.le_of_ble_eq_true rfl⟩ ⟨zfit (k := 3) (z := 601152) rfl rfl (by omega), zfit (k := 28) (z := 7254250) rfl rfl (by omega)⟩ dL_law_395) ⟨zad (k := 3) rfl (by omega), zad (k := 28) rfl (by omega)⟩ hS (fun q z => Or.inr (by rw [← hH0]; exact FM.ge hm.sep z)) (fun r H3 locs hp hF hS1 => ?_)
  obtain ⟨⟨yb, rfl, k2, σ2, hpm, h2⟩, hmk⟩ := hp
  have hP : va_P G.1 zCl [] H3 := va_nil
  have hD : va_D (zA M0 H0) [] := va_nilD
  have ho := ho.ext hF hom
  obtain ⟨μ1, hm, em, hdm, hh, hom, hdj⟩ := LI_mdl hE hO1 hh hom hol1 hdj hdm hF hmk hpm
  have hP : va_P G.1 zCl ([]) H3 := hP
  have hD : va_D (zA M0 H0) ([]) := hD
  have hS := hS1
  have hag := z_agr (ex := [IOB, ISE]) (X := X_element σ z1) (B := R_element σ z1 yb σ2) (nd_2 (by decide)) (fun a E hX => by obtain ⟨y, hR, -⟩ := a; exact Rx_element hR hX) (fun a E hX => Rx_element a hX) (fun E E' a b => Xu_element a b) hk1 h2
  obtain ⟨ek, hk3, hkk⟩ := hag
  have hk3 : k2 ≤ 3 := Nat.le_trans hk3 (by decide)
  subst ek
  refine lv_istore (lv' := [(6, .int (iI yb)), (5, .int (iI ((k2 : Nat) : Int))), (4, .int (iI ((i : Nat) : Int))), (3, .ref oa), (2, .ref (μ (0, 0, 0))), (1, .ref (ρ (0, 0, 0))), (0, .ref b)]) hx hb dL_law_398 hl (by decide) rfl (fun ls hl => ?_)
  refine lv_aload_n hx hb dL_law_400 rfl (lv_at hl 4 rfl) ?_
  rw [← em]
  refine z_go ((Cc + 5) + 3) ((Sc + 41) + 28) (z_runV (As := []) (rest := []) hC hml hl.1 (m_X3_thrown hE H3 (hO.ext0 (zS_F hS)) μ1 σ2 ((k2 : Nat) : Int) hm) (lw_V q1512 q1513 q1514 q67 q1515) rfl nd_X3_thrown rfl (z_rv hC (ci := 2) rfl hm.2.2.1.1 rfl) rfl (Nat.le_of_ble_eq_true rfl) ⟨Nat.le_of_ble_eq_true rfl, Nat.le_of_ble_eq_true rfl⟩ ⟨zfit (k := 0) (z := 601152) rfl rfl (by omega), zfit (k := 0) (z := 7254250) rfl rfl (by omega)⟩ dL_law_401) ⟨zad (k := 0) rfl (by omega), zad (k := 0) rfl (by omega)⟩ hS (fun _ z => z.elim) (fun r H4 locs hp hF hS1 => ?_)
  obtain ⟨_, rfl, rfl⟩ := hp
  have hP : va_P G.1 zCl [] H4 := va_nil
  have hD : va_D (zA M0 H0) [] := va_nilD
  have hh := hh.ext0 hE hF
  have hm := hm.ext0 hE hF
  have hdm := hdm.ext0 hF
  have ho := ho.ext0 hF
  have hP : va_P G.1 zCl ([]) H4 := hP
  have hD : va_D (zA M0 H0) ([]) := hD
  have hS := hS1
  have hhF := hh
  have hmF := hm
  have hdmF := hdm
  have hoF := ho
  have hofF := hof
  have homF := hom
  have hdjF := hdj
  refine lv_iload hx hb dL_law_404 (lv_at hl 1 rfl) ?_
  refine z_ceq (tgt := 411) hx hb dL_law_406 (by decide) (by omega) (fun c5 => ?_) (fun c5 => ?_)
  · refine lv_iload hx hb dL_law_411 (lv_at hl 1 rfl) ?_
    refine z_zne (tgt := 429) hx hb dL_law_413 (by decide) (by omega) (fun c6 => ?_) (fun c6 => ?_)
    · obtain ⟨-, es1, es2⟩ := hkk.resolve_left (fun w => by have := w.1; omega)
      subst es1
      subst es2
      refine lv_goto (tgt := 2435) hx hb dL_law_429 (by decide) ?_
      exact W.widen (by omega) (by omega) (IH _ _ _ ρ1 μ1 _ _ n1 d1 s1 hhF hmF e0 em hdmF hoF hofF homF hdjF hS (lv_sub hl [2, 3, 4, 5, 6] rfl))
    · obtain ⟨k0, hA, hB⟩ := hkk.resolve_right (fun w => by have := w.1; omega)
      obtain ⟨y1, hR1, en⟩ := hA
      obtain ⟨ey, es⟩ := Rd_element hR1 hB
      subst es
      refine lv_aload_n hx hb dL_law_416 rfl (lv_at hl 3 rfl) ?_
      refine z_getn hC (k := 0) rfl in_X4 hoF (by decide) q886 (fun _ h => h) rfl dL_law_417 ?_
      refine lv_iload hx hb dL_law_420 (lv_at hl 0 rfl) ?_
      refine lv_i2l hx hb dL_law_422 rfl ?_
      refine z_lcq hx hb (by rw [en, ey]) dL_law_423 ?_
      refine z_zeq (tgt := 429) hx hb dL_law_424 (by decide) (by omega) (fun c7 => ?_) (fun c7 => ?_)
      · refine lv_goto (tgt := 2435) hx hb dL_law_429 (by decide) ?_
        exact W.widen (by omega) (by omega) (IH _ _ _ ρ1 μ1 _ _ n1 d1 s1 hhF hmF e0 em hdmF hoF hofF homF hdjF hS (lv_sub hl [2, 3, 4, 5, 6] rfl))
      · omega
  · omega

set_option maxHeartbeats 4000000 in
theorem lwc_4 {p : Program} {l : Launch} {e : Env} {s : State} {m : MethodId} {below : List Frame} {meth : Method} {c : Code} {G : zG} {H0 : Heap} {b L xa ma oa : Nat} {xs : Nat → Int32} {Q : State → Prop} {i Cc Sc : Nat} (hE : zE l s G) (hC : zC p l s G s m #[.ref b] c "VersorhallLaw" cL_law) (hml : c.maxLocals = 9) (hH0 : s.heap = H0) (hX : va_X b L xs s H0) (hbl : b < H0.size) (hL : L ≤ 256) (hnc : zNc s) (hoa : s.heap.size ≤ oa) (hi4 : i + 4 ≤ L) (hcc : Cc + 9000 ≤ 601152 ∧ Sc + 110000 ≤ 7254250) (IH : lwJ p l e s m below meth c G H0 b xa ma oa Q 2435 i (Cc + 9000) (Sc + 110000)) : lwJ p l e s m below meth c G H0 b xa ma oa Q 432 i Cc Sc := by
  intro H locs ls ρ μ σ th n9 d9 s9 hh hm exa ema hdm ho hof hom hdj hS hl
  subst exa
  subst ema
  have hx := hC.x
  have hb := hC.b
  have hp9 := hh.ok.1
  have hO : zO s H0 := ⟨by rw [hH0]; exact Nat.le_refl _, fun _ _ => by rw [hH0]⟩
  have hP : va_P G.1 zCl [] H := va_nil
  have hD : va_D (zA M0 H0) [] := va_nilD
  obtain ⟨z1, e1⟩ : ∃ z : Int, (xs (i + 1)).toInt = z := ⟨_, rfl⟩
  have hz1 : zi z1 := by rw [← e1]; exact ⟨Int32.le_toInt _, Int32.toInt_lt _⟩
  obtain ⟨z2, e2⟩ : ∃ z : Int, (xs (i + 2)).toInt = z := ⟨_, rfl⟩
  have hz2 : zi z2 := by rw [← e2]; exact ⟨Int32.le_toInt _, Int32.toInt_lt _⟩
  obtain ⟨z3, e3⟩ : ∃ z : Int, (xs (i + 3)).toInt = z := ⟨_, rfl⟩
  have hz3 : zi z3 := by rw [← e3]; exact ⟨Int32.le_toInt _, Int32.toInt_lt _⟩
  refine lv_aload_n hx hb dL_law_432 rfl (lv_at hl 3 rfl) ?_
  refine lv_aload_n hx hb dL_law_433 rfl (lv_at hl 4 rfl) ?_
  refine lv_iload hx hb dL_law_434 (lv_at hl 0 rfl) ?_
  refine lv_iconst (v := iI 1) hx hb dL_law_436 rfl ?_
  refine z_add hx hb (z := ((i : Nat) : Int) + 1) dL_law_437 rfl ?_
  refine z_sld hC hX hbl hS (k := i + 1) (by omega) (by omega) (by omega) dL_law_438 ?_
  refine z_top (b := z1) e1 ?_
  refine lv_aload_n hx hb dL_law_439 rfl (lv_at hl 4 rfl) ?_
  refine lv_iload hx hb dL_law_440 (lv_at hl 0 rfl) ?_
  refine lv_iconst (v := iI 2) hx hb dL_law_442 rfl ?_
  refine z_add hx hb (z := ((i : Nat) : Int) + 2) dL_law_443 rfl ?_
  refine z_sld hC hX hbl hS (k := i + 2) (by omega) (by omega) (by omega) dL_law_444 ?_
  refine z_top (b := z2) e2 ?_
  refine lv_aload_n hx hb dL_law_445 rfl (lv_at hl 4 rfl) ?_
  refine lv_iload hx hb dL_law_446 (lv_at hl 0 rfl) ?_
  refine lv_iconst (v := iI 3) hx hb dL_law_448 rfl ?_
  refine z_add hx hb (z := ((i : Nat) : Int) + 3) dL_law_449 rfl ?_
  refine z_sld hC hX hbl hS (k := i + 3) (by omega) (by omega) (by omega) dL_law_450 ?_
  refine z_top (b := z3) e3 ?_
  refine lv_aload_n hx hb dL_law_451 rfl (lv_at hl 1 rfl) ?_
  have hO0 : zO s H := hO.ext0 (zS_F hS)
  have hol := ho.lt
  refine z_goX (Cc + 3) (Sc + 18) (z_runSw (As := [.ref (ρ (0, 0, 0)), .int (iI z1), .int (iI z2), .int (iI z3), .ref oa]) (rest := []) hC hml hl.1 (z_monW (m_X0_set hE H (hO.ext0 (zS_F hS)) ρ σ z1 z2 z3 oa n9 d9 s9 hh hdm ho hoa hof hnc ⟨hz1, hz2, hz3⟩)) (lw_SW q1132 q1133 q61 q1134) nd_X0_set rfl rfl (Nat.le_of_ble_eq_true rfl) ⟨Nat.le_of_ble_eq_true rfl, Nat.le_of_ble_eq_true rfl⟩ ⟨zfit (k := 3) (z := 601152) rfl rfl (by omega), zfit (k := 18) (z := 7254250) rfl rfl (by omega)⟩ dL_law_452) ⟨zad (k := 3) rfl (by omega), zad (k := 18) rfl (by omega)⟩ hS (fun q z => Or.inr (by rw [← hH0]; exact z.elim (fun w => FC.ge hh.sep w) (fun w => by rw [w]; exact hoa))) (fun E ce q9 Hx1 locs hp hF hS1 hce hcv hcl => ?_) (fun r H2 locs hp hF hS1 => ?_)
  · exact hp.1.elim
  obtain ⟨⟨kk, rfl, σ1, n1, d1, s1, hpo, ho, hk1⟩, hmk⟩ := hp
  have hP : va_P G.1 zCl [] H2 := va_nil
  have hD : va_D (zA M0 H0) [] := va_nilD
  obtain ⟨ρ1, hh, e0, hdm, hm, hof, hdj⟩ := LI_cls hE hO0 hm hof hom hol hdj hdm hF hmk hpo
  have hP : va_P G.1 zCl ([]) H2 := hP
  have hD : va_D (zA M0 H0) ([]) := hD
  have hS := hS1
  refine lv_istore (lv' := [(5, .int (iI kk)), (4, .int (iI ((i : Nat) : Int))), (3, .ref oa), (2, .ref (μ (0, 0, 0))), (1, .ref (ρ (0, 0, 0))), (0, .ref b)]) hx hb dL_law_455 hl (by decide) rfl (fun ls hl => ?_)
  refine lv_aload_n hx hb dL_law_457 rfl (lv_at hl 3 rfl) ?_
  refine lv_aload_n hx hb dL_law_458 rfl (lv_at hl 5 rfl) ?_
  refine lv_iload hx hb dL_law_459 (lv_at hl 1 rfl) ?_
  refine lv_iconst (v := iI 1) hx hb dL_law_461 rfl ?_
  refine z_add hx hb (z := ((i : Nat) : Int) + 1) dL_law_462 rfl ?_
  refine z_sld hC hX hbl hS (k := i + 1) (by omega) (by omega) (by omega) dL_law_463 ?_
  refine z_top (b := z1) e1 ?_
  refine lv_aload_n hx hb dL_law_464 rfl (lv_at hl 5 rfl) ?_
  refine lv_iload hx hb dL_law_465 (lv_at hl 1 rfl) ?_
  refine lv_iconst (v := iI 2) hx hb dL_law_467 rfl ?_
  refine z_add hx hb (z := ((i : Nat) : Int) + 2) dL_law_468 rfl ?_
  refine z_sld hC hX hbl hS (k := i + 2) (by omega) (by omega) (by omega) dL_law_469 ?_
  refine z_top (b := z2) e2 ?_
  refine lv_aload_n hx hb dL_law_470 rfl (lv_at hl 5 rfl) ?_
  refine lv_iload hx hb dL_law_471 (lv_at hl 1 rfl) ?_
  refine lv_iconst (v := iI 3) hx hb dL_law_473 rfl ?_
  refine z_add hx hb (z := ((i : Nat) : Int) + 3) dL_law_474 rfl ?_
  refine z_sld hC hX hbl hS (k := i + 3) (by omega) (by omega) (by omega) dL_law_475 ?_
  refine z_top (b := z3) e3 ?_
  have hO1 : zO s H2 := hO.ext0 (zS_F hS)
  have hol1 := ho.lt
  refine z_go (Cc + 3) (Sc + 18) (z_runV (As := [.int (iI z1), .int (iI z2), .int (iI z3)]) (rest := []) hC hml hl.1 (z_mon (m_X3_set hE H2 (hO.ext0 (zS_F hS)) μ σ th z1 z2 z3 hm ⟨hz1, hz2, hz3⟩)) (lw_V q1646 q1647 q1648 q67 q1649) rfl nd_X3_set rfl (z_rv hC (ci := 2) rfl hm.2.2.1.1 rfl) rfl (Nat.le_of_ble_eq_true rfl) ⟨Nat.le_of_ble_eq_true rfl, Nat.le_of_ble_eq_true rfl⟩ ⟨zfit (k := 0) (z := 601152) rfl rfl (by omega), zfit (k := 0) (z := 7254250) rfl rfl (by omega)⟩ dL_law_476) ⟨zad (k := 0) rfl (by omega), zad (k := 0) rfl (by omega)⟩ hS (fun q z => Or.inr (by rw [← hH0]; exact FM.ge hm.sep z)) (fun r H3 locs hp hF hS1 => ?_)
  obtain ⟨⟨yb, rfl, k2, σ2, hpm, h2⟩, hmk⟩ := hp
  have hP : va_P G.1 zCl [] H3 := va_nil
  have hD : va_D (zA M0 H0) [] := va_nilD
  have ho := ho.ext hF hom
  obtain ⟨μ1, hm, em, hdm, hh, hom, hdj⟩ := LI_mdl hE hO1 hh hom hol1 hdj hdm hF hmk hpm
  have hP : va_P G.1 zCl ([]) H3 := hP
  have hD : va_D (zA M0 H0) ([]) := hD
  have hS := hS1
  have hag := z_agr (ex := [IOB, IAE]) (X := X_set σ z1 z2 z3) (B := R_set σ z1 z2 z3 yb σ2) (nd_2 (by decide)) (fun a E hX => by obtain ⟨y, hR, -⟩ := a; exact Rx_set hR hX) (fun a E hX => Rx_set a hX) (fun E E' a b => Xu_set a b) hk1 h2
  obtain ⟨ek, hk3, hkk⟩ := hag
  have hk3 : k2 ≤ 3 := Nat.le_trans hk3 (by decide)
  subst ek
  refine lv_istore (lv' := [(6, .int (iI yb)), (5, .int (iI ((k2 : Nat) : Int))), (4, .int (iI ((i : Nat) : Int))), (3, .ref oa), (2, .ref (μ (0, 0, 0))), (1, .ref (ρ (0, 0, 0))), (0, .ref b)]) hx hb dL_law_479 hl (by decide) rfl (fun ls hl => ?_)
  refine lv_aload_n hx hb dL_law_481 rfl (lv_at hl 4 rfl) ?_
  rw [← em]
  refine z_go (Cc + 3) (Sc + 18) (z_runV (As := []) (rest := []) hC hml hl.1 (m_X3_thrown hE H3 (hO.ext0 (zS_F hS)) μ1 σ2 ((k2 : Nat) : Int) hm) (lw_V q1512 q1513 q1514 q67 q1515) rfl nd_X3_thrown rfl (z_rv hC (ci := 2) rfl hm.2.2.1.1 rfl) rfl (Nat.le_of_ble_eq_true rfl) ⟨Nat.le_of_ble_eq_true rfl, Nat.le_of_ble_eq_true rfl⟩ ⟨zfit (k := 0) (z := 601152) rfl rfl (by omega), zfit (k := 0) (z := 7254250) rfl rfl (by omega)⟩ dL_law_482) ⟨zad (k := 0) rfl (by omega), zad (k := 0) rfl (by omega)⟩ hS (fun _ z => z.elim) (fun r H4 locs hp hF hS1 => ?_)
  obtain ⟨_, rfl, rfl⟩ := hp
  have hP : va_P G.1 zCl [] H4 := va_nil
  have hD : va_D (zA M0 H0) [] := va_nilD
  have hh := hh.ext0 hE hF
  have hm := hm.ext0 hE hF
  have hdm := hdm.ext0 hF
  have ho := ho.ext0 hF
  have hP : va_P G.1 zCl ([]) H4 := hP
  have hD : va_D (zA M0 H0) ([]) := hD
  have hS := hS1
  have hhF := hh
  have hmF := hm
  have hdmF := hdm
  have hoF := ho
  have hofF := hof
  have homF := hom
  have hdjF := hdj
  refine lv_iload hx hb dL_law_485 (lv_at hl 1 rfl) ?_
  refine z_ceq (tgt := 492) hx hb dL_law_487 (by decide) (by omega) (fun c5 => ?_) (fun c5 => ?_)
  · refine lv_iload hx hb dL_law_492 (lv_at hl 1 rfl) ?_
    refine z_zne (tgt := 510) hx hb dL_law_494 (by decide) (by omega) (fun c6 => ?_) (fun c6 => ?_)
    · obtain ⟨-, es1, es2⟩ := hkk.resolve_left (fun w => by have := w.1; omega)
      subst es1
      subst es2
      refine lv_goto (tgt := 2435) hx hb dL_law_510 (by decide) ?_
      exact W.widen (by omega) (by omega) (IH _ _ _ ρ1 μ1 _ _ n1 d1 s1 hhF hmF e0 em hdmF hoF hofF homF hdjF hS (lv_sub hl [2, 3, 4, 5, 6] rfl))
    · obtain ⟨k0, hA, hB⟩ := hkk.resolve_right (fun w => by have := w.1; omega)
      obtain ⟨y1, hR1, en⟩ := hA
      obtain ⟨ey, es⟩ := Rd_set hR1 hB
      subst es
      refine lv_aload_n hx hb dL_law_497 rfl (lv_at hl 3 rfl) ?_
      refine z_getn hC (k := 0) rfl in_X4 hoF (by decide) q886 (fun _ h => h) rfl dL_law_498 ?_
      refine lv_iload hx hb dL_law_501 (lv_at hl 0 rfl) ?_
      refine lv_i2l hx hb dL_law_503 rfl ?_
      refine z_lcq hx hb (by rw [en, ey]) dL_law_504 ?_
      refine z_zeq (tgt := 510) hx hb dL_law_505 (by decide) (by omega) (fun c7 => ?_) (fun c7 => ?_)
      · refine lv_goto (tgt := 2435) hx hb dL_law_510 (by decide) ?_
        exact W.widen (by omega) (by omega) (IH _ _ _ ρ1 μ1 _ _ n1 d1 s1 hhF hmF e0 em hdmF hoF hofF homF hdjF hS (lv_sub hl [2, 3, 4, 5, 6] rfl))
      · omega
  · omega

set_option maxHeartbeats 4000000 in
theorem lwc_5 {p : Program} {l : Launch} {e : Env} {s : State} {m : MethodId} {below : List Frame} {meth : Method} {c : Code} {G : zG} {H0 : Heap} {b L xa ma oa : Nat} {xs : Nat → Int32} {Q : State → Prop} {i Cc Sc : Nat} (hE : zE l s G) (hC : zC p l s G s m #[.ref b] c "VersorhallLaw" cL_law) (hml : c.maxLocals = 9) (hH0 : s.heap = H0) (hX : va_X b L xs s H0) (hbl : b < H0.size) (hL : L ≤ 256) (hnc : zNc s) (hoa : s.heap.size ≤ oa) (hi4 : i + 4 ≤ L) (hcc : Cc + 9000 ≤ 601152 ∧ Sc + 110000 ≤ 7254250) (IH : lwJ p l e s m below meth c G H0 b xa ma oa Q 2435 i (Cc + 9000) (Sc + 110000)) : lwJ p l e s m below meth c G H0 b xa ma oa Q 513 i Cc Sc := by
  intro H locs ls ρ μ σ th n9 d9 s9 hh hm exa ema hdm ho hof hom hdj hS hl
  subst exa
  subst ema
  have hx := hC.x
  have hb := hC.b
  have hp9 := hh.ok.1
  have hO : zO s H0 := ⟨by rw [hH0]; exact Nat.le_refl _, fun _ _ => by rw [hH0]⟩
  have hP : va_P G.1 zCl [] H := va_nil
  have hD : va_D (zA M0 H0) [] := va_nilD
  obtain ⟨z1, e1⟩ : ∃ z : Int, (xs (i + 1)).toInt = z := ⟨_, rfl⟩
  have hz1 : zi z1 := by rw [← e1]; exact ⟨Int32.le_toInt _, Int32.toInt_lt _⟩
  obtain ⟨z2, e2⟩ : ∃ z : Int, (xs (i + 2)).toInt = z := ⟨_, rfl⟩
  have hz2 : zi z2 := by rw [← e2]; exact ⟨Int32.le_toInt _, Int32.toInt_lt _⟩
  obtain ⟨z3, e3⟩ : ∃ z : Int, (xs (i + 3)).toInt = z := ⟨_, rfl⟩
  have hz3 : zi z3 := by rw [← e3]; exact ⟨Int32.le_toInt _, Int32.toInt_lt _⟩
  refine lv_aload_n hx hb dL_law_513 rfl (lv_at hl 3 rfl) ?_
  refine lv_aload_n hx hb dL_law_514 rfl (lv_at hl 4 rfl) ?_
  refine lv_iload hx hb dL_law_515 (lv_at hl 0 rfl) ?_
  refine lv_iconst (v := iI 1) hx hb dL_law_517 rfl ?_
  refine z_add hx hb (z := ((i : Nat) : Int) + 1) dL_law_518 rfl ?_
  refine z_sld hC hX hbl hS (k := i + 1) (by omega) (by omega) (by omega) dL_law_519 ?_
  refine z_top (b := z1) e1 ?_
  refine lv_aload_n hx hb dL_law_520 rfl (lv_at hl 4 rfl) ?_
  refine lv_iload hx hb dL_law_521 (lv_at hl 0 rfl) ?_
  refine lv_iconst (v := iI 2) hx hb dL_law_523 rfl ?_
  refine z_add hx hb (z := ((i : Nat) : Int) + 2) dL_law_524 rfl ?_
  refine z_sld hC hX hbl hS (k := i + 2) (by omega) (by omega) (by omega) dL_law_525 ?_
  refine z_top (b := z2) e2 ?_
  refine lv_aload_n hx hb dL_law_526 rfl (lv_at hl 4 rfl) ?_
  refine lv_iload hx hb dL_law_527 (lv_at hl 0 rfl) ?_
  refine lv_iconst (v := iI 3) hx hb dL_law_529 rfl ?_
  refine z_add hx hb (z := ((i : Nat) : Int) + 3) dL_law_530 rfl ?_
  refine z_sld hC hX hbl hS (k := i + 3) (by omega) (by omega) (by omega) dL_law_531 ?_
  refine z_top (b := z3) e3 ?_
  refine lv_aload_n hx hb dL_law_532 rfl (lv_at hl 1 rfl) ?_
  have hO0 : zO s H := hO.ext0 (zS_F hS)
  have hol := ho.lt
  refine z_goX (Cc + 7) (Sc + 49) (z_runSw (As := [.ref (ρ (0, 0, 0)), .int (iI z1), .int (iI z2), .int (iI z3), .ref oa]) (rest := []) hC hml hl.1 (z_monW (m_X0_sum hE H (hO.ext0 (zS_F hS)) ρ σ z1 z2 z3 oa n9 d9 s9 hh hdm ho hoa hof hnc ⟨hz1, hz2, hz3⟩)) (lw_SW q1143 q1144 q61 q1145) nd_X0_sum rfl rfl (Nat.le_of_ble_eq_true rfl) ⟨Nat.le_of_ble_eq_true rfl, Nat.le_of_ble_eq_true rfl⟩ ⟨zfit (k := 7) (z := 601152) rfl rfl (by omega), zfit (k := 49) (z := 7254250) rfl rfl (by omega)⟩ dL_law_533) ⟨zad (k := 7) rfl (by omega), zad (k := 49) rfl (by omega)⟩ hS (fun q z => Or.inr (by rw [← hH0]; exact z.elim (fun w => FC.ge hh.sep w) (fun w => by rw [w]; exact hoa))) (fun E ce q9 Hx1 locs hp hF hS1 hce hcv hcl => ?_) (fun r H2 locs hp hF hS1 => ?_)
  · exact hp.1.elim
  obtain ⟨⟨kk, rfl, σ1, n1, d1, s1, hpo, ho, hk1⟩, hmk⟩ := hp
  have hP : va_P G.1 zCl [] H2 := va_nil
  have hD : va_D (zA M0 H0) [] := va_nilD
  obtain ⟨ρ1, hh, e0, hdm, hm, hof, hdj⟩ := LI_cls hE hO0 hm hof hom hol hdj hdm hF hmk hpo
  have hP : va_P G.1 zCl ([]) H2 := hP
  have hD : va_D (zA M0 H0) ([]) := hD
  have hS := hS1
  refine lv_istore (lv' := [(5, .int (iI kk)), (4, .int (iI ((i : Nat) : Int))), (3, .ref oa), (2, .ref (μ (0, 0, 0))), (1, .ref (ρ (0, 0, 0))), (0, .ref b)]) hx hb dL_law_536 hl (by decide) rfl (fun ls hl => ?_)
  refine lv_aload_n hx hb dL_law_538 rfl (lv_at hl 3 rfl) ?_
  refine lv_aload_n hx hb dL_law_539 rfl (lv_at hl 5 rfl) ?_
  refine lv_iload hx hb dL_law_540 (lv_at hl 1 rfl) ?_
  refine lv_iconst (v := iI 1) hx hb dL_law_542 rfl ?_
  refine z_add hx hb (z := ((i : Nat) : Int) + 1) dL_law_543 rfl ?_
  refine z_sld hC hX hbl hS (k := i + 1) (by omega) (by omega) (by omega) dL_law_544 ?_
  refine z_top (b := z1) e1 ?_
  refine lv_aload_n hx hb dL_law_545 rfl (lv_at hl 5 rfl) ?_
  refine lv_iload hx hb dL_law_546 (lv_at hl 1 rfl) ?_
  refine lv_iconst (v := iI 2) hx hb dL_law_548 rfl ?_
  refine z_add hx hb (z := ((i : Nat) : Int) + 2) dL_law_549 rfl ?_
  refine z_sld hC hX hbl hS (k := i + 2) (by omega) (by omega) (by omega) dL_law_550 ?_
  refine z_top (b := z2) e2 ?_
  refine lv_aload_n hx hb dL_law_551 rfl (lv_at hl 5 rfl) ?_
  refine lv_iload hx hb dL_law_552 (lv_at hl 1 rfl) ?_
  refine lv_iconst (v := iI 3) hx hb dL_law_554 rfl ?_
  refine z_add hx hb (z := ((i : Nat) : Int) + 3) dL_law_555 rfl ?_
  refine z_sld hC hX hbl hS (k := i + 3) (by omega) (by omega) (by omega) dL_law_556 ?_
  refine z_top (b := z3) e3 ?_
  have hO1 : zO s H2 := hO.ext0 (zS_F hS)
  have hol1 := ho.lt
  refine z_go ((Cc + 7) + 1) ((Sc + 49) + 16) (z_runV (As := [.int (iI z1), .int (iI z2), .int (iI z3)]) (rest := []) hC hml hl.1 (z_mon (m_X3_sum hE H2 (hO.ext0 (zS_F hS)) μ σ th z1 z2 z3 hm ⟨hz1, hz2, hz3⟩)) (lw_V q1658 q1659 q1660 q67 q1661) rfl nd_X3_sum rfl (z_rv hC (ci := 2) rfl hm.2.2.1.1 rfl) rfl (Nat.le_of_ble_eq_true rfl) ⟨Nat.le_of_ble_eq_true rfl, Nat.le_of_ble_eq_true rfl⟩ ⟨zfit (k := 1) (z := 601152) rfl rfl (by omega), zfit (k := 16) (z := 7254250) rfl rfl (by omega)⟩ dL_law_557) ⟨zad (k := 1) rfl (by omega), zad (k := 16) rfl (by omega)⟩ hS (fun q z => Or.inr (by rw [← hH0]; exact FM.ge hm.sep z)) (fun r H3 locs hp hF hS1 => ?_)
  obtain ⟨⟨yb, rfl, k2, σ2, hpm, h2⟩, hmk⟩ := hp
  have hP : va_P G.1 zCl [] H3 := va_nil
  have hD : va_D (zA M0 H0) [] := va_nilD
  have ho := ho.ext hF hom
  obtain ⟨μ1, hm, em, hdm, hh, hom, hdj⟩ := LI_mdl hE hO1 hh hom hol1 hdj hdm hF hmk hpm
  have hP : va_P G.1 zCl ([]) H3 := hP
  have hD : va_D (zA M0 H0) ([]) := hD
  have hS := hS1
  have hag := z_agr (ex := [IOB, IAE]) (X := X_sum σ z1 z2 z3) (B := R_sum σ z1 z2 z3 yb σ2) (nd_2 (by decide)) (fun a E hX => by obtain ⟨y, hR, -⟩ := a; exact Rx_sum hR hX) (fun a E hX => Rx_sum a hX) (fun E E' a b => Xu_sum a b) hk1 h2
  obtain ⟨ek, hk3, hkk⟩ := hag
  have hk3 : k2 ≤ 3 := Nat.le_trans hk3 (by decide)
  subst ek
  refine lv_istore (lv' := [(6, .int (iI yb)), (5, .int (iI ((k2 : Nat) : Int))), (4, .int (iI ((i : Nat) : Int))), (3, .ref oa), (2, .ref (μ (0, 0, 0))), (1, .ref (ρ (0, 0, 0))), (0, .ref b)]) hx hb dL_law_560 hl (by decide) rfl (fun ls hl => ?_)
  refine lv_aload_n hx hb dL_law_562 rfl (lv_at hl 4 rfl) ?_
  rw [← em]
  refine z_go ((Cc + 7) + 1) ((Sc + 49) + 16) (z_runV (As := []) (rest := []) hC hml hl.1 (m_X3_thrown hE H3 (hO.ext0 (zS_F hS)) μ1 σ2 ((k2 : Nat) : Int) hm) (lw_V q1512 q1513 q1514 q67 q1515) rfl nd_X3_thrown rfl (z_rv hC (ci := 2) rfl hm.2.2.1.1 rfl) rfl (Nat.le_of_ble_eq_true rfl) ⟨Nat.le_of_ble_eq_true rfl, Nat.le_of_ble_eq_true rfl⟩ ⟨zfit (k := 0) (z := 601152) rfl rfl (by omega), zfit (k := 0) (z := 7254250) rfl rfl (by omega)⟩ dL_law_563) ⟨zad (k := 0) rfl (by omega), zad (k := 0) rfl (by omega)⟩ hS (fun _ z => z.elim) (fun r H4 locs hp hF hS1 => ?_)
  obtain ⟨_, rfl, rfl⟩ := hp
  have hP : va_P G.1 zCl [] H4 := va_nil
  have hD : va_D (zA M0 H0) [] := va_nilD
  have hh := hh.ext0 hE hF
  have hm := hm.ext0 hE hF
  have hdm := hdm.ext0 hF
  have ho := ho.ext0 hF
  have hP : va_P G.1 zCl ([]) H4 := hP
  have hD : va_D (zA M0 H0) ([]) := hD
  have hS := hS1
  have hhF := hh
  have hmF := hm
  have hdmF := hdm
  have hoF := ho
  have hofF := hof
  have homF := hom
  have hdjF := hdj
  refine lv_iload hx hb dL_law_566 (lv_at hl 1 rfl) ?_
  refine z_ceq (tgt := 573) hx hb dL_law_568 (by decide) (by omega) (fun c5 => ?_) (fun c5 => ?_)
  · refine lv_iload hx hb dL_law_573 (lv_at hl 1 rfl) ?_
    refine z_zne (tgt := 591) hx hb dL_law_575 (by decide) (by omega) (fun c6 => ?_) (fun c6 => ?_)
    · obtain ⟨-, es1, es2⟩ := hkk.resolve_left (fun w => by have := w.1; omega)
      subst es1
      subst es2
      refine lv_goto (tgt := 2435) hx hb dL_law_591 (by decide) ?_
      exact W.widen (by omega) (by omega) (IH _ _ _ ρ1 μ1 _ _ n1 d1 s1 hhF hmF e0 em hdmF hoF hofF homF hdjF hS (lv_sub hl [2, 3, 4, 5, 6] rfl))
    · obtain ⟨k0, hA, hB⟩ := hkk.resolve_right (fun w => by have := w.1; omega)
      obtain ⟨y1, hR1, en⟩ := hA
      obtain ⟨ey, es⟩ := Rd_sum hR1 hB
      subst es
      refine lv_aload_n hx hb dL_law_578 rfl (lv_at hl 3 rfl) ?_
      refine z_getn hC (k := 0) rfl in_X4 hoF (by decide) q886 (fun _ h => h) rfl dL_law_579 ?_
      refine lv_iload hx hb dL_law_582 (lv_at hl 0 rfl) ?_
      refine lv_i2l hx hb dL_law_584 rfl ?_
      refine z_lcq hx hb (by rw [en, ey]) dL_law_585 ?_
      refine z_zeq (tgt := 591) hx hb dL_law_586 (by decide) (by omega) (fun c7 => ?_) (fun c7 => ?_)
      · refine lv_goto (tgt := 2435) hx hb dL_law_591 (by decide) ?_
        exact W.widen (by omega) (by omega) (IH _ _ _ ρ1 μ1 _ _ n1 d1 s1 hhF hmF e0 em hdmF hoF hofF homF hdjF hS (lv_sub hl [2, 3, 4, 5, 6] rfl))
      · omega
  · omega

set_option maxHeartbeats 4000000 in
theorem lwc_6 {p : Program} {l : Launch} {e : Env} {s : State} {m : MethodId} {below : List Frame} {meth : Method} {c : Code} {G : zG} {H0 : Heap} {b L xa ma oa : Nat} {xs : Nat → Int32} {Q : State → Prop} {i Cc Sc : Nat} (hE : zE l s G) (hC : zC p l s G s m #[.ref b] c "VersorhallLaw" cL_law) (hml : c.maxLocals = 9) (hH0 : s.heap = H0) (hX : va_X b L xs s H0) (hbl : b < H0.size) (hL : L ≤ 256) (hnc : zNc s) (hoa : s.heap.size ≤ oa) (hi4 : i + 4 ≤ L) (hcc : Cc + 9000 ≤ 601152 ∧ Sc + 110000 ≤ 7254250) (IH : lwJ p l e s m below meth c G H0 b xa ma oa Q 2435 i (Cc + 9000) (Sc + 110000)) : lwJ p l e s m below meth c G H0 b xa ma oa Q 594 i Cc Sc := by
  intro H locs ls ρ μ σ th n9 d9 s9 hh hm exa ema hdm ho hof hom hdj hS hl
  subst exa
  subst ema
  have hx := hC.x
  have hb := hC.b
  have hp9 := hh.ok.1
  have hO : zO s H0 := ⟨by rw [hH0]; exact Nat.le_refl _, fun _ _ => by rw [hH0]⟩
  have hP : va_P G.1 zCl [] H := va_nil
  have hD : va_D (zA M0 H0) [] := va_nilD
  obtain ⟨z1, e1⟩ : ∃ z : Int, (xs (i + 1)).toInt = z := ⟨_, rfl⟩
  have hz1 : zi z1 := by rw [← e1]; exact ⟨Int32.le_toInt _, Int32.toInt_lt _⟩
  obtain ⟨z2, e2⟩ : ∃ z : Int, (xs (i + 2)).toInt = z := ⟨_, rfl⟩
  have hz2 : zi z2 := by rw [← e2]; exact ⟨Int32.le_toInt _, Int32.toInt_lt _⟩
  obtain ⟨z3, e3⟩ : ∃ z : Int, (xs (i + 3)).toInt = z := ⟨_, rfl⟩
  have hz3 : zi z3 := by rw [← e3]; exact ⟨Int32.le_toInt _, Int32.toInt_lt _⟩
  refine lv_aload_n hx hb dL_law_594 rfl (lv_at hl 3 rfl) ?_
  refine lv_aload_n hx hb dL_law_595 rfl (lv_at hl 4 rfl) ?_
  refine lv_iload hx hb dL_law_596 (lv_at hl 0 rfl) ?_
  refine lv_iconst (v := iI 1) hx hb dL_law_598 rfl ?_
  refine z_add hx hb (z := ((i : Nat) : Int) + 1) dL_law_599 rfl ?_
  refine z_sld hC hX hbl hS (k := i + 1) (by omega) (by omega) (by omega) dL_law_600 ?_
  refine z_top (b := z1) e1 ?_
  refine lv_aload_n hx hb dL_law_601 rfl (lv_at hl 4 rfl) ?_
  refine lv_iload hx hb dL_law_602 (lv_at hl 0 rfl) ?_
  refine lv_iconst (v := iI 2) hx hb dL_law_604 rfl ?_
  refine z_add hx hb (z := ((i : Nat) : Int) + 2) dL_law_605 rfl ?_
  refine z_sld hC hX hbl hS (k := i + 2) (by omega) (by omega) (by omega) dL_law_606 ?_
  refine z_top (b := z2) e2 ?_
  refine lv_aload_n hx hb dL_law_607 rfl (lv_at hl 4 rfl) ?_
  refine lv_iload hx hb dL_law_608 (lv_at hl 0 rfl) ?_
  refine lv_iconst (v := iI 3) hx hb dL_law_610 rfl ?_
  refine z_add hx hb (z := ((i : Nat) : Int) + 3) dL_law_611 rfl ?_
  refine z_sld hC hX hbl hS (k := i + 3) (by omega) (by omega) (by omega) dL_law_612 ?_
  refine z_top (b := z3) e3 ?_
  refine lv_aload_n hx hb dL_law_613 rfl (lv_at hl 1 rfl) ?_
  have hO0 : zO s H := hO.ext0 (zS_F hS)
  have hol := ho.lt
  refine z_goX (Cc + 7) (Sc + 49) (z_runSw (As := [.ref (ρ (0, 0, 0)), .int (iI z1), .int (iI z2), .int (iI z3), .ref oa]) (rest := []) hC hml hl.1 (z_monW (m_X0_product hE H (hO.ext0 (zS_F hS)) ρ σ z1 z2 z3 oa n9 d9 s9 hh hdm ho hoa hof hnc ⟨hz1, hz2, hz3⟩)) (lw_SW q1158 q1159 q61 q1160) nd_X0_product rfl rfl (Nat.le_of_ble_eq_true rfl) ⟨Nat.le_of_ble_eq_true rfl, Nat.le_of_ble_eq_true rfl⟩ ⟨zfit (k := 7) (z := 601152) rfl rfl (by omega), zfit (k := 49) (z := 7254250) rfl rfl (by omega)⟩ dL_law_614) ⟨zad (k := 7) rfl (by omega), zad (k := 49) rfl (by omega)⟩ hS (fun q z => Or.inr (by rw [← hH0]; exact z.elim (fun w => FC.ge hh.sep w) (fun w => by rw [w]; exact hoa))) (fun E ce q9 Hx1 locs hp hF hS1 hce hcv hcl => ?_) (fun r H2 locs hp hF hS1 => ?_)
  · exact hp.1.elim
  obtain ⟨⟨kk, rfl, σ1, n1, d1, s1, hpo, ho, hk1⟩, hmk⟩ := hp
  have hP : va_P G.1 zCl [] H2 := va_nil
  have hD : va_D (zA M0 H0) [] := va_nilD
  obtain ⟨ρ1, hh, e0, hdm, hm, hof, hdj⟩ := LI_cls hE hO0 hm hof hom hol hdj hdm hF hmk hpo
  have hP : va_P G.1 zCl ([]) H2 := hP
  have hD : va_D (zA M0 H0) ([]) := hD
  have hS := hS1
  refine lv_istore (lv' := [(5, .int (iI kk)), (4, .int (iI ((i : Nat) : Int))), (3, .ref oa), (2, .ref (μ (0, 0, 0))), (1, .ref (ρ (0, 0, 0))), (0, .ref b)]) hx hb dL_law_617 hl (by decide) rfl (fun ls hl => ?_)
  refine lv_aload_n hx hb dL_law_619 rfl (lv_at hl 3 rfl) ?_
  refine lv_aload_n hx hb dL_law_620 rfl (lv_at hl 5 rfl) ?_
  refine lv_iload hx hb dL_law_621 (lv_at hl 1 rfl) ?_
  refine lv_iconst (v := iI 1) hx hb dL_law_623 rfl ?_
  refine z_add hx hb (z := ((i : Nat) : Int) + 1) dL_law_624 rfl ?_
  refine z_sld hC hX hbl hS (k := i + 1) (by omega) (by omega) (by omega) dL_law_625 ?_
  refine z_top (b := z1) e1 ?_
  refine lv_aload_n hx hb dL_law_626 rfl (lv_at hl 5 rfl) ?_
  refine lv_iload hx hb dL_law_627 (lv_at hl 1 rfl) ?_
  refine lv_iconst (v := iI 2) hx hb dL_law_629 rfl ?_
  refine z_add hx hb (z := ((i : Nat) : Int) + 2) dL_law_630 rfl ?_
  refine z_sld hC hX hbl hS (k := i + 2) (by omega) (by omega) (by omega) dL_law_631 ?_
  refine z_top (b := z2) e2 ?_
  refine lv_aload_n hx hb dL_law_632 rfl (lv_at hl 5 rfl) ?_
  refine lv_iload hx hb dL_law_633 (lv_at hl 1 rfl) ?_
  refine lv_iconst (v := iI 3) hx hb dL_law_635 rfl ?_
  refine z_add hx hb (z := ((i : Nat) : Int) + 3) dL_law_636 rfl ?_
  refine z_sld hC hX hbl hS (k := i + 3) (by omega) (by omega) (by omega) dL_law_637 ?_
  refine z_top (b := z3) e3 ?_
  have hO1 : zO s H2 := hO.ext0 (zS_F hS)
  have hol1 := ho.lt
  refine z_go ((Cc + 7) + 1) ((Sc + 49) + 16) (z_runV (As := [.int (iI z1), .int (iI z2), .int (iI z3)]) (rest := []) hC hml hl.1 (z_mon (m_X3_product hE H2 (hO.ext0 (zS_F hS)) μ σ th z1 z2 z3 hm ⟨hz1, hz2, hz3⟩)) (lw_V q1678 q1679 q1680 q67 q1681) rfl nd_X3_product rfl (z_rv hC (ci := 2) rfl hm.2.2.1.1 rfl) rfl (Nat.le_of_ble_eq_true rfl) ⟨Nat.le_of_ble_eq_true rfl, Nat.le_of_ble_eq_true rfl⟩ ⟨zfit (k := 1) (z := 601152) rfl rfl (by omega), zfit (k := 16) (z := 7254250) rfl rfl (by omega)⟩ dL_law_638) ⟨zad (k := 1) rfl (by omega), zad (k := 16) rfl (by omega)⟩ hS (fun q z => Or.inr (by rw [← hH0]; exact FM.ge hm.sep z)) (fun r H3 locs hp hF hS1 => ?_)
  obtain ⟨⟨yb, rfl, k2, σ2, hpm, h2⟩, hmk⟩ := hp
  have hP : va_P G.1 zCl [] H3 := va_nil
  have hD : va_D (zA M0 H0) [] := va_nilD
  have ho := ho.ext hF hom
  obtain ⟨μ1, hm, em, hdm, hh, hom, hdj⟩ := LI_mdl hE hO1 hh hom hol1 hdj hdm hF hmk hpm
  have hP : va_P G.1 zCl ([]) H3 := hP
  have hD : va_D (zA M0 H0) ([]) := hD
  have hS := hS1
  have hag := z_agr (ex := [IOB, IAE]) (X := X_product σ z1 z2 z3) (B := R_product σ z1 z2 z3 yb σ2) (nd_2 (by decide)) (fun a E hX => by obtain ⟨y, hR, -⟩ := a; exact Rx_product hR hX) (fun a E hX => Rx_product a hX) (fun E E' a b => Xu_product a b) hk1 h2
  obtain ⟨ek, hk3, hkk⟩ := hag
  have hk3 : k2 ≤ 3 := Nat.le_trans hk3 (by decide)
  subst ek
  refine lv_istore (lv' := [(6, .int (iI yb)), (5, .int (iI ((k2 : Nat) : Int))), (4, .int (iI ((i : Nat) : Int))), (3, .ref oa), (2, .ref (μ (0, 0, 0))), (1, .ref (ρ (0, 0, 0))), (0, .ref b)]) hx hb dL_law_641 hl (by decide) rfl (fun ls hl => ?_)
  refine lv_aload_n hx hb dL_law_643 rfl (lv_at hl 4 rfl) ?_
  rw [← em]
  refine z_go ((Cc + 7) + 1) ((Sc + 49) + 16) (z_runV (As := []) (rest := []) hC hml hl.1 (m_X3_thrown hE H3 (hO.ext0 (zS_F hS)) μ1 σ2 ((k2 : Nat) : Int) hm) (lw_V q1512 q1513 q1514 q67 q1515) rfl nd_X3_thrown rfl (z_rv hC (ci := 2) rfl hm.2.2.1.1 rfl) rfl (Nat.le_of_ble_eq_true rfl) ⟨Nat.le_of_ble_eq_true rfl, Nat.le_of_ble_eq_true rfl⟩ ⟨zfit (k := 0) (z := 601152) rfl rfl (by omega), zfit (k := 0) (z := 7254250) rfl rfl (by omega)⟩ dL_law_644) ⟨zad (k := 0) rfl (by omega), zad (k := 0) rfl (by omega)⟩ hS (fun _ z => z.elim) (fun r H4 locs hp hF hS1 => ?_)
  obtain ⟨_, rfl, rfl⟩ := hp
  have hP : va_P G.1 zCl [] H4 := va_nil
  have hD : va_D (zA M0 H0) [] := va_nilD
  have hh := hh.ext0 hE hF
  have hm := hm.ext0 hE hF
  have hdm := hdm.ext0 hF
  have ho := ho.ext0 hF
  have hP : va_P G.1 zCl ([]) H4 := hP
  have hD : va_D (zA M0 H0) ([]) := hD
  have hS := hS1
  have hhF := hh
  have hmF := hm
  have hdmF := hdm
  have hoF := ho
  have hofF := hof
  have homF := hom
  have hdjF := hdj
  refine lv_iload hx hb dL_law_647 (lv_at hl 1 rfl) ?_
  refine z_ceq (tgt := 654) hx hb dL_law_649 (by decide) (by omega) (fun c5 => ?_) (fun c5 => ?_)
  · refine lv_iload hx hb dL_law_654 (lv_at hl 1 rfl) ?_
    refine z_zne (tgt := 672) hx hb dL_law_656 (by decide) (by omega) (fun c6 => ?_) (fun c6 => ?_)
    · obtain ⟨-, es1, es2⟩ := hkk.resolve_left (fun w => by have := w.1; omega)
      subst es1
      subst es2
      refine lv_goto (tgt := 2435) hx hb dL_law_672 (by decide) ?_
      exact W.widen (by omega) (by omega) (IH _ _ _ ρ1 μ1 _ _ n1 d1 s1 hhF hmF e0 em hdmF hoF hofF homF hdjF hS (lv_sub hl [2, 3, 4, 5, 6] rfl))
    · obtain ⟨k0, hA, hB⟩ := hkk.resolve_right (fun w => by have := w.1; omega)
      obtain ⟨y1, hR1, en⟩ := hA
      obtain ⟨ey, es⟩ := Rd_product hR1 hB
      subst es
      refine lv_aload_n hx hb dL_law_659 rfl (lv_at hl 3 rfl) ?_
      refine z_getn hC (k := 0) rfl in_X4 hoF (by decide) q886 (fun _ h => h) rfl dL_law_660 ?_
      refine lv_iload hx hb dL_law_663 (lv_at hl 0 rfl) ?_
      refine lv_i2l hx hb dL_law_665 rfl ?_
      refine z_lcq hx hb (by rw [en, ey]) dL_law_666 ?_
      refine z_zeq (tgt := 672) hx hb dL_law_667 (by decide) (by omega) (fun c7 => ?_) (fun c7 => ?_)
      · refine lv_goto (tgt := 2435) hx hb dL_law_672 (by decide) ?_
        exact W.widen (by omega) (by omega) (IH _ _ _ ρ1 μ1 _ _ n1 d1 s1 hhF hmF e0 em hdmF hoF hofF homF hdjF hS (lv_sub hl [2, 3, 4, 5, 6] rfl))
      · omega
  · omega

set_option maxHeartbeats 4000000 in
theorem lwc_7 {p : Program} {l : Launch} {e : Env} {s : State} {m : MethodId} {below : List Frame} {meth : Method} {c : Code} {G : zG} {H0 : Heap} {b L xa ma oa : Nat} {xs : Nat → Int32} {Q : State → Prop} {i Cc Sc : Nat} (hE : zE l s G) (hC : zC p l s G s m #[.ref b] c "VersorhallLaw" cL_law) (hml : c.maxLocals = 9) (hH0 : s.heap = H0) (hX : va_X b L xs s H0) (hbl : b < H0.size) (hL : L ≤ 256) (hnc : zNc s) (hoa : s.heap.size ≤ oa) (hi4 : i + 4 ≤ L) (hcc : Cc + 9000 ≤ 601152 ∧ Sc + 110000 ≤ 7254250) (IH : lwJ p l e s m below meth c G H0 b xa ma oa Q 2435 i (Cc + 9000) (Sc + 110000)) : lwJ p l e s m below meth c G H0 b xa ma oa Q 675 i Cc Sc := by
  intro H locs ls ρ μ σ th n9 d9 s9 hh hm exa ema hdm ho hof hom hdj hS hl
  subst exa
  subst ema
  have hx := hC.x
  have hb := hC.b
  have hp9 := hh.ok.1
  have hO : zO s H0 := ⟨by rw [hH0]; exact Nat.le_refl _, fun _ _ => by rw [hH0]⟩
  have hP : va_P G.1 zCl [] H := va_nil
  have hD : va_D (zA M0 H0) [] := va_nilD
  obtain ⟨z1, e1⟩ : ∃ z : Int, (xs (i + 1)).toInt = z := ⟨_, rfl⟩
  have hz1 : zi z1 := by rw [← e1]; exact ⟨Int32.le_toInt _, Int32.toInt_lt _⟩
  obtain ⟨z2, e2⟩ : ∃ z : Int, (xs (i + 2)).toInt = z := ⟨_, rfl⟩
  have hz2 : zi z2 := by rw [← e2]; exact ⟨Int32.le_toInt _, Int32.toInt_lt _⟩
  obtain ⟨z3, e3⟩ : ∃ z : Int, (xs (i + 3)).toInt = z := ⟨_, rfl⟩
  have hz3 : zi z3 := by rw [← e3]; exact ⟨Int32.le_toInt _, Int32.toInt_lt _⟩
  refine lv_aload_n hx hb dL_law_675 rfl (lv_at hl 3 rfl) ?_
  refine lv_aload_n hx hb dL_law_676 rfl (lv_at hl 4 rfl) ?_
  refine lv_iload hx hb dL_law_677 (lv_at hl 0 rfl) ?_
  refine lv_iconst (v := iI 1) hx hb dL_law_679 rfl ?_
  refine z_add hx hb (z := ((i : Nat) : Int) + 1) dL_law_680 rfl ?_
  refine z_sld hC hX hbl hS (k := i + 1) (by omega) (by omega) (by omega) dL_law_681 ?_
  refine z_top (b := z1) e1 ?_
  refine lv_aload_n hx hb dL_law_682 rfl (lv_at hl 4 rfl) ?_
  refine lv_iload hx hb dL_law_683 (lv_at hl 0 rfl) ?_
  refine lv_iconst (v := iI 2) hx hb dL_law_685 rfl ?_
  refine z_add hx hb (z := ((i : Nat) : Int) + 2) dL_law_686 rfl ?_
  refine z_sld hC hX hbl hS (k := i + 2) (by omega) (by omega) (by omega) dL_law_687 ?_
  refine z_top (b := z2) e2 ?_
  refine lv_aload_n hx hb dL_law_688 rfl (lv_at hl 4 rfl) ?_
  refine lv_iload hx hb dL_law_689 (lv_at hl 0 rfl) ?_
  refine lv_iconst (v := iI 3) hx hb dL_law_691 rfl ?_
  refine z_add hx hb (z := ((i : Nat) : Int) + 3) dL_law_692 rfl ?_
  refine z_sld hC hX hbl hS (k := i + 3) (by omega) (by omega) (by omega) dL_law_693 ?_
  refine z_top (b := z3) e3 ?_
  refine lv_aload_n hx hb dL_law_694 rfl (lv_at hl 1 rfl) ?_
  have hO0 : zO s H := hO.ext0 (zS_F hS)
  have hol := ho.lt
  refine z_goX (Cc + 6) (Sc + 43) (z_runSw (As := [.ref (ρ (0, 0, 0)), .int (iI z1), .int (iI z2), .int (iI z3), .ref oa]) (rest := []) hC hml hl.1 (z_monW (m_X0_scale hE H (hO.ext0 (zS_F hS)) ρ σ z1 z2 z3 oa n9 d9 s9 hh hdm ho hoa hof hnc ⟨hz1, hz2, hz3⟩)) (lw_SW q1165 q1166 q61 q1167) nd_X0_scale rfl rfl (Nat.le_of_ble_eq_true rfl) ⟨Nat.le_of_ble_eq_true rfl, Nat.le_of_ble_eq_true rfl⟩ ⟨zfit (k := 6) (z := 601152) rfl rfl (by omega), zfit (k := 43) (z := 7254250) rfl rfl (by omega)⟩ dL_law_695) ⟨zad (k := 6) rfl (by omega), zad (k := 43) rfl (by omega)⟩ hS (fun q z => Or.inr (by rw [← hH0]; exact z.elim (fun w => FC.ge hh.sep w) (fun w => by rw [w]; exact hoa))) (fun E ce q9 Hx1 locs hp hF hS1 hce hcv hcl => ?_) (fun r H2 locs hp hF hS1 => ?_)
  · exact hp.1.elim
  obtain ⟨⟨kk, rfl, σ1, n1, d1, s1, hpo, ho, hk1⟩, hmk⟩ := hp
  have hP : va_P G.1 zCl [] H2 := va_nil
  have hD : va_D (zA M0 H0) [] := va_nilD
  obtain ⟨ρ1, hh, e0, hdm, hm, hof, hdj⟩ := LI_cls hE hO0 hm hof hom hol hdj hdm hF hmk hpo
  have hP : va_P G.1 zCl ([]) H2 := hP
  have hD : va_D (zA M0 H0) ([]) := hD
  have hS := hS1
  refine lv_istore (lv' := [(5, .int (iI kk)), (4, .int (iI ((i : Nat) : Int))), (3, .ref oa), (2, .ref (μ (0, 0, 0))), (1, .ref (ρ (0, 0, 0))), (0, .ref b)]) hx hb dL_law_698 hl (by decide) rfl (fun ls hl => ?_)
  refine lv_aload_n hx hb dL_law_700 rfl (lv_at hl 3 rfl) ?_
  refine lv_aload_n hx hb dL_law_701 rfl (lv_at hl 5 rfl) ?_
  refine lv_iload hx hb dL_law_702 (lv_at hl 1 rfl) ?_
  refine lv_iconst (v := iI 1) hx hb dL_law_704 rfl ?_
  refine z_add hx hb (z := ((i : Nat) : Int) + 1) dL_law_705 rfl ?_
  refine z_sld hC hX hbl hS (k := i + 1) (by omega) (by omega) (by omega) dL_law_706 ?_
  refine z_top (b := z1) e1 ?_
  refine lv_aload_n hx hb dL_law_707 rfl (lv_at hl 5 rfl) ?_
  refine lv_iload hx hb dL_law_708 (lv_at hl 1 rfl) ?_
  refine lv_iconst (v := iI 2) hx hb dL_law_710 rfl ?_
  refine z_add hx hb (z := ((i : Nat) : Int) + 2) dL_law_711 rfl ?_
  refine z_sld hC hX hbl hS (k := i + 2) (by omega) (by omega) (by omega) dL_law_712 ?_
  refine z_top (b := z2) e2 ?_
  refine lv_aload_n hx hb dL_law_713 rfl (lv_at hl 5 rfl) ?_
  refine lv_iload hx hb dL_law_714 (lv_at hl 1 rfl) ?_
  refine lv_iconst (v := iI 3) hx hb dL_law_716 rfl ?_
  refine z_add hx hb (z := ((i : Nat) : Int) + 3) dL_law_717 rfl ?_
  refine z_sld hC hX hbl hS (k := i + 3) (by omega) (by omega) (by omega) dL_law_718 ?_
  refine z_top (b := z3) e3 ?_
  have hO1 : zO s H2 := hO.ext0 (zS_F hS)
  have hol1 := ho.lt
  refine z_go ((Cc + 6) + 1) ((Sc + 43) + 16) (z_runV (As := [.int (iI z1), .int (iI z2), .int (iI z3)]) (rest := []) hC hml hl.1 (z_mon (m_X3_scale hE H2 (hO.ext0 (zS_F hS)) μ σ th z1 z2 z3 hm ⟨hz1, hz2, hz3⟩)) (lw_V q1690 q1691 q1692 q67 q1693) rfl nd_X3_scale rfl (z_rv hC (ci := 2) rfl hm.2.2.1.1 rfl) rfl (Nat.le_of_ble_eq_true rfl) ⟨Nat.le_of_ble_eq_true rfl, Nat.le_of_ble_eq_true rfl⟩ ⟨zfit (k := 1) (z := 601152) rfl rfl (by omega), zfit (k := 16) (z := 7254250) rfl rfl (by omega)⟩ dL_law_719) ⟨zad (k := 1) rfl (by omega), zad (k := 16) rfl (by omega)⟩ hS (fun q z => Or.inr (by rw [← hH0]; exact FM.ge hm.sep z)) (fun r H3 locs hp hF hS1 => ?_)
  obtain ⟨⟨yb, rfl, k2, σ2, hpm, h2⟩, hmk⟩ := hp
  have hP : va_P G.1 zCl [] H3 := va_nil
  have hD : va_D (zA M0 H0) [] := va_nilD
  have ho := ho.ext hF hom
  obtain ⟨μ1, hm, em, hdm, hh, hom, hdj⟩ := LI_mdl hE hO1 hh hom hol1 hdj hdm hF hmk hpm
  have hP : va_P G.1 zCl ([]) H3 := hP
  have hD : va_D (zA M0 H0) ([]) := hD
  have hS := hS1
  have hag := z_agr (ex := [IOB, IAE]) (X := X_scale σ z1 z2 z3) (B := R_scale σ z1 z2 z3 yb σ2) (nd_2 (by decide)) (fun a E hX => by obtain ⟨y, hR, -⟩ := a; exact Rx_scale hR hX) (fun a E hX => Rx_scale a hX) (fun E E' a b => Xu_scale a b) hk1 h2
  obtain ⟨ek, hk3, hkk⟩ := hag
  have hk3 : k2 ≤ 3 := Nat.le_trans hk3 (by decide)
  subst ek
  refine lv_istore (lv' := [(6, .int (iI yb)), (5, .int (iI ((k2 : Nat) : Int))), (4, .int (iI ((i : Nat) : Int))), (3, .ref oa), (2, .ref (μ (0, 0, 0))), (1, .ref (ρ (0, 0, 0))), (0, .ref b)]) hx hb dL_law_722 hl (by decide) rfl (fun ls hl => ?_)
  refine lv_aload_n hx hb dL_law_724 rfl (lv_at hl 4 rfl) ?_
  rw [← em]
  refine z_go ((Cc + 6) + 1) ((Sc + 43) + 16) (z_runV (As := []) (rest := []) hC hml hl.1 (m_X3_thrown hE H3 (hO.ext0 (zS_F hS)) μ1 σ2 ((k2 : Nat) : Int) hm) (lw_V q1512 q1513 q1514 q67 q1515) rfl nd_X3_thrown rfl (z_rv hC (ci := 2) rfl hm.2.2.1.1 rfl) rfl (Nat.le_of_ble_eq_true rfl) ⟨Nat.le_of_ble_eq_true rfl, Nat.le_of_ble_eq_true rfl⟩ ⟨zfit (k := 0) (z := 601152) rfl rfl (by omega), zfit (k := 0) (z := 7254250) rfl rfl (by omega)⟩ dL_law_725) ⟨zad (k := 0) rfl (by omega), zad (k := 0) rfl (by omega)⟩ hS (fun _ z => z.elim) (fun r H4 locs hp hF hS1 => ?_)
  obtain ⟨_, rfl, rfl⟩ := hp
  have hP : va_P G.1 zCl [] H4 := va_nil
  have hD : va_D (zA M0 H0) [] := va_nilD
  have hh := hh.ext0 hE hF
  have hm := hm.ext0 hE hF
  have hdm := hdm.ext0 hF
  have ho := ho.ext0 hF
  have hP : va_P G.1 zCl ([]) H4 := hP
  have hD : va_D (zA M0 H0) ([]) := hD
  have hS := hS1
  have hhF := hh
  have hmF := hm
  have hdmF := hdm
  have hoF := ho
  have hofF := hof
  have homF := hom
  have hdjF := hdj
  refine lv_iload hx hb dL_law_728 (lv_at hl 1 rfl) ?_
  refine z_ceq (tgt := 735) hx hb dL_law_730 (by decide) (by omega) (fun c5 => ?_) (fun c5 => ?_)
  · refine lv_iload hx hb dL_law_735 (lv_at hl 1 rfl) ?_
    refine z_zne (tgt := 753) hx hb dL_law_737 (by decide) (by omega) (fun c6 => ?_) (fun c6 => ?_)
    · obtain ⟨-, es1, es2⟩ := hkk.resolve_left (fun w => by have := w.1; omega)
      subst es1
      subst es2
      refine lv_goto (tgt := 2435) hx hb dL_law_753 (by decide) ?_
      exact W.widen (by omega) (by omega) (IH _ _ _ ρ1 μ1 _ _ n1 d1 s1 hhF hmF e0 em hdmF hoF hofF homF hdjF hS (lv_sub hl [2, 3, 4, 5, 6] rfl))
    · obtain ⟨k0, hA, hB⟩ := hkk.resolve_right (fun w => by have := w.1; omega)
      obtain ⟨y1, hR1, en⟩ := hA
      obtain ⟨ey, es⟩ := Rd_scale hR1 hB
      subst es
      refine lv_aload_n hx hb dL_law_740 rfl (lv_at hl 3 rfl) ?_
      refine z_getn hC (k := 0) rfl in_X4 hoF (by decide) q886 (fun _ h => h) rfl dL_law_741 ?_
      refine lv_iload hx hb dL_law_744 (lv_at hl 0 rfl) ?_
      refine lv_i2l hx hb dL_law_746 rfl ?_
      refine z_lcq hx hb (by rw [en, ey]) dL_law_747 ?_
      refine z_zeq (tgt := 753) hx hb dL_law_748 (by decide) (by omega) (fun c7 => ?_) (fun c7 => ?_)
      · refine lv_goto (tgt := 2435) hx hb dL_law_753 (by decide) ?_
        exact W.widen (by omega) (by omega) (IH _ _ _ ρ1 μ1 _ _ n1 d1 s1 hhF hmF e0 em hdmF hoF hofF homF hdjF hS (lv_sub hl [2, 3, 4, 5, 6] rfl))
      · omega
  · omega

set_option maxHeartbeats 4000000 in
theorem lwc_8 {p : Program} {l : Launch} {e : Env} {s : State} {m : MethodId} {below : List Frame} {meth : Method} {c : Code} {G : zG} {H0 : Heap} {b L xa ma oa : Nat} {xs : Nat → Int32} {Q : State → Prop} {i Cc Sc : Nat} (hE : zE l s G) (hC : zC p l s G s m #[.ref b] c "VersorhallLaw" cL_law) (hml : c.maxLocals = 9) (hH0 : s.heap = H0) (hX : va_X b L xs s H0) (hbl : b < H0.size) (hL : L ≤ 256) (hnc : zNc s) (hoa : s.heap.size ≤ oa) (hi4 : i + 4 ≤ L) (hcc : Cc + 9000 ≤ 601152 ∧ Sc + 110000 ≤ 7254250) (IH : lwJ p l e s m below meth c G H0 b xa ma oa Q 2435 i (Cc + 9000) (Sc + 110000)) : lwJ p l e s m below meth c G H0 b xa ma oa Q 756 i Cc Sc := by
  intro H locs ls ρ μ σ th n9 d9 s9 hh hm exa ema hdm ho hof hom hdj hS hl
  subst exa
  subst ema
  have hx := hC.x
  have hb := hC.b
  have hp9 := hh.ok.1
  have hO : zO s H0 := ⟨by rw [hH0]; exact Nat.le_refl _, fun _ _ => by rw [hH0]⟩
  have hP : va_P G.1 zCl [] H := va_nil
  have hD : va_D (zA M0 H0) [] := va_nilD
  obtain ⟨z1, e1⟩ : ∃ z : Int, (xs (i + 1)).toInt = z := ⟨_, rfl⟩
  have hz1 : zi z1 := by rw [← e1]; exact ⟨Int32.le_toInt _, Int32.toInt_lt _⟩
  obtain ⟨z2, e2⟩ : ∃ z : Int, (xs (i + 2)).toInt = z := ⟨_, rfl⟩
  have hz2 : zi z2 := by rw [← e2]; exact ⟨Int32.le_toInt _, Int32.toInt_lt _⟩
  refine lv_aload_n hx hb dL_law_756 rfl (lv_at hl 3 rfl) ?_
  refine lv_aload_n hx hb dL_law_757 rfl (lv_at hl 4 rfl) ?_
  refine lv_iload hx hb dL_law_758 (lv_at hl 0 rfl) ?_
  refine lv_iconst (v := iI 1) hx hb dL_law_760 rfl ?_
  refine z_add hx hb (z := ((i : Nat) : Int) + 1) dL_law_761 rfl ?_
  refine z_sld hC hX hbl hS (k := i + 1) (by omega) (by omega) (by omega) dL_law_762 ?_
  refine z_top (b := z1) e1 ?_
  refine lv_aload_n hx hb dL_law_763 rfl (lv_at hl 4 rfl) ?_
  refine lv_iload hx hb dL_law_764 (lv_at hl 0 rfl) ?_
  refine lv_iconst (v := iI 2) hx hb dL_law_766 rfl ?_
  refine z_add hx hb (z := ((i : Nat) : Int) + 2) dL_law_767 rfl ?_
  refine z_sld hC hX hbl hS (k := i + 2) (by omega) (by omega) (by omega) dL_law_768 ?_
  refine z_top (b := z2) e2 ?_
  refine lv_aload_n hx hb dL_law_769 rfl (lv_at hl 1 rfl) ?_
  have hO0 : zO s H := hO.ext0 (zS_F hS)
  have hol := ho.lt
  refine z_goX (Cc + 5) (Sc + 37) (z_runSw (As := [.ref (ρ (0, 0, 0)), .int (iI z1), .int (iI z2), .ref oa]) (rest := []) hC hml hl.1 (z_monW (m_X0_conjugate hE H (hO.ext0 (zS_F hS)) ρ σ z1 z2 oa n9 d9 s9 hh hdm ho hoa hof hnc ⟨hz1, hz2⟩)) (lw_SW q1176 q1177 q61 q1178) nd_X0_conjugate rfl rfl (Nat.le_of_ble_eq_true rfl) ⟨Nat.le_of_ble_eq_true rfl, Nat.le_of_ble_eq_true rfl⟩ ⟨zfit (k := 5) (z := 601152) rfl rfl (by omega), zfit (k := 37) (z := 7254250) rfl rfl (by omega)⟩ dL_law_770) ⟨zad (k := 5) rfl (by omega), zad (k := 37) rfl (by omega)⟩ hS (fun q z => Or.inr (by rw [← hH0]; exact z.elim (fun w => FC.ge hh.sep w) (fun w => by rw [w]; exact hoa))) (fun E ce q9 Hx1 locs hp hF hS1 hce hcv hcl => ?_) (fun r H2 locs hp hF hS1 => ?_)
  · exact hp.1.elim
  obtain ⟨⟨kk, rfl, σ1, n1, d1, s1, hpo, ho, hk1⟩, hmk⟩ := hp
  have hP : va_P G.1 zCl [] H2 := va_nil
  have hD : va_D (zA M0 H0) [] := va_nilD
  obtain ⟨ρ1, hh, e0, hdm, hm, hof, hdj⟩ := LI_cls hE hO0 hm hof hom hol hdj hdm hF hmk hpo
  have hP : va_P G.1 zCl ([]) H2 := hP
  have hD : va_D (zA M0 H0) ([]) := hD
  have hS := hS1
  refine lv_istore (lv' := [(5, .int (iI kk)), (4, .int (iI ((i : Nat) : Int))), (3, .ref oa), (2, .ref (μ (0, 0, 0))), (1, .ref (ρ (0, 0, 0))), (0, .ref b)]) hx hb dL_law_773 hl (by decide) rfl (fun ls hl => ?_)
  refine lv_aload_n hx hb dL_law_775 rfl (lv_at hl 3 rfl) ?_
  refine lv_aload_n hx hb dL_law_776 rfl (lv_at hl 5 rfl) ?_
  refine lv_iload hx hb dL_law_777 (lv_at hl 1 rfl) ?_
  refine lv_iconst (v := iI 1) hx hb dL_law_779 rfl ?_
  refine z_add hx hb (z := ((i : Nat) : Int) + 1) dL_law_780 rfl ?_
  refine z_sld hC hX hbl hS (k := i + 1) (by omega) (by omega) (by omega) dL_law_781 ?_
  refine z_top (b := z1) e1 ?_
  refine lv_aload_n hx hb dL_law_782 rfl (lv_at hl 5 rfl) ?_
  refine lv_iload hx hb dL_law_783 (lv_at hl 1 rfl) ?_
  refine lv_iconst (v := iI 2) hx hb dL_law_785 rfl ?_
  refine z_add hx hb (z := ((i : Nat) : Int) + 2) dL_law_786 rfl ?_
  refine z_sld hC hX hbl hS (k := i + 2) (by omega) (by omega) (by omega) dL_law_787 ?_
  refine z_top (b := z2) e2 ?_
  have hO1 : zO s H2 := hO.ext0 (zS_F hS)
  have hol1 := ho.lt
  refine z_go ((Cc + 5) + 1) ((Sc + 37) + 16) (z_runV (As := [.int (iI z1), .int (iI z2)]) (rest := []) hC hml hl.1 (z_mon (m_X3_conjugate hE H2 (hO.ext0 (zS_F hS)) μ σ th z1 z2 hm ⟨hz1, hz2⟩)) (lw_V q1698 q1699 q1700 q67 q1701) rfl nd_X3_conjugate rfl (z_rv hC (ci := 2) rfl hm.2.2.1.1 rfl) rfl (Nat.le_of_ble_eq_true rfl) ⟨Nat.le_of_ble_eq_true rfl, Nat.le_of_ble_eq_true rfl⟩ ⟨zfit (k := 1) (z := 601152) rfl rfl (by omega), zfit (k := 16) (z := 7254250) rfl rfl (by omega)⟩ dL_law_788) ⟨zad (k := 1) rfl (by omega), zad (k := 16) rfl (by omega)⟩ hS (fun q z => Or.inr (by rw [← hH0]; exact FM.ge hm.sep z)) (fun r H3 locs hp hF hS1 => ?_)
  obtain ⟨⟨yb, rfl, k2, σ2, hpm, h2⟩, hmk⟩ := hp
  have hP : va_P G.1 zCl [] H3 := va_nil
  have hD : va_D (zA M0 H0) [] := va_nilD
  have ho := ho.ext hF hom
  obtain ⟨μ1, hm, em, hdm, hh, hom, hdj⟩ := LI_mdl hE hO1 hh hom hol1 hdj hdm hF hmk hpm
  have hP : va_P G.1 zCl ([]) H3 := hP
  have hD : va_D (zA M0 H0) ([]) := hD
  have hS := hS1
  have hag := z_agr (ex := [IOB, IAE]) (X := X_conjugate σ z1 z2) (B := R_conjugate σ z1 z2 yb σ2) (nd_2 (by decide)) (fun a E hX => by obtain ⟨y, hR, -⟩ := a; exact Rx_conjugate hR hX) (fun a E hX => Rx_conjugate a hX) (fun E E' a b => Xu_conjugate a b) hk1 h2
  obtain ⟨ek, hk3, hkk⟩ := hag
  have hk3 : k2 ≤ 3 := Nat.le_trans hk3 (by decide)
  subst ek
  refine lv_istore (lv' := [(6, .int (iI yb)), (5, .int (iI ((k2 : Nat) : Int))), (4, .int (iI ((i : Nat) : Int))), (3, .ref oa), (2, .ref (μ (0, 0, 0))), (1, .ref (ρ (0, 0, 0))), (0, .ref b)]) hx hb dL_law_791 hl (by decide) rfl (fun ls hl => ?_)
  refine lv_aload_n hx hb dL_law_793 rfl (lv_at hl 4 rfl) ?_
  rw [← em]
  refine z_go ((Cc + 5) + 1) ((Sc + 37) + 16) (z_runV (As := []) (rest := []) hC hml hl.1 (m_X3_thrown hE H3 (hO.ext0 (zS_F hS)) μ1 σ2 ((k2 : Nat) : Int) hm) (lw_V q1512 q1513 q1514 q67 q1515) rfl nd_X3_thrown rfl (z_rv hC (ci := 2) rfl hm.2.2.1.1 rfl) rfl (Nat.le_of_ble_eq_true rfl) ⟨Nat.le_of_ble_eq_true rfl, Nat.le_of_ble_eq_true rfl⟩ ⟨zfit (k := 0) (z := 601152) rfl rfl (by omega), zfit (k := 0) (z := 7254250) rfl rfl (by omega)⟩ dL_law_794) ⟨zad (k := 0) rfl (by omega), zad (k := 0) rfl (by omega)⟩ hS (fun _ z => z.elim) (fun r H4 locs hp hF hS1 => ?_)
  obtain ⟨_, rfl, rfl⟩ := hp
  have hP : va_P G.1 zCl [] H4 := va_nil
  have hD : va_D (zA M0 H0) [] := va_nilD
  have hh := hh.ext0 hE hF
  have hm := hm.ext0 hE hF
  have hdm := hdm.ext0 hF
  have ho := ho.ext0 hF
  have hP : va_P G.1 zCl ([]) H4 := hP
  have hD : va_D (zA M0 H0) ([]) := hD
  have hS := hS1
  have hhF := hh
  have hmF := hm
  have hdmF := hdm
  have hoF := ho
  have hofF := hof
  have homF := hom
  have hdjF := hdj
  refine lv_iload hx hb dL_law_797 (lv_at hl 1 rfl) ?_
  refine z_ceq (tgt := 804) hx hb dL_law_799 (by decide) (by omega) (fun c5 => ?_) (fun c5 => ?_)
  · refine lv_iload hx hb dL_law_804 (lv_at hl 1 rfl) ?_
    refine z_zne (tgt := 822) hx hb dL_law_806 (by decide) (by omega) (fun c6 => ?_) (fun c6 => ?_)
    · obtain ⟨-, es1, es2⟩ := hkk.resolve_left (fun w => by have := w.1; omega)
      subst es1
      subst es2
      refine lv_goto (tgt := 2435) hx hb dL_law_822 (by decide) ?_
      exact W.widen (by omega) (by omega) (IH _ _ _ ρ1 μ1 _ _ n1 d1 s1 hhF hmF e0 em hdmF hoF hofF homF hdjF hS (lv_sub hl [2, 3, 4, 5, 6] rfl))
    · obtain ⟨k0, hA, hB⟩ := hkk.resolve_right (fun w => by have := w.1; omega)
      obtain ⟨y1, hR1, en⟩ := hA
      obtain ⟨ey, es⟩ := Rd_conjugate hR1 hB
      subst es
      refine lv_aload_n hx hb dL_law_809 rfl (lv_at hl 3 rfl) ?_
      refine z_getn hC (k := 0) rfl in_X4 hoF (by decide) q886 (fun _ h => h) rfl dL_law_810 ?_
      refine lv_iload hx hb dL_law_813 (lv_at hl 0 rfl) ?_
      refine lv_i2l hx hb dL_law_815 rfl ?_
      refine z_lcq hx hb (by rw [en, ey]) dL_law_816 ?_
      refine z_zeq (tgt := 822) hx hb dL_law_817 (by decide) (by omega) (fun c7 => ?_) (fun c7 => ?_)
      · refine lv_goto (tgt := 2435) hx hb dL_law_822 (by decide) ?_
        exact W.widen (by omega) (by omega) (IH _ _ _ ρ1 μ1 _ _ n1 d1 s1 hhF hmF e0 em hdmF hoF hofF homF hdjF hS (lv_sub hl [2, 3, 4, 5, 6] rfl))
      · omega
  · omega

set_option maxHeartbeats 4000000 in
theorem lwc_9 {p : Program} {l : Launch} {e : Env} {s : State} {m : MethodId} {below : List Frame} {meth : Method} {c : Code} {G : zG} {H0 : Heap} {b L xa ma oa : Nat} {xs : Nat → Int32} {Q : State → Prop} {i Cc Sc : Nat} (hE : zE l s G) (hC : zC p l s G s m #[.ref b] c "VersorhallLaw" cL_law) (hml : c.maxLocals = 9) (hH0 : s.heap = H0) (hX : va_X b L xs s H0) (hbl : b < H0.size) (hL : L ≤ 256) (hnc : zNc s) (hoa : s.heap.size ≤ oa) (hi4 : i + 4 ≤ L) (hcc : Cc + 9000 ≤ 601152 ∧ Sc + 110000 ≤ 7254250) (IH : lwJ p l e s m below meth c G H0 b xa ma oa Q 2435 i (Cc + 9000) (Sc + 110000)) : lwJ p l e s m below meth c G H0 b xa ma oa Q 825 i Cc Sc := by
  intro H locs ls ρ μ σ th n9 d9 s9 hh hm exa ema hdm ho hof hom hdj hS hl
  subst exa
  subst ema
  have hx := hC.x
  have hb := hC.b
  have hp9 := hh.ok.1
  have hO : zO s H0 := ⟨by rw [hH0]; exact Nat.le_refl _, fun _ _ => by rw [hH0]⟩
  have hP : va_P G.1 zCl [] H := va_nil
  have hD : va_D (zA M0 H0) [] := va_nilD
  obtain ⟨z1, e1⟩ : ∃ z : Int, (xs (i + 1)).toInt = z := ⟨_, rfl⟩
  have hz1 : zi z1 := by rw [← e1]; exact ⟨Int32.le_toInt _, Int32.toInt_lt _⟩
  obtain ⟨z2, e2⟩ : ∃ z : Int, (xs (i + 2)).toInt = z := ⟨_, rfl⟩
  have hz2 : zi z2 := by rw [← e2]; exact ⟨Int32.le_toInt _, Int32.toInt_lt _⟩
  obtain ⟨z3, e3⟩ : ∃ z : Int, (xs (i + 3)).toInt = z := ⟨_, rfl⟩
  have hz3 : zi z3 := by rw [← e3]; exact ⟨Int32.le_toInt _, Int32.toInt_lt _⟩
  refine lv_aload_n hx hb dL_law_825 rfl (lv_at hl 3 rfl) ?_
  refine lv_aload_n hx hb dL_law_826 rfl (lv_at hl 4 rfl) ?_
  refine lv_iload hx hb dL_law_827 (lv_at hl 0 rfl) ?_
  refine lv_iconst (v := iI 1) hx hb dL_law_829 rfl ?_
  refine z_add hx hb (z := ((i : Nat) : Int) + 1) dL_law_830 rfl ?_
  refine z_sld hC hX hbl hS (k := i + 1) (by omega) (by omega) (by omega) dL_law_831 ?_
  refine z_top (b := z1) e1 ?_
  refine lv_aload_n hx hb dL_law_832 rfl (lv_at hl 4 rfl) ?_
  refine lv_iload hx hb dL_law_833 (lv_at hl 0 rfl) ?_
  refine lv_iconst (v := iI 2) hx hb dL_law_835 rfl ?_
  refine z_add hx hb (z := ((i : Nat) : Int) + 2) dL_law_836 rfl ?_
  refine z_sld hC hX hbl hS (k := i + 2) (by omega) (by omega) (by omega) dL_law_837 ?_
  refine z_top (b := z2) e2 ?_
  refine lv_aload_n hx hb dL_law_838 rfl (lv_at hl 4 rfl) ?_
  refine lv_iload hx hb dL_law_839 (lv_at hl 0 rfl) ?_
  refine lv_iconst (v := iI 3) hx hb dL_law_841 rfl ?_
  refine z_add hx hb (z := ((i : Nat) : Int) + 3) dL_law_842 rfl ?_
  refine z_sld hC hX hbl hS (k := i + 3) (by omega) (by omega) (by omega) dL_law_843 ?_
  refine z_top (b := z3) e3 ?_
  refine lv_aload_n hx hb dL_law_844 rfl (lv_at hl 1 rfl) ?_
  have hO0 : zO s H := hO.ext0 (zS_F hS)
  have hol := ho.lt
  refine z_goX (Cc + 126) (Sc + 1224) (z_runSw (As := [.ref (ρ (0, 0, 0)), .int (iI z1), .int (iI z2), .int (iI z3), .ref oa]) (rest := []) hC hml hl.1 (z_monW (m_X0_power hE H (hO.ext0 (zS_F hS)) ρ σ z1 z2 z3 oa n9 d9 s9 hh hdm ho hoa hof hnc ⟨hz1, hz2, hz3⟩)) (lw_SW q1184 q1185 q61 q1186) nd_X0_power rfl rfl (Nat.le_of_ble_eq_true rfl) ⟨Nat.le_of_ble_eq_true rfl, Nat.le_of_ble_eq_true rfl⟩ ⟨zfit (k := 126) (z := 601152) rfl rfl (by omega), zfit (k := 1224) (z := 7254250) rfl rfl (by omega)⟩ dL_law_845) ⟨zad (k := 126) rfl (by omega), zad (k := 1224) rfl (by omega)⟩ hS (fun q z => Or.inr (by rw [← hH0]; exact z.elim (fun w => FC.ge hh.sep w) (fun w => by rw [w]; exact hoa))) (fun E ce q9 Hx1 locs hp hF hS1 hce hcv hcl => ?_) (fun r H2 locs hp hF hS1 => ?_)
  · exact hp.1.elim
  obtain ⟨⟨kk, rfl, σ1, n1, d1, s1, hpo, ho, hk1⟩, hmk⟩ := hp
  have hP : va_P G.1 zCl [] H2 := va_nil
  have hD : va_D (zA M0 H0) [] := va_nilD
  obtain ⟨ρ1, hh, e0, hdm, hm, hof, hdj⟩ := LI_cls hE hO0 hm hof hom hol hdj hdm hF hmk hpo
  have hP : va_P G.1 zCl ([]) H2 := hP
  have hD : va_D (zA M0 H0) ([]) := hD
  have hS := hS1
  refine lv_istore (lv' := [(5, .int (iI kk)), (4, .int (iI ((i : Nat) : Int))), (3, .ref oa), (2, .ref (μ (0, 0, 0))), (1, .ref (ρ (0, 0, 0))), (0, .ref b)]) hx hb dL_law_848 hl (by decide) rfl (fun ls hl => ?_)
  refine lv_aload_n hx hb dL_law_850 rfl (lv_at hl 3 rfl) ?_
  refine lv_aload_n hx hb dL_law_851 rfl (lv_at hl 5 rfl) ?_
  refine lv_iload hx hb dL_law_852 (lv_at hl 1 rfl) ?_
  refine lv_iconst (v := iI 1) hx hb dL_law_854 rfl ?_
  refine z_add hx hb (z := ((i : Nat) : Int) + 1) dL_law_855 rfl ?_
  refine z_sld hC hX hbl hS (k := i + 1) (by omega) (by omega) (by omega) dL_law_856 ?_
  refine z_top (b := z1) e1 ?_
  refine lv_aload_n hx hb dL_law_857 rfl (lv_at hl 5 rfl) ?_
  refine lv_iload hx hb dL_law_858 (lv_at hl 1 rfl) ?_
  refine lv_iconst (v := iI 2) hx hb dL_law_860 rfl ?_
  refine z_add hx hb (z := ((i : Nat) : Int) + 2) dL_law_861 rfl ?_
  refine z_sld hC hX hbl hS (k := i + 2) (by omega) (by omega) (by omega) dL_law_862 ?_
  refine z_top (b := z2) e2 ?_
  refine lv_aload_n hx hb dL_law_863 rfl (lv_at hl 5 rfl) ?_
  refine lv_iload hx hb dL_law_864 (lv_at hl 1 rfl) ?_
  refine lv_iconst (v := iI 3) hx hb dL_law_866 rfl ?_
  refine z_add hx hb (z := ((i : Nat) : Int) + 3) dL_law_867 rfl ?_
  refine z_sld hC hX hbl hS (k := i + 3) (by omega) (by omega) (by omega) dL_law_868 ?_
  refine z_top (b := z3) e3 ?_
  have hO1 : zO s H2 := hO.ext0 (zS_F hS)
  have hol1 := ho.lt
  refine z_go ((Cc + 126) + 70) ((Sc + 1224) + 1100) (z_runV (As := [.int (iI z1), .int (iI z2), .int (iI z3)]) (rest := []) hC hml hl.1 (z_mon (m_X3_power hE H2 (hO.ext0 (zS_F hS)) μ σ th z1 z2 z3 hm ⟨hz1, hz2, hz3⟩)) (lw_V q1706 q1707 q1708 q67 q1709) rfl nd_X3_power rfl (z_rv hC (ci := 2) rfl hm.2.2.1.1 rfl) rfl (Nat.le_of_ble_eq_true rfl) ⟨Nat.le_of_ble_eq_true rfl, Nat.le_of_ble_eq_true rfl⟩ ⟨zfit (k := 70) (z := 601152) rfl rfl (by omega), zfit (k := 1100) (z := 7254250) rfl rfl (by omega)⟩ dL_law_869) ⟨zad (k := 70) rfl (by omega), zad (k := 1100) rfl (by omega)⟩ hS (fun q z => Or.inr (by rw [← hH0]; exact FM.ge hm.sep z)) (fun r H3 locs hp hF hS1 => ?_)
  obtain ⟨⟨yb, rfl, k2, σ2, hpm, h2⟩, hmk⟩ := hp
  have hP : va_P G.1 zCl [] H3 := va_nil
  have hD : va_D (zA M0 H0) [] := va_nilD
  have ho := ho.ext hF hom
  obtain ⟨μ1, hm, em, hdm, hh, hom, hdj⟩ := LI_mdl hE hO1 hh hom hol1 hdj hdm hF hmk hpm
  have hP : va_P G.1 zCl ([]) H3 := hP
  have hD : va_D (zA M0 H0) ([]) := hD
  have hS := hS1
  have hag := z_agr (ex := [IOB, IAE]) (X := X_power σ z1 z2 z3) (B := R_power σ z1 z2 z3 yb σ2) (nd_2 (by decide)) (fun a E hX => by obtain ⟨y, hR, -⟩ := a; exact Rx_power hR hX) (fun a E hX => Rx_power a hX) (fun E E' a b => Xu_power a b) hk1 h2
  obtain ⟨ek, hk3, hkk⟩ := hag
  have hk3 : k2 ≤ 3 := Nat.le_trans hk3 (by decide)
  subst ek
  refine lv_istore (lv' := [(6, .int (iI yb)), (5, .int (iI ((k2 : Nat) : Int))), (4, .int (iI ((i : Nat) : Int))), (3, .ref oa), (2, .ref (μ (0, 0, 0))), (1, .ref (ρ (0, 0, 0))), (0, .ref b)]) hx hb dL_law_872 hl (by decide) rfl (fun ls hl => ?_)
  refine lv_aload_n hx hb dL_law_874 rfl (lv_at hl 4 rfl) ?_
  rw [← em]
  refine z_go ((Cc + 126) + 70) ((Sc + 1224) + 1100) (z_runV (As := []) (rest := []) hC hml hl.1 (m_X3_thrown hE H3 (hO.ext0 (zS_F hS)) μ1 σ2 ((k2 : Nat) : Int) hm) (lw_V q1512 q1513 q1514 q67 q1515) rfl nd_X3_thrown rfl (z_rv hC (ci := 2) rfl hm.2.2.1.1 rfl) rfl (Nat.le_of_ble_eq_true rfl) ⟨Nat.le_of_ble_eq_true rfl, Nat.le_of_ble_eq_true rfl⟩ ⟨zfit (k := 0) (z := 601152) rfl rfl (by omega), zfit (k := 0) (z := 7254250) rfl rfl (by omega)⟩ dL_law_875) ⟨zad (k := 0) rfl (by omega), zad (k := 0) rfl (by omega)⟩ hS (fun _ z => z.elim) (fun r H4 locs hp hF hS1 => ?_)
  obtain ⟨_, rfl, rfl⟩ := hp
  have hP : va_P G.1 zCl [] H4 := va_nil
  have hD : va_D (zA M0 H0) [] := va_nilD
  have hh := hh.ext0 hE hF
  have hm := hm.ext0 hE hF
  have hdm := hdm.ext0 hF
  have ho := ho.ext0 hF
  have hP : va_P G.1 zCl ([]) H4 := hP
  have hD : va_D (zA M0 H0) ([]) := hD
  have hS := hS1
  have hhF := hh
  have hmF := hm
  have hdmF := hdm
  have hoF := ho
  have hofF := hof
  have homF := hom
  have hdjF := hdj
  refine lv_iload hx hb dL_law_878 (lv_at hl 1 rfl) ?_
  refine z_ceq (tgt := 885) hx hb dL_law_880 (by decide) (by omega) (fun c5 => ?_) (fun c5 => ?_)
  · refine lv_iload hx hb dL_law_885 (lv_at hl 1 rfl) ?_
    refine z_zne (tgt := 903) hx hb dL_law_887 (by decide) (by omega) (fun c6 => ?_) (fun c6 => ?_)
    · obtain ⟨-, es1, es2⟩ := hkk.resolve_left (fun w => by have := w.1; omega)
      subst es1
      subst es2
      refine lv_goto (tgt := 2435) hx hb dL_law_903 (by decide) ?_
      exact W.widen (by omega) (by omega) (IH _ _ _ ρ1 μ1 _ _ n1 d1 s1 hhF hmF e0 em hdmF hoF hofF homF hdjF hS (lv_sub hl [2, 3, 4, 5, 6] rfl))
    · obtain ⟨k0, hA, hB⟩ := hkk.resolve_right (fun w => by have := w.1; omega)
      obtain ⟨y1, hR1, en⟩ := hA
      obtain ⟨ey, es⟩ := Rd_power hR1 hB
      subst es
      refine lv_aload_n hx hb dL_law_890 rfl (lv_at hl 3 rfl) ?_
      refine z_getn hC (k := 0) rfl in_X4 hoF (by decide) q886 (fun _ h => h) rfl dL_law_891 ?_
      refine lv_iload hx hb dL_law_894 (lv_at hl 0 rfl) ?_
      refine lv_i2l hx hb dL_law_896 rfl ?_
      refine z_lcq hx hb (by rw [en, ey]) dL_law_897 ?_
      refine z_zeq (tgt := 903) hx hb dL_law_898 (by decide) (by omega) (fun c7 => ?_) (fun c7 => ?_)
      · refine lv_goto (tgt := 2435) hx hb dL_law_903 (by decide) ?_
        exact W.widen (by omega) (by omega) (IH _ _ _ ρ1 μ1 _ _ n1 d1 s1 hhF hmF e0 em hdmF hoF hofF homF hdjF hS (lv_sub hl [2, 3, 4, 5, 6] rfl))
      · omega
  · omega

set_option maxHeartbeats 4000000 in
theorem lwc_10 {p : Program} {l : Launch} {e : Env} {s : State} {m : MethodId} {below : List Frame} {meth : Method} {c : Code} {G : zG} {H0 : Heap} {b L xa ma oa : Nat} {xs : Nat → Int32} {Q : State → Prop} {i Cc Sc : Nat} (hE : zE l s G) (hC : zC p l s G s m #[.ref b] c "VersorhallLaw" cL_law) (hml : c.maxLocals = 9) (hH0 : s.heap = H0) (hX : va_X b L xs s H0) (hbl : b < H0.size) (hL : L ≤ 256) (hnc : zNc s) (hoa : s.heap.size ≤ oa) (hi4 : i + 4 ≤ L) (hcc : Cc + 9000 ≤ 601152 ∧ Sc + 110000 ≤ 7254250) (IH : lwJ p l e s m below meth c G H0 b xa ma oa Q 2435 i (Cc + 9000) (Sc + 110000)) : lwJ p l e s m below meth c G H0 b xa ma oa Q 906 i Cc Sc := by
  intro H locs ls ρ μ σ th n9 d9 s9 hh hm exa ema hdm ho hof hom hdj hS hl
  subst exa
  subst ema
  have hx := hC.x
  have hb := hC.b
  have hp9 := hh.ok.1
  have hO : zO s H0 := ⟨by rw [hH0]; exact Nat.le_refl _, fun _ _ => by rw [hH0]⟩
  have hP : va_P G.1 zCl [] H := va_nil
  have hD : va_D (zA M0 H0) [] := va_nilD
  obtain ⟨z1, e1⟩ : ∃ z : Int, (xs (i + 1)).toInt = z := ⟨_, rfl⟩
  have hz1 : zi z1 := by rw [← e1]; exact ⟨Int32.le_toInt _, Int32.toInt_lt _⟩
  obtain ⟨z2, e2⟩ : ∃ z : Int, (xs (i + 2)).toInt = z := ⟨_, rfl⟩
  have hz2 : zi z2 := by rw [← e2]; exact ⟨Int32.le_toInt _, Int32.toInt_lt _⟩
  refine lv_aload_n hx hb dL_law_906 rfl (lv_at hl 3 rfl) ?_
  refine lv_aload_n hx hb dL_law_907 rfl (lv_at hl 4 rfl) ?_
  refine lv_iload hx hb dL_law_908 (lv_at hl 0 rfl) ?_
  refine lv_iconst (v := iI 1) hx hb dL_law_910 rfl ?_
  refine z_add hx hb (z := ((i : Nat) : Int) + 1) dL_law_911 rfl ?_
  refine z_sld hC hX hbl hS (k := i + 1) (by omega) (by omega) (by omega) dL_law_912 ?_
  refine z_top (b := z1) e1 ?_
  refine lv_aload_n hx hb dL_law_913 rfl (lv_at hl 4 rfl) ?_
  refine lv_iload hx hb dL_law_914 (lv_at hl 0 rfl) ?_
  refine lv_iconst (v := iI 2) hx hb dL_law_916 rfl ?_
  refine z_add hx hb (z := ((i : Nat) : Int) + 2) dL_law_917 rfl ?_
  refine z_sld hC hX hbl hS (k := i + 2) (by omega) (by omega) (by omega) dL_law_918 ?_
  refine z_top (b := z2) e2 ?_
  refine lv_aload_n hx hb dL_law_919 rfl (lv_at hl 1 rfl) ?_
  have hO0 : zO s H := hO.ext0 (zS_F hS)
  have hol := ho.lt
  refine z_goX (Cc + 13) (Sc + 101) (z_runSw (As := [.ref (ρ (0, 0, 0)), .int (iI z1), .int (iI z2), .ref oa]) (rest := []) hC hml hl.1 (z_monW (m_X0_invert hE H (hO.ext0 (zS_F hS)) ρ σ z1 z2 oa n9 d9 s9 hh hdm ho hoa hof hnc ⟨hz1, hz2⟩)) (lw_SW q1195 q1196 q61 q1197) nd_X0_invert rfl rfl (Nat.le_of_ble_eq_true rfl) ⟨Nat.le_of_ble_eq_true rfl, Nat.le_of_ble_eq_true rfl⟩ ⟨zfit (k := 13) (z := 601152) rfl rfl (by omega), zfit (k := 101) (z := 7254250) rfl rfl (by omega)⟩ dL_law_920) ⟨zad (k := 13) rfl (by omega), zad (k := 101) rfl (by omega)⟩ hS (fun q z => Or.inr (by rw [← hH0]; exact z.elim (fun w => FC.ge hh.sep w) (fun w => by rw [w]; exact hoa))) (fun E ce q9 Hx1 locs hp hF hS1 hce hcv hcl => ?_) (fun r H2 locs hp hF hS1 => ?_)
  · exact hp.1.elim
  obtain ⟨⟨kk, rfl, σ1, n1, d1, s1, hpo, ho, hk1⟩, hmk⟩ := hp
  have hP : va_P G.1 zCl [] H2 := va_nil
  have hD : va_D (zA M0 H0) [] := va_nilD
  obtain ⟨ρ1, hh, e0, hdm, hm, hof, hdj⟩ := LI_cls hE hO0 hm hof hom hol hdj hdm hF hmk hpo
  have hP : va_P G.1 zCl ([]) H2 := hP
  have hD : va_D (zA M0 H0) ([]) := hD
  have hS := hS1
  refine lv_istore (lv' := [(5, .int (iI kk)), (4, .int (iI ((i : Nat) : Int))), (3, .ref oa), (2, .ref (μ (0, 0, 0))), (1, .ref (ρ (0, 0, 0))), (0, .ref b)]) hx hb dL_law_923 hl (by decide) rfl (fun ls hl => ?_)
  refine lv_aload_n hx hb dL_law_925 rfl (lv_at hl 3 rfl) ?_
  refine lv_aload_n hx hb dL_law_926 rfl (lv_at hl 5 rfl) ?_
  refine lv_iload hx hb dL_law_927 (lv_at hl 1 rfl) ?_
  refine lv_iconst (v := iI 1) hx hb dL_law_929 rfl ?_
  refine z_add hx hb (z := ((i : Nat) : Int) + 1) dL_law_930 rfl ?_
  refine z_sld hC hX hbl hS (k := i + 1) (by omega) (by omega) (by omega) dL_law_931 ?_
  refine z_top (b := z1) e1 ?_
  refine lv_aload_n hx hb dL_law_932 rfl (lv_at hl 5 rfl) ?_
  refine lv_iload hx hb dL_law_933 (lv_at hl 1 rfl) ?_
  refine lv_iconst (v := iI 2) hx hb dL_law_935 rfl ?_
  refine z_add hx hb (z := ((i : Nat) : Int) + 2) dL_law_936 rfl ?_
  refine z_sld hC hX hbl hS (k := i + 2) (by omega) (by omega) (by omega) dL_law_937 ?_
  refine z_top (b := z2) e2 ?_
  have hO1 : zO s H2 := hO.ext0 (zS_F hS)
  have hol1 := ho.lt
  refine z_go ((Cc + 13) + 3) ((Sc + 101) + 48) (z_runV (As := [.int (iI z1), .int (iI z2)]) (rest := []) hC hml hl.1 (z_mon (m_X3_invert hE H2 (hO.ext0 (zS_F hS)) μ σ th z1 z2 hm ⟨hz1, hz2⟩)) (lw_V q1719 q1720 q1721 q67 q1722) rfl nd_X3_invert rfl (z_rv hC (ci := 2) rfl hm.2.2.1.1 rfl) rfl (Nat.le_of_ble_eq_true rfl) ⟨Nat.le_of_ble_eq_true rfl, Nat.le_of_ble_eq_true rfl⟩ ⟨zfit (k := 3) (z := 601152) rfl rfl (by omega), zfit (k := 48) (z := 7254250) rfl rfl (by omega)⟩ dL_law_938) ⟨zad (k := 3) rfl (by omega), zad (k := 48) rfl (by omega)⟩ hS (fun q z => Or.inr (by rw [← hH0]; exact FM.ge hm.sep z)) (fun r H3 locs hp hF hS1 => ?_)
  obtain ⟨⟨yb, rfl, k2, σ2, hpm, h2⟩, hmk⟩ := hp
  have hP : va_P G.1 zCl [] H3 := va_nil
  have hD : va_D (zA M0 H0) [] := va_nilD
  have ho := ho.ext hF hom
  obtain ⟨μ1, hm, em, hdm, hh, hom, hdj⟩ := LI_mdl hE hO1 hh hom hol1 hdj hdm hF hmk hpm
  have hP : va_P G.1 zCl ([]) H3 := hP
  have hD : va_D (zA M0 H0) ([]) := hD
  have hS := hS1
  have hag := z_agr (ex := [IOB, IAE, ISE]) (X := X_invert σ z1 z2) (B := R_invert σ z1 z2 yb σ2) (nd_3 (by decide) (by decide) (by decide)) (fun a E hX => by obtain ⟨y, hR, -⟩ := a; exact Rx_invert hR hX) (fun a E hX => Rx_invert a hX) (fun E E' a b => Xu_invert a b) hk1 h2
  obtain ⟨ek, hk3, hkk⟩ := hag
  have hk3 : k2 ≤ 3 := Nat.le_trans hk3 (by decide)
  subst ek
  refine lv_istore (lv' := [(6, .int (iI yb)), (5, .int (iI ((k2 : Nat) : Int))), (4, .int (iI ((i : Nat) : Int))), (3, .ref oa), (2, .ref (μ (0, 0, 0))), (1, .ref (ρ (0, 0, 0))), (0, .ref b)]) hx hb dL_law_941 hl (by decide) rfl (fun ls hl => ?_)
  refine lv_aload_n hx hb dL_law_943 rfl (lv_at hl 4 rfl) ?_
  rw [← em]
  refine z_go ((Cc + 13) + 3) ((Sc + 101) + 48) (z_runV (As := []) (rest := []) hC hml hl.1 (m_X3_thrown hE H3 (hO.ext0 (zS_F hS)) μ1 σ2 ((k2 : Nat) : Int) hm) (lw_V q1512 q1513 q1514 q67 q1515) rfl nd_X3_thrown rfl (z_rv hC (ci := 2) rfl hm.2.2.1.1 rfl) rfl (Nat.le_of_ble_eq_true rfl) ⟨Nat.le_of_ble_eq_true rfl, Nat.le_of_ble_eq_true rfl⟩ ⟨zfit (k := 0) (z := 601152) rfl rfl (by omega), zfit (k := 0) (z := 7254250) rfl rfl (by omega)⟩ dL_law_944) ⟨zad (k := 0) rfl (by omega), zad (k := 0) rfl (by omega)⟩ hS (fun _ z => z.elim) (fun r H4 locs hp hF hS1 => ?_)
  obtain ⟨_, rfl, rfl⟩ := hp
  have hP : va_P G.1 zCl [] H4 := va_nil
  have hD : va_D (zA M0 H0) [] := va_nilD
  have hh := hh.ext0 hE hF
  have hm := hm.ext0 hE hF
  have hdm := hdm.ext0 hF
  have ho := ho.ext0 hF
  have hP : va_P G.1 zCl ([]) H4 := hP
  have hD : va_D (zA M0 H0) ([]) := hD
  have hS := hS1
  have hhF := hh
  have hmF := hm
  have hdmF := hdm
  have hoF := ho
  have hofF := hof
  have homF := hom
  have hdjF := hdj
  refine lv_iload hx hb dL_law_947 (lv_at hl 1 rfl) ?_
  refine z_ceq (tgt := 954) hx hb dL_law_949 (by decide) (by omega) (fun c5 => ?_) (fun c5 => ?_)
  · refine lv_iload hx hb dL_law_954 (lv_at hl 1 rfl) ?_
    refine z_zne (tgt := 972) hx hb dL_law_956 (by decide) (by omega) (fun c6 => ?_) (fun c6 => ?_)
    · obtain ⟨-, es1, es2⟩ := hkk.resolve_left (fun w => by have := w.1; omega)
      subst es1
      subst es2
      refine lv_goto (tgt := 2435) hx hb dL_law_972 (by decide) ?_
      exact W.widen (by omega) (by omega) (IH _ _ _ ρ1 μ1 _ _ n1 d1 s1 hhF hmF e0 em hdmF hoF hofF homF hdjF hS (lv_sub hl [2, 3, 4, 5, 6] rfl))
    · obtain ⟨k0, hA, hB⟩ := hkk.resolve_right (fun w => by have := w.1; omega)
      obtain ⟨y1, hR1, en⟩ := hA
      obtain ⟨ey, es⟩ := Rd_invert hR1 hB
      subst es
      refine lv_aload_n hx hb dL_law_959 rfl (lv_at hl 3 rfl) ?_
      refine z_getn hC (k := 0) rfl in_X4 hoF (by decide) q886 (fun _ h => h) rfl dL_law_960 ?_
      refine lv_iload hx hb dL_law_963 (lv_at hl 0 rfl) ?_
      refine lv_i2l hx hb dL_law_965 rfl ?_
      refine z_lcq hx hb (by rw [en, ey]) dL_law_966 ?_
      refine z_zeq (tgt := 972) hx hb dL_law_967 (by decide) (by omega) (fun c7 => ?_) (fun c7 => ?_)
      · refine lv_goto (tgt := 2435) hx hb dL_law_972 (by decide) ?_
        exact W.widen (by omega) (by omega) (IH _ _ _ ρ1 μ1 _ _ n1 d1 s1 hhF hmF e0 em hdmF hoF hofF homF hdjF hS (lv_sub hl [2, 3, 4, 5, 6] rfl))
      · omega
  · omega

set_option maxHeartbeats 4000000 in
theorem lwc_11 {p : Program} {l : Launch} {e : Env} {s : State} {m : MethodId} {below : List Frame} {meth : Method} {c : Code} {G : zG} {H0 : Heap} {b L xa ma oa : Nat} {xs : Nat → Int32} {Q : State → Prop} {i Cc Sc : Nat} (hE : zE l s G) (hC : zC p l s G s m #[.ref b] c "VersorhallLaw" cL_law) (hml : c.maxLocals = 9) (hH0 : s.heap = H0) (hX : va_X b L xs s H0) (hbl : b < H0.size) (hL : L ≤ 256) (hnc : zNc s) (hoa : s.heap.size ≤ oa) (hi4 : i + 4 ≤ L) (hcc : Cc + 9000 ≤ 601152 ∧ Sc + 110000 ≤ 7254250) (IH : lwJ p l e s m below meth c G H0 b xa ma oa Q 2435 i (Cc + 9000) (Sc + 110000)) : lwJ p l e s m below meth c G H0 b xa ma oa Q 975 i Cc Sc := by
  intro H locs ls ρ μ σ th n9 d9 s9 hh hm exa ema hdm ho hof hom hdj hS hl
  subst exa
  subst ema
  have hx := hC.x
  have hb := hC.b
  have hp9 := hh.ok.1
  have hO : zO s H0 := ⟨by rw [hH0]; exact Nat.le_refl _, fun _ _ => by rw [hH0]⟩
  have hP : va_P G.1 zCl [] H := va_nil
  have hD : va_D (zA M0 H0) [] := va_nilD
  obtain ⟨z1, e1⟩ : ∃ z : Int, (xs (i + 1)).toInt = z := ⟨_, rfl⟩
  have hz1 : zi z1 := by rw [← e1]; exact ⟨Int32.le_toInt _, Int32.toInt_lt _⟩
  obtain ⟨z2, e2⟩ : ∃ z : Int, (xs (i + 2)).toInt = z := ⟨_, rfl⟩
  have hz2 : zi z2 := by rw [← e2]; exact ⟨Int32.le_toInt _, Int32.toInt_lt _⟩
  refine lv_aload_n hx hb dL_law_975 rfl (lv_at hl 3 rfl) ?_
  refine lv_aload_n hx hb dL_law_976 rfl (lv_at hl 4 rfl) ?_
  refine lv_iload hx hb dL_law_977 (lv_at hl 0 rfl) ?_
  refine lv_iconst (v := iI 1) hx hb dL_law_979 rfl ?_
  refine z_add hx hb (z := ((i : Nat) : Int) + 1) dL_law_980 rfl ?_
  refine z_sld hC hX hbl hS (k := i + 1) (by omega) (by omega) (by omega) dL_law_981 ?_
  refine z_top (b := z1) e1 ?_
  refine lv_aload_n hx hb dL_law_982 rfl (lv_at hl 4 rfl) ?_
  refine lv_iload hx hb dL_law_983 (lv_at hl 0 rfl) ?_
  refine lv_iconst (v := iI 2) hx hb dL_law_985 rfl ?_
  refine z_add hx hb (z := ((i : Nat) : Int) + 2) dL_law_986 rfl ?_
  refine z_sld hC hX hbl hS (k := i + 2) (by omega) (by omega) (by omega) dL_law_987 ?_
  refine z_top (b := z2) e2 ?_
  refine lv_aload_n hx hb dL_law_988 rfl (lv_at hl 1 rfl) ?_
  have hO0 : zO s H := hO.ext0 (zS_F hS)
  have hol := ho.lt
  refine z_goX (Cc + 224) (Sc + 2224) (z_runSw (As := [.ref (ρ (0, 0, 0)), .int (iI z1), .int (iI z2), .ref oa]) (rest := []) hC hml hl.1 (z_monW (m_X0_series hE H (hO.ext0 (zS_F hS)) ρ σ z1 z2 oa n9 d9 s9 hh hdm ho hoa hof hnc ⟨hz1, hz2⟩)) (lw_SW q1239 q1240 q61 q1241) nd_X0_series rfl rfl (Nat.le_of_ble_eq_true rfl) ⟨Nat.le_of_ble_eq_true rfl, Nat.le_of_ble_eq_true rfl⟩ ⟨zfit (k := 224) (z := 601152) rfl rfl (by omega), zfit (k := 2224) (z := 7254250) rfl rfl (by omega)⟩ dL_law_989) ⟨zad (k := 224) rfl (by omega), zad (k := 2224) rfl (by omega)⟩ hS (fun q z => Or.inr (by rw [← hH0]; exact z.elim (fun w => FC.ge hh.sep w) (fun w => by rw [w]; exact hoa))) (fun E ce q9 Hx1 locs hp hF hS1 hce hcv hcl => ?_) (fun r H2 locs hp hF hS1 => ?_)
  · exact hp.1.elim
  obtain ⟨⟨kk, rfl, σ1, n1, d1, s1, hpo, ho, hk1⟩, hmk⟩ := hp
  have hP : va_P G.1 zCl [] H2 := va_nil
  have hD : va_D (zA M0 H0) [] := va_nilD
  obtain ⟨ρ1, hh, e0, hdm, hm, hof, hdj⟩ := LI_cls hE hO0 hm hof hom hol hdj hdm hF hmk hpo
  have hP : va_P G.1 zCl ([]) H2 := hP
  have hD : va_D (zA M0 H0) ([]) := hD
  have hS := hS1
  refine lv_istore (lv' := [(5, .int (iI kk)), (4, .int (iI ((i : Nat) : Int))), (3, .ref oa), (2, .ref (μ (0, 0, 0))), (1, .ref (ρ (0, 0, 0))), (0, .ref b)]) hx hb dL_law_992 hl (by decide) rfl (fun ls hl => ?_)
  refine lv_aload_n hx hb dL_law_994 rfl (lv_at hl 3 rfl) ?_
  refine lv_aload_n hx hb dL_law_995 rfl (lv_at hl 5 rfl) ?_
  refine lv_iload hx hb dL_law_996 (lv_at hl 1 rfl) ?_
  refine lv_iconst (v := iI 1) hx hb dL_law_998 rfl ?_
  refine z_add hx hb (z := ((i : Nat) : Int) + 1) dL_law_999 rfl ?_
  refine z_sld hC hX hbl hS (k := i + 1) (by omega) (by omega) (by omega) dL_law_1000 ?_
  refine z_top (b := z1) e1 ?_
  refine lv_aload_n hx hb dL_law_1001 rfl (lv_at hl 5 rfl) ?_
  refine lv_iload hx hb dL_law_1002 (lv_at hl 1 rfl) ?_
  refine lv_iconst (v := iI 2) hx hb dL_law_1004 rfl ?_
  refine z_add hx hb (z := ((i : Nat) : Int) + 2) dL_law_1005 rfl ?_
  refine z_sld hC hX hbl hS (k := i + 2) (by omega) (by omega) (by omega) dL_law_1006 ?_
  refine z_top (b := z2) e2 ?_
  have hO1 : zO s H2 := hO.ext0 (zS_F hS)
  have hol1 := ho.lt
  refine z_go ((Cc + 224) + 800) ((Sc + 2224) + 13000) (z_runV (As := [.int (iI z1), .int (iI z2)]) (rest := []) hC hml hl.1 (z_mon (m_X3_series hE H2 (hO.ext0 (zS_F hS)) μ σ th z1 z2 hm ⟨hz1, hz2⟩)) (lw_V q1730 q1731 q1732 q67 q1733) rfl nd_X3_series rfl (z_rv hC (ci := 2) rfl hm.2.2.1.1 rfl) rfl (Nat.le_of_ble_eq_true rfl) ⟨Nat.le_of_ble_eq_true rfl, Nat.le_of_ble_eq_true rfl⟩ ⟨zfit (k := 800) (z := 601152) rfl rfl (by omega), zfit (k := 13000) (z := 7254250) rfl rfl (by omega)⟩ dL_law_1007) ⟨zad (k := 800) rfl (by omega), zad (k := 13000) rfl (by omega)⟩ hS (fun q z => Or.inr (by rw [← hH0]; exact FM.ge hm.sep z)) (fun r H3 locs hp hF hS1 => ?_)
  obtain ⟨⟨yb, rfl, k2, σ2, hpm, h2⟩, hmk⟩ := hp
  have hP : va_P G.1 zCl [] H3 := va_nil
  have hD : va_D (zA M0 H0) [] := va_nilD
  have ho := ho.ext hF hom
  obtain ⟨μ1, hm, em, hdm, hh, hom, hdj⟩ := LI_mdl hE hO1 hh hom hol1 hdj hdm hF hmk hpm
  have hP : va_P G.1 zCl ([]) H3 := hP
  have hD : va_D (zA M0 H0) ([]) := hD
  have hS := hS1
  have hag := z_agr (ex := [IOB, IAE, ISE]) (X := X_series σ z1 z2) (B := R_series σ z1 z2 yb σ2) (nd_3 (by decide) (by decide) (by decide)) (fun a E hX => by obtain ⟨y, hR, -⟩ := a; exact Rx_series hR hX) (fun a E hX => Rx_series a hX) (fun E E' a b => Xu_series a b) hk1 h2
  obtain ⟨ek, hk3, hkk⟩ := hag
  have hk3 : k2 ≤ 3 := Nat.le_trans hk3 (by decide)
  subst ek
  refine lv_istore (lv' := [(6, .int (iI yb)), (5, .int (iI ((k2 : Nat) : Int))), (4, .int (iI ((i : Nat) : Int))), (3, .ref oa), (2, .ref (μ (0, 0, 0))), (1, .ref (ρ (0, 0, 0))), (0, .ref b)]) hx hb dL_law_1010 hl (by decide) rfl (fun ls hl => ?_)
  refine lv_aload_n hx hb dL_law_1012 rfl (lv_at hl 4 rfl) ?_
  rw [← em]
  refine z_go ((Cc + 224) + 800) ((Sc + 2224) + 13000) (z_runV (As := []) (rest := []) hC hml hl.1 (m_X3_thrown hE H3 (hO.ext0 (zS_F hS)) μ1 σ2 ((k2 : Nat) : Int) hm) (lw_V q1512 q1513 q1514 q67 q1515) rfl nd_X3_thrown rfl (z_rv hC (ci := 2) rfl hm.2.2.1.1 rfl) rfl (Nat.le_of_ble_eq_true rfl) ⟨Nat.le_of_ble_eq_true rfl, Nat.le_of_ble_eq_true rfl⟩ ⟨zfit (k := 0) (z := 601152) rfl rfl (by omega), zfit (k := 0) (z := 7254250) rfl rfl (by omega)⟩ dL_law_1013) ⟨zad (k := 0) rfl (by omega), zad (k := 0) rfl (by omega)⟩ hS (fun _ z => z.elim) (fun r H4 locs hp hF hS1 => ?_)
  obtain ⟨_, rfl, rfl⟩ := hp
  have hP : va_P G.1 zCl [] H4 := va_nil
  have hD : va_D (zA M0 H0) [] := va_nilD
  have hh := hh.ext0 hE hF
  have hm := hm.ext0 hE hF
  have hdm := hdm.ext0 hF
  have ho := ho.ext0 hF
  have hP : va_P G.1 zCl ([]) H4 := hP
  have hD : va_D (zA M0 H0) ([]) := hD
  have hS := hS1
  have hhF := hh
  have hmF := hm
  have hdmF := hdm
  have hoF := ho
  have hofF := hof
  have homF := hom
  have hdjF := hdj
  refine lv_iload hx hb dL_law_1016 (lv_at hl 1 rfl) ?_
  refine z_ceq (tgt := 1023) hx hb dL_law_1018 (by decide) (by omega) (fun c5 => ?_) (fun c5 => ?_)
  · refine lv_iload hx hb dL_law_1023 (lv_at hl 1 rfl) ?_
    refine z_zne (tgt := 1041) hx hb dL_law_1025 (by decide) (by omega) (fun c6 => ?_) (fun c6 => ?_)
    · obtain ⟨-, es1, es2⟩ := hkk.resolve_left (fun w => by have := w.1; omega)
      subst es1
      subst es2
      refine lv_goto (tgt := 2435) hx hb dL_law_1041 (by decide) ?_
      exact W.widen (by omega) (by omega) (IH _ _ _ ρ1 μ1 _ _ n1 d1 s1 hhF hmF e0 em hdmF hoF hofF homF hdjF hS (lv_sub hl [2, 3, 4, 5, 6] rfl))
    · obtain ⟨k0, hA, hB⟩ := hkk.resolve_right (fun w => by have := w.1; omega)
      obtain ⟨y1, hR1, en⟩ := hA
      obtain ⟨ey, es⟩ := Rd_series hR1 hB
      subst es
      refine lv_aload_n hx hb dL_law_1028 rfl (lv_at hl 3 rfl) ?_
      refine z_getn hC (k := 0) rfl in_X4 hoF (by decide) q886 (fun _ h => h) rfl dL_law_1029 ?_
      refine lv_iload hx hb dL_law_1032 (lv_at hl 0 rfl) ?_
      refine lv_i2l hx hb dL_law_1034 rfl ?_
      refine z_lcq hx hb (by rw [en, ey]) dL_law_1035 ?_
      refine z_zeq (tgt := 1041) hx hb dL_law_1036 (by decide) (by omega) (fun c7 => ?_) (fun c7 => ?_)
      · refine lv_goto (tgt := 2435) hx hb dL_law_1041 (by decide) ?_
        exact W.widen (by omega) (by omega) (IH _ _ _ ρ1 μ1 _ _ n1 d1 s1 hhF hmF e0 em hdmF hoF hofF homF hdjF hS (lv_sub hl [2, 3, 4, 5, 6] rfl))
      · omega
  · omega

set_option maxHeartbeats 4000000 in
theorem lwc_12 {p : Program} {l : Launch} {e : Env} {s : State} {m : MethodId} {below : List Frame} {meth : Method} {c : Code} {G : zG} {H0 : Heap} {b L xa ma oa : Nat} {xs : Nat → Int32} {Q : State → Prop} {i Cc Sc : Nat} (hE : zE l s G) (hC : zC p l s G s m #[.ref b] c "VersorhallLaw" cL_law) (hml : c.maxLocals = 9) (hH0 : s.heap = H0) (hX : va_X b L xs s H0) (hbl : b < H0.size) (hL : L ≤ 256) (hnc : zNc s) (hoa : s.heap.size ≤ oa) (hi4 : i + 4 ≤ L) (hcc : Cc + 9000 ≤ 601152 ∧ Sc + 110000 ≤ 7254250) (IH : lwJ p l e s m below meth c G H0 b xa ma oa Q 2435 i (Cc + 9000) (Sc + 110000)) : lwJ p l e s m below meth c G H0 b xa ma oa Q 1044 i Cc Sc := by
  intro H locs ls ρ μ σ th n9 d9 s9 hh hm exa ema hdm ho hof hom hdj hS hl
  subst exa
  subst ema
  have hx := hC.x
  have hb := hC.b
  have hp9 := hh.ok.1
  have hO : zO s H0 := ⟨by rw [hH0]; exact Nat.le_refl _, fun _ _ => by rw [hH0]⟩
  have hP : va_P G.1 zCl [] H := va_nil
  have hD : va_D (zA M0 H0) [] := va_nilD
  obtain ⟨z1, e1⟩ : ∃ z : Int, (xs (i + 1)).toInt = z := ⟨_, rfl⟩
  have hz1 : zi z1 := by rw [← e1]; exact ⟨Int32.le_toInt _, Int32.toInt_lt _⟩
  obtain ⟨z2, e2⟩ : ∃ z : Int, (xs (i + 2)).toInt = z := ⟨_, rfl⟩
  have hz2 : zi z2 := by rw [← e2]; exact ⟨Int32.le_toInt _, Int32.toInt_lt _⟩
  refine lv_aload_n hx hb dL_law_1044 rfl (lv_at hl 3 rfl) ?_
  refine lv_aload_n hx hb dL_law_1045 rfl (lv_at hl 4 rfl) ?_
  refine lv_iload hx hb dL_law_1046 (lv_at hl 0 rfl) ?_
  refine lv_iconst (v := iI 1) hx hb dL_law_1048 rfl ?_
  refine z_add hx hb (z := ((i : Nat) : Int) + 1) dL_law_1049 rfl ?_
  refine z_sld hC hX hbl hS (k := i + 1) (by omega) (by omega) (by omega) dL_law_1050 ?_
  refine z_top (b := z1) e1 ?_
  refine lv_aload_n hx hb dL_law_1051 rfl (lv_at hl 4 rfl) ?_
  refine lv_iload hx hb dL_law_1052 (lv_at hl 0 rfl) ?_
  refine lv_iconst (v := iI 2) hx hb dL_law_1054 rfl ?_
  refine z_add hx hb (z := ((i : Nat) : Int) + 2) dL_law_1055 rfl ?_
  refine z_sld hC hX hbl hS (k := i + 2) (by omega) (by omega) (by omega) dL_law_1056 ?_
  refine z_top (b := z2) e2 ?_
  refine lv_aload_n hx hb dL_law_1057 rfl (lv_at hl 1 rfl) ?_
  have hO0 : zO s H := hO.ext0 (zS_F hS)
  have hol := ho.lt
  refine z_goX (Cc + 25) (Sc + 332) (z_runSw (As := [.ref (ρ (0, 0, 0)), .int (iI z1), .int (iI z2), .ref oa]) (rest := []) hC hml hl.1 (z_monW (m_X0_killer hE H (hO.ext0 (zS_F hS)) ρ σ z1 z2 oa n9 d9 s9 hh hdm ho hoa hof hnc ⟨hz1, hz2⟩)) (lw_SW q1251 q1252 q61 q1253) nd_X0_killer rfl rfl (Nat.le_of_ble_eq_true rfl) ⟨Nat.le_of_ble_eq_true rfl, Nat.le_of_ble_eq_true rfl⟩ ⟨zfit (k := 25) (z := 601152) rfl rfl (by omega), zfit (k := 332) (z := 7254250) rfl rfl (by omega)⟩ dL_law_1058) ⟨zad (k := 25) rfl (by omega), zad (k := 332) rfl (by omega)⟩ hS (fun q z => Or.inr (by rw [← hH0]; exact z.elim (fun w => FC.ge hh.sep w) (fun w => by rw [w]; exact hoa))) (fun E ce q9 Hx1 locs hp hF hS1 hce hcv hcl => ?_) (fun r H2 locs hp hF hS1 => ?_)
  · exact hp.1.elim
  obtain ⟨⟨kk, rfl, σ1, n1, d1, s1, hpo, ho, hk1⟩, hmk⟩ := hp
  have hP : va_P G.1 zCl [] H2 := va_nil
  have hD : va_D (zA M0 H0) [] := va_nilD
  obtain ⟨ρ1, hh, e0, hdm, hm, hof, hdj⟩ := LI_cls hE hO0 hm hof hom hol hdj hdm hF hmk hpo
  have hP : va_P G.1 zCl ([]) H2 := hP
  have hD : va_D (zA M0 H0) ([]) := hD
  have hS := hS1
  refine lv_istore (lv' := [(5, .int (iI kk)), (4, .int (iI ((i : Nat) : Int))), (3, .ref oa), (2, .ref (μ (0, 0, 0))), (1, .ref (ρ (0, 0, 0))), (0, .ref b)]) hx hb dL_law_1061 hl (by decide) rfl (fun ls hl => ?_)
  refine lv_aload_n hx hb dL_law_1063 rfl (lv_at hl 3 rfl) ?_
  refine lv_aload_n hx hb dL_law_1064 rfl (lv_at hl 5 rfl) ?_
  refine lv_iload hx hb dL_law_1065 (lv_at hl 1 rfl) ?_
  refine lv_iconst (v := iI 1) hx hb dL_law_1067 rfl ?_
  refine z_add hx hb (z := ((i : Nat) : Int) + 1) dL_law_1068 rfl ?_
  refine z_sld hC hX hbl hS (k := i + 1) (by omega) (by omega) (by omega) dL_law_1069 ?_
  refine z_top (b := z1) e1 ?_
  refine lv_aload_n hx hb dL_law_1070 rfl (lv_at hl 5 rfl) ?_
  refine lv_iload hx hb dL_law_1071 (lv_at hl 1 rfl) ?_
  refine lv_iconst (v := iI 2) hx hb dL_law_1073 rfl ?_
  refine z_add hx hb (z := ((i : Nat) : Int) + 2) dL_law_1074 rfl ?_
  refine z_sld hC hX hbl hS (k := i + 2) (by omega) (by omega) (by omega) dL_law_1075 ?_
  refine z_top (b := z2) e2 ?_
  have hO1 : zO s H2 := hO.ext0 (zS_F hS)
  have hol1 := ho.lt
  refine z_go ((Cc + 25) + 120) ((Sc + 332) + 2000) (z_runV (As := [.int (iI z1), .int (iI z2)]) (rest := []) hC hml hl.1 (z_mon (m_X3_killer hE H2 (hO.ext0 (zS_F hS)) μ σ th z1 z2 hm ⟨hz1, hz2⟩)) (lw_V q1739 q1740 q1741 q67 q1742) rfl nd_X3_killer rfl (z_rv hC (ci := 2) rfl hm.2.2.1.1 rfl) rfl (Nat.le_of_ble_eq_true rfl) ⟨Nat.le_of_ble_eq_true rfl, Nat.le_of_ble_eq_true rfl⟩ ⟨zfit (k := 120) (z := 601152) rfl rfl (by omega), zfit (k := 2000) (z := 7254250) rfl rfl (by omega)⟩ dL_law_1076) ⟨zad (k := 120) rfl (by omega), zad (k := 2000) rfl (by omega)⟩ hS (fun q z => Or.inr (by rw [← hH0]; exact FM.ge hm.sep z)) (fun r H3 locs hp hF hS1 => ?_)
  obtain ⟨⟨yb, rfl, k2, σ2, hpm, h2⟩, hmk⟩ := hp
  have hP : va_P G.1 zCl [] H3 := va_nil
  have hD : va_D (zA M0 H0) [] := va_nilD
  have ho := ho.ext hF hom
  obtain ⟨μ1, hm, em, hdm, hh, hom, hdj⟩ := LI_mdl hE hO1 hh hom hol1 hdj hdm hF hmk hpm
  have hP : va_P G.1 zCl ([]) H3 := hP
  have hD : va_D (zA M0 H0) ([]) := hD
  have hS := hS1
  have hag := z_agr (ex := [IOB, IAE, ISE]) (X := X_killer σ z1 z2) (B := R_killer σ z1 z2 yb σ2) (nd_3 (by decide) (by decide) (by decide)) (fun a E hX => by obtain ⟨y, hR, -⟩ := a; exact Rx_killer hR hX) (fun a E hX => Rx_killer a hX) (fun E E' a b => Xu_killer a b) hk1 h2
  obtain ⟨ek, hk3, hkk⟩ := hag
  have hk3 : k2 ≤ 3 := Nat.le_trans hk3 (by decide)
  subst ek
  refine lv_istore (lv' := [(6, .int (iI yb)), (5, .int (iI ((k2 : Nat) : Int))), (4, .int (iI ((i : Nat) : Int))), (3, .ref oa), (2, .ref (μ (0, 0, 0))), (1, .ref (ρ (0, 0, 0))), (0, .ref b)]) hx hb dL_law_1079 hl (by decide) rfl (fun ls hl => ?_)
  refine lv_aload_n hx hb dL_law_1081 rfl (lv_at hl 4 rfl) ?_
  rw [← em]
  refine z_go ((Cc + 25) + 120) ((Sc + 332) + 2000) (z_runV (As := []) (rest := []) hC hml hl.1 (m_X3_thrown hE H3 (hO.ext0 (zS_F hS)) μ1 σ2 ((k2 : Nat) : Int) hm) (lw_V q1512 q1513 q1514 q67 q1515) rfl nd_X3_thrown rfl (z_rv hC (ci := 2) rfl hm.2.2.1.1 rfl) rfl (Nat.le_of_ble_eq_true rfl) ⟨Nat.le_of_ble_eq_true rfl, Nat.le_of_ble_eq_true rfl⟩ ⟨zfit (k := 0) (z := 601152) rfl rfl (by omega), zfit (k := 0) (z := 7254250) rfl rfl (by omega)⟩ dL_law_1082) ⟨zad (k := 0) rfl (by omega), zad (k := 0) rfl (by omega)⟩ hS (fun _ z => z.elim) (fun r H4 locs hp hF hS1 => ?_)
  obtain ⟨_, rfl, rfl⟩ := hp
  have hP : va_P G.1 zCl [] H4 := va_nil
  have hD : va_D (zA M0 H0) [] := va_nilD
  have hh := hh.ext0 hE hF
  have hm := hm.ext0 hE hF
  have hdm := hdm.ext0 hF
  have ho := ho.ext0 hF
  have hP : va_P G.1 zCl ([]) H4 := hP
  have hD : va_D (zA M0 H0) ([]) := hD
  have hS := hS1
  have hhF := hh
  have hmF := hm
  have hdmF := hdm
  have hoF := ho
  have hofF := hof
  have homF := hom
  have hdjF := hdj
  refine lv_iload hx hb dL_law_1085 (lv_at hl 1 rfl) ?_
  refine z_ceq (tgt := 1092) hx hb dL_law_1087 (by decide) (by omega) (fun c5 => ?_) (fun c5 => ?_)
  · refine lv_iload hx hb dL_law_1092 (lv_at hl 1 rfl) ?_
    refine z_zne (tgt := 1110) hx hb dL_law_1094 (by decide) (by omega) (fun c6 => ?_) (fun c6 => ?_)
    · obtain ⟨-, es1, es2⟩ := hkk.resolve_left (fun w => by have := w.1; omega)
      subst es1
      subst es2
      refine lv_goto (tgt := 2435) hx hb dL_law_1110 (by decide) ?_
      exact W.widen (by omega) (by omega) (IH _ _ _ ρ1 μ1 _ _ n1 d1 s1 hhF hmF e0 em hdmF hoF hofF homF hdjF hS (lv_sub hl [2, 3, 4, 5, 6] rfl))
    · obtain ⟨k0, hA, hB⟩ := hkk.resolve_right (fun w => by have := w.1; omega)
      obtain ⟨y1, hR1, en⟩ := hA
      obtain ⟨ey, a9, w1, w2, f1, f2, hw⟩ := Rd_killer hp9 hR1 hB
      subst f1
      subst f2
      have hmF := hmF.congr (w' := w1) (fun j hj => (hw j hj).symm)
      refine lv_aload_n hx hb dL_law_1097 rfl (lv_at hl 3 rfl) ?_
      refine z_getn hC (k := 0) rfl in_X4 hoF (by decide) q886 (fun _ h => h) rfl dL_law_1098 ?_
      refine lv_iload hx hb dL_law_1101 (lv_at hl 0 rfl) ?_
      refine lv_i2l hx hb dL_law_1103 rfl ?_
      refine z_lcq hx hb (by rw [en, ey]) dL_law_1104 ?_
      refine z_zeq (tgt := 1110) hx hb dL_law_1105 (by decide) (by omega) (fun c7 => ?_) (fun c7 => ?_)
      · refine lv_goto (tgt := 2435) hx hb dL_law_1110 (by decide) ?_
        exact W.widen (by omega) (by omega) (IH _ _ _ ρ1 μ1 _ _ n1 d1 s1 hhF hmF e0 em hdmF hoF hofF homF hdjF hS (lv_sub hl [2, 3, 4, 5, 6] rfl))
      · omega
  · omega

set_option maxHeartbeats 4000000 in
theorem lwc_13 {p : Program} {l : Launch} {e : Env} {s : State} {m : MethodId} {below : List Frame} {meth : Method} {c : Code} {G : zG} {H0 : Heap} {b L xa ma oa : Nat} {xs : Nat → Int32} {Q : State → Prop} {i Cc Sc : Nat} (hE : zE l s G) (hC : zC p l s G s m #[.ref b] c "VersorhallLaw" cL_law) (hml : c.maxLocals = 9) (hH0 : s.heap = H0) (hX : va_X b L xs s H0) (hbl : b < H0.size) (hL : L ≤ 256) (hnc : zNc s) (hoa : s.heap.size ≤ oa) (hi4 : i + 4 ≤ L) (hcc : Cc + 9000 ≤ 601152 ∧ Sc + 110000 ≤ 7254250) (IH : lwJ p l e s m below meth c G H0 b xa ma oa Q 2435 i (Cc + 9000) (Sc + 110000)) : lwJ p l e s m below meth c G H0 b xa ma oa Q 1113 i Cc Sc := by
  intro H locs ls ρ μ σ th n9 d9 s9 hh hm exa ema hdm ho hof hom hdj hS hl
  subst exa
  subst ema
  have hx := hC.x
  have hb := hC.b
  have hp9 := hh.ok.1
  have hO : zO s H0 := ⟨by rw [hH0]; exact Nat.le_refl _, fun _ _ => by rw [hH0]⟩
  have hP : va_P G.1 zCl [] H := va_nil
  have hD : va_D (zA M0 H0) [] := va_nilD
  obtain ⟨z1, e1⟩ : ∃ z : Int, (xs (i + 1)).toInt = z := ⟨_, rfl⟩
  have hz1 : zi z1 := by rw [← e1]; exact ⟨Int32.le_toInt _, Int32.toInt_lt _⟩
  refine lv_aload_n hx hb dL_law_1113 rfl (lv_at hl 3 rfl) ?_
  refine lv_aload_n hx hb dL_law_1114 rfl (lv_at hl 4 rfl) ?_
  refine lv_iload hx hb dL_law_1115 (lv_at hl 0 rfl) ?_
  refine lv_iconst (v := iI 1) hx hb dL_law_1117 rfl ?_
  refine z_add hx hb (z := ((i : Nat) : Int) + 1) dL_law_1118 rfl ?_
  refine z_sld hC hX hbl hS (k := i + 1) (by omega) (by omega) (by omega) dL_law_1119 ?_
  refine z_top (b := z1) e1 ?_
  refine lv_aload_n hx hb dL_law_1120 rfl (lv_at hl 1 rfl) ?_
  have hO0 : zO s H := hO.ext0 (zS_F hS)
  have hol := ho.lt
  refine z_goX (Cc + 100) (Sc + 1000) (z_runSw (As := [.ref (ρ (0, 0, 0)), .int (iI z1), .ref oa]) (rest := []) hC hml hl.1 (z_monW (m_X0_hang hE H (hO.ext0 (zS_F hS)) ρ σ z1 oa n9 d9 s9 hh hdm ho hoa hof hnc hz1)) (lw_SW q1266 q1267 q61 q1268) nd_X0_hang rfl rfl (Nat.le_of_ble_eq_true rfl) ⟨Nat.le_of_ble_eq_true rfl, Nat.le_of_ble_eq_true rfl⟩ ⟨zfit (k := 100) (z := 601152) rfl rfl (by omega), zfit (k := 1000) (z := 7254250) rfl rfl (by omega)⟩ dL_law_1121) ⟨zad (k := 100) rfl (by omega), zad (k := 1000) rfl (by omega)⟩ hS (fun q z => Or.inr (by rw [← hH0]; exact z.elim (fun w => FC.ge hh.sep w) (fun w => by rw [w]; exact hoa))) (fun E ce q9 Hx1 locs hp hF hS1 hce hcv hcl => ?_) (fun r H2 locs hp hF hS1 => ?_)
  · exact hp.1.elim
  obtain ⟨⟨kk, rfl, σ1, n1, d1, s1, hpo, ho, hk1⟩, hmk⟩ := hp
  have hP : va_P G.1 zCl [] H2 := va_nil
  have hD : va_D (zA M0 H0) [] := va_nilD
  obtain ⟨ρ1, hh, e0, hdm, hm, hof, hdj⟩ := LI_cls hE hO0 hm hof hom hol hdj hdm hF hmk hpo
  have hP : va_P G.1 zCl ([]) H2 := hP
  have hD : va_D (zA M0 H0) ([]) := hD
  have hS := hS1
  refine lv_istore (lv' := [(5, .int (iI kk)), (4, .int (iI ((i : Nat) : Int))), (3, .ref oa), (2, .ref (μ (0, 0, 0))), (1, .ref (ρ (0, 0, 0))), (0, .ref b)]) hx hb dL_law_1124 hl (by decide) rfl (fun ls hl => ?_)
  refine lv_aload_n hx hb dL_law_1126 rfl (lv_at hl 3 rfl) ?_
  refine lv_aload_n hx hb dL_law_1127 rfl (lv_at hl 5 rfl) ?_
  refine lv_iload hx hb dL_law_1128 (lv_at hl 1 rfl) ?_
  refine lv_iconst (v := iI 1) hx hb dL_law_1130 rfl ?_
  refine z_add hx hb (z := ((i : Nat) : Int) + 1) dL_law_1131 rfl ?_
  refine z_sld hC hX hbl hS (k := i + 1) (by omega) (by omega) (by omega) dL_law_1132 ?_
  refine z_top (b := z1) e1 ?_
  have hO1 : zO s H2 := hO.ext0 (zS_F hS)
  have hol1 := ho.lt
  refine z_go ((Cc + 100) + 60) ((Sc + 1000) + 800) (z_runV (As := [.int (iI z1)]) (rest := []) hC hml hl.1 (z_mon (m_X3_hang hE H2 (hO.ext0 (zS_F hS)) μ σ th z1 hm hz1)) (lw_V q1757 q1758 q1759 q67 q1760) rfl nd_X3_hang rfl (z_rv hC (ci := 2) rfl hm.2.2.1.1 rfl) rfl (Nat.le_of_ble_eq_true rfl) ⟨Nat.le_of_ble_eq_true rfl, Nat.le_of_ble_eq_true rfl⟩ ⟨zfit (k := 60) (z := 601152) rfl rfl (by omega), zfit (k := 800) (z := 7254250) rfl rfl (by omega)⟩ dL_law_1133) ⟨zad (k := 60) rfl (by omega), zad (k := 800) rfl (by omega)⟩ hS (fun q z => Or.inr (by rw [← hH0]; exact FM.ge hm.sep z)) (fun r H3 locs hp hF hS1 => ?_)
  obtain ⟨⟨yb, rfl, k2, σ2, hpm, h2⟩, hmk⟩ := hp
  have hP : va_P G.1 zCl [] H3 := va_nil
  have hD : va_D (zA M0 H0) [] := va_nilD
  have ho := ho.ext hF hom
  obtain ⟨μ1, hm, em, hdm, hh, hom, hdj⟩ := LI_mdl hE hO1 hh hom hol1 hdj hdm hF hmk hpm
  have hP : va_P G.1 zCl ([]) H3 := hP
  have hD : va_D (zA M0 H0) ([]) := hD
  have hS := hS1
  have hag := z_agr (ex := [IOB, ISE]) (X := X_hang σ z1) (B := R_hang σ z1 yb σ2) (nd_2 (by decide)) (fun a E hX => by obtain ⟨y, hR, -⟩ := a; exact Rx_hang hR hX) (fun a E hX => Rx_hang a hX) (fun E E' a b => Xu_hang a b) hk1 h2
  obtain ⟨ek, hk3, hkk⟩ := hag
  have hk3 : k2 ≤ 3 := Nat.le_trans hk3 (by decide)
  subst ek
  refine lv_istore (lv' := [(6, .int (iI yb)), (5, .int (iI ((k2 : Nat) : Int))), (4, .int (iI ((i : Nat) : Int))), (3, .ref oa), (2, .ref (μ (0, 0, 0))), (1, .ref (ρ (0, 0, 0))), (0, .ref b)]) hx hb dL_law_1136 hl (by decide) rfl (fun ls hl => ?_)
  refine lv_aload_n hx hb dL_law_1138 rfl (lv_at hl 4 rfl) ?_
  rw [← em]
  refine z_go ((Cc + 100) + 60) ((Sc + 1000) + 800) (z_runV (As := []) (rest := []) hC hml hl.1 (m_X3_thrown hE H3 (hO.ext0 (zS_F hS)) μ1 σ2 ((k2 : Nat) : Int) hm) (lw_V q1512 q1513 q1514 q67 q1515) rfl nd_X3_thrown rfl (z_rv hC (ci := 2) rfl hm.2.2.1.1 rfl) rfl (Nat.le_of_ble_eq_true rfl) ⟨Nat.le_of_ble_eq_true rfl, Nat.le_of_ble_eq_true rfl⟩ ⟨zfit (k := 0) (z := 601152) rfl rfl (by omega), zfit (k := 0) (z := 7254250) rfl rfl (by omega)⟩ dL_law_1139) ⟨zad (k := 0) rfl (by omega), zad (k := 0) rfl (by omega)⟩ hS (fun _ z => z.elim) (fun r H4 locs hp hF hS1 => ?_)
  obtain ⟨_, rfl, rfl⟩ := hp
  have hP : va_P G.1 zCl [] H4 := va_nil
  have hD : va_D (zA M0 H0) [] := va_nilD
  have hh := hh.ext0 hE hF
  have hm := hm.ext0 hE hF
  have hdm := hdm.ext0 hF
  have ho := ho.ext0 hF
  have hP : va_P G.1 zCl ([]) H4 := hP
  have hD : va_D (zA M0 H0) ([]) := hD
  have hS := hS1
  have hhF := hh
  have hmF := hm
  have hdmF := hdm
  have hoF := ho
  have hofF := hof
  have homF := hom
  have hdjF := hdj
  refine lv_iload hx hb dL_law_1142 (lv_at hl 1 rfl) ?_
  refine z_ceq (tgt := 1149) hx hb dL_law_1144 (by decide) (by omega) (fun c5 => ?_) (fun c5 => ?_)
  · refine lv_iload hx hb dL_law_1149 (lv_at hl 1 rfl) ?_
    refine z_zne (tgt := 1167) hx hb dL_law_1151 (by decide) (by omega) (fun c6 => ?_) (fun c6 => ?_)
    · obtain ⟨-, es1, es2⟩ := hkk.resolve_left (fun w => by have := w.1; omega)
      subst es1
      subst es2
      refine lv_goto (tgt := 2435) hx hb dL_law_1167 (by decide) ?_
      exact W.widen (by omega) (by omega) (IH _ _ _ ρ1 μ1 _ _ n1 d1 s1 hhF hmF e0 em hdmF hoF hofF homF hdjF hS (lv_sub hl [2, 3, 4, 5, 6] rfl))
    · obtain ⟨k0, hA, hB⟩ := hkk.resolve_right (fun w => by have := w.1; omega)
      obtain ⟨y1, hR1, en⟩ := hA
      obtain ⟨ey, es⟩ := Rd_hang hR1 hB
      subst es
      refine lv_aload_n hx hb dL_law_1154 rfl (lv_at hl 3 rfl) ?_
      refine z_getn hC (k := 0) rfl in_X4 hoF (by decide) q886 (fun _ h => h) rfl dL_law_1155 ?_
      refine lv_iload hx hb dL_law_1158 (lv_at hl 0 rfl) ?_
      refine lv_i2l hx hb dL_law_1160 rfl ?_
      refine z_lcq hx hb (by rw [en, ey]) dL_law_1161 ?_
      refine z_zeq (tgt := 1167) hx hb dL_law_1162 (by decide) (by omega) (fun c7 => ?_) (fun c7 => ?_)
      · refine lv_goto (tgt := 2435) hx hb dL_law_1167 (by decide) ?_
        exact W.widen (by omega) (by omega) (IH _ _ _ ρ1 μ1 _ _ n1 d1 s1 hhF hmF e0 em hdmF hoF hofF homF hdjF hS (lv_sub hl [2, 3, 4, 5, 6] rfl))
      · omega
  · omega

set_option maxHeartbeats 4000000 in
theorem lwc_14 {p : Program} {l : Launch} {e : Env} {s : State} {m : MethodId} {below : List Frame} {meth : Method} {c : Code} {G : zG} {H0 : Heap} {b L xa ma oa : Nat} {xs : Nat → Int32} {Q : State → Prop} {i Cc Sc : Nat} (hE : zE l s G) (hC : zC p l s G s m #[.ref b] c "VersorhallLaw" cL_law) (hml : c.maxLocals = 9) (hH0 : s.heap = H0) (hX : va_X b L xs s H0) (hbl : b < H0.size) (hL : L ≤ 256) (hnc : zNc s) (hoa : s.heap.size ≤ oa) (hi4 : i + 4 ≤ L) (hcc : Cc + 9000 ≤ 601152 ∧ Sc + 110000 ≤ 7254250) (IH : lwJ p l e s m below meth c G H0 b xa ma oa Q 2435 i (Cc + 9000) (Sc + 110000)) : lwJ p l e s m below meth c G H0 b xa ma oa Q 1170 i Cc Sc := by
  intro H locs ls ρ μ σ th n9 d9 s9 hh hm exa ema hdm ho hof hom hdj hS hl
  subst exa
  subst ema
  have hx := hC.x
  have hb := hC.b
  have hp9 := hh.ok.1
  have hO : zO s H0 := ⟨by rw [hH0]; exact Nat.le_refl _, fun _ _ => by rw [hH0]⟩
  have hP : va_P G.1 zCl [] H := va_nil
  have hD : va_D (zA M0 H0) [] := va_nilD
  obtain ⟨z1, e1⟩ : ∃ z : Int, (xs (i + 1)).toInt = z := ⟨_, rfl⟩
  have hz1 : zi z1 := by rw [← e1]; exact ⟨Int32.le_toInt _, Int32.toInt_lt _⟩
  refine lv_aload_n hx hb dL_law_1170 rfl (lv_at hl 3 rfl) ?_
  refine lv_aload_n hx hb dL_law_1171 rfl (lv_at hl 4 rfl) ?_
  refine lv_iload hx hb dL_law_1172 (lv_at hl 0 rfl) ?_
  refine lv_iconst (v := iI 1) hx hb dL_law_1174 rfl ?_
  refine z_add hx hb (z := ((i : Nat) : Int) + 1) dL_law_1175 rfl ?_
  refine z_sld hC hX hbl hS (k := i + 1) (by omega) (by omega) (by omega) dL_law_1176 ?_
  refine z_top (b := z1) e1 ?_
  refine lv_aload_n hx hb dL_law_1177 rfl (lv_at hl 1 rfl) ?_
  have hO0 : zO s H := hO.ext0 (zS_F hS)
  have hol := ho.lt
  refine z_goX (Cc + 100) (Sc + 1000) (z_runSw (As := [.ref (ρ (0, 0, 0)), .int (iI z1), .ref oa]) (rest := []) hC hml hl.1 (z_monW (m_X0_clear hE H (hO.ext0 (zS_F hS)) ρ σ z1 oa n9 d9 s9 hh hdm ho hoa hof hnc hz1)) (lw_SW q1303 q1304 q61 q1305) nd_X0_clear rfl rfl (Nat.le_of_ble_eq_true rfl) ⟨Nat.le_of_ble_eq_true rfl, Nat.le_of_ble_eq_true rfl⟩ ⟨zfit (k := 100) (z := 601152) rfl rfl (by omega), zfit (k := 1000) (z := 7254250) rfl rfl (by omega)⟩ dL_law_1178) ⟨zad (k := 100) rfl (by omega), zad (k := 1000) rfl (by omega)⟩ hS (fun q z => Or.inr (by rw [← hH0]; exact z.elim (fun w => FC.ge hh.sep w) (fun w => by rw [w]; exact hoa))) (fun E ce q9 Hx1 locs hp hF hS1 hce hcv hcl => ?_) (fun r H2 locs hp hF hS1 => ?_)
  · exact hp.1.elim
  obtain ⟨⟨kk, rfl, σ1, n1, d1, s1, hpo, ho, hk1⟩, hmk⟩ := hp
  have hP : va_P G.1 zCl [] H2 := va_nil
  have hD : va_D (zA M0 H0) [] := va_nilD
  obtain ⟨ρ1, hh, e0, hdm, hm, hof, hdj⟩ := LI_cls hE hO0 hm hof hom hol hdj hdm hF hmk hpo
  have hP : va_P G.1 zCl ([]) H2 := hP
  have hD : va_D (zA M0 H0) ([]) := hD
  have hS := hS1
  refine lv_istore (lv' := [(5, .int (iI kk)), (4, .int (iI ((i : Nat) : Int))), (3, .ref oa), (2, .ref (μ (0, 0, 0))), (1, .ref (ρ (0, 0, 0))), (0, .ref b)]) hx hb dL_law_1181 hl (by decide) rfl (fun ls hl => ?_)
  refine lv_aload_n hx hb dL_law_1183 rfl (lv_at hl 3 rfl) ?_
  refine lv_aload_n hx hb dL_law_1184 rfl (lv_at hl 5 rfl) ?_
  refine lv_iload hx hb dL_law_1185 (lv_at hl 1 rfl) ?_
  refine lv_iconst (v := iI 1) hx hb dL_law_1187 rfl ?_
  refine z_add hx hb (z := ((i : Nat) : Int) + 1) dL_law_1188 rfl ?_
  refine z_sld hC hX hbl hS (k := i + 1) (by omega) (by omega) (by omega) dL_law_1189 ?_
  refine z_top (b := z1) e1 ?_
  have hO1 : zO s H2 := hO.ext0 (zS_F hS)
  have hol1 := ho.lt
  refine z_go ((Cc + 100) + 20) ((Sc + 1000) + 200) (z_runV (As := [.int (iI z1)]) (rest := []) hC hml hl.1 (z_mon (m_X3_clear hE H2 (hO.ext0 (zS_F hS)) μ σ th z1 hm hz1)) (lw_V q1770 q1771 q1772 q67 q1773) rfl nd_X3_clear rfl (z_rv hC (ci := 2) rfl hm.2.2.1.1 rfl) rfl (Nat.le_of_ble_eq_true rfl) ⟨Nat.le_of_ble_eq_true rfl, Nat.le_of_ble_eq_true rfl⟩ ⟨zfit (k := 20) (z := 601152) rfl rfl (by omega), zfit (k := 200) (z := 7254250) rfl rfl (by omega)⟩ dL_law_1190) ⟨zad (k := 20) rfl (by omega), zad (k := 200) rfl (by omega)⟩ hS (fun q z => Or.inr (by rw [← hH0]; exact FM.ge hm.sep z)) (fun r H3 locs hp hF hS1 => ?_)
  obtain ⟨⟨yb, rfl, k2, σ2, hpm, h2⟩, hmk⟩ := hp
  have hP : va_P G.1 zCl [] H3 := va_nil
  have hD : va_D (zA M0 H0) [] := va_nilD
  have ho := ho.ext hF hom
  obtain ⟨μ1, hm, em, hdm, hh, hom, hdj⟩ := LI_mdl hE hO1 hh hom hol1 hdj hdm hF hmk hpm
  have hP : va_P G.1 zCl ([]) H3 := hP
  have hD : va_D (zA M0 H0) ([]) := hD
  have hS := hS1
  have hag := z_agr (ex := [IOB]) (X := X_clear σ z1) (B := R_clear σ z1 yb σ2) nd_1 (fun a E hX => by obtain ⟨y, hR, -⟩ := a; exact Rx_clear hR hX) (fun a E hX => Rx_clear a hX) (fun E E' a b => Xu_clear a b) hk1 h2
  obtain ⟨ek, hk3, hkk⟩ := hag
  have hk3 : k2 ≤ 3 := Nat.le_trans hk3 (by decide)
  subst ek
  refine lv_istore (lv' := [(6, .int (iI yb)), (5, .int (iI ((k2 : Nat) : Int))), (4, .int (iI ((i : Nat) : Int))), (3, .ref oa), (2, .ref (μ (0, 0, 0))), (1, .ref (ρ (0, 0, 0))), (0, .ref b)]) hx hb dL_law_1193 hl (by decide) rfl (fun ls hl => ?_)
  refine lv_aload_n hx hb dL_law_1195 rfl (lv_at hl 4 rfl) ?_
  rw [← em]
  refine z_go ((Cc + 100) + 20) ((Sc + 1000) + 200) (z_runV (As := []) (rest := []) hC hml hl.1 (m_X3_thrown hE H3 (hO.ext0 (zS_F hS)) μ1 σ2 ((k2 : Nat) : Int) hm) (lw_V q1512 q1513 q1514 q67 q1515) rfl nd_X3_thrown rfl (z_rv hC (ci := 2) rfl hm.2.2.1.1 rfl) rfl (Nat.le_of_ble_eq_true rfl) ⟨Nat.le_of_ble_eq_true rfl, Nat.le_of_ble_eq_true rfl⟩ ⟨zfit (k := 0) (z := 601152) rfl rfl (by omega), zfit (k := 0) (z := 7254250) rfl rfl (by omega)⟩ dL_law_1196) ⟨zad (k := 0) rfl (by omega), zad (k := 0) rfl (by omega)⟩ hS (fun _ z => z.elim) (fun r H4 locs hp hF hS1 => ?_)
  obtain ⟨_, rfl, rfl⟩ := hp
  have hP : va_P G.1 zCl [] H4 := va_nil
  have hD : va_D (zA M0 H0) [] := va_nilD
  have hh := hh.ext0 hE hF
  have hm := hm.ext0 hE hF
  have hdm := hdm.ext0 hF
  have ho := ho.ext0 hF
  have hP : va_P G.1 zCl ([]) H4 := hP
  have hD : va_D (zA M0 H0) ([]) := hD
  have hS := hS1
  have hhF := hh
  have hmF := hm
  have hdmF := hdm
  have hoF := ho
  have hofF := hof
  have homF := hom
  have hdjF := hdj
  refine lv_iload hx hb dL_law_1199 (lv_at hl 1 rfl) ?_
  refine z_ceq (tgt := 1206) hx hb dL_law_1201 (by decide) (by omega) (fun c5 => ?_) (fun c5 => ?_)
  · refine lv_iload hx hb dL_law_1206 (lv_at hl 1 rfl) ?_
    refine z_zne (tgt := 1224) hx hb dL_law_1208 (by decide) (by omega) (fun c6 => ?_) (fun c6 => ?_)
    · obtain ⟨-, es1, es2⟩ := hkk.resolve_left (fun w => by have := w.1; omega)
      subst es1
      subst es2
      refine lv_goto (tgt := 2435) hx hb dL_law_1224 (by decide) ?_
      exact W.widen (by omega) (by omega) (IH _ _ _ ρ1 μ1 _ _ n1 d1 s1 hhF hmF e0 em hdmF hoF hofF homF hdjF hS (lv_sub hl [2, 3, 4, 5, 6] rfl))
    · obtain ⟨k0, hA, hB⟩ := hkk.resolve_right (fun w => by have := w.1; omega)
      obtain ⟨y1, hR1, en⟩ := hA
      obtain ⟨ey, es⟩ := Rd_clear hR1 hB
      subst es
      refine lv_aload_n hx hb dL_law_1211 rfl (lv_at hl 3 rfl) ?_
      refine z_getn hC (k := 0) rfl in_X4 hoF (by decide) q886 (fun _ h => h) rfl dL_law_1212 ?_
      refine lv_iload hx hb dL_law_1215 (lv_at hl 0 rfl) ?_
      refine lv_i2l hx hb dL_law_1217 rfl ?_
      refine z_lcq hx hb (by rw [en, ey]) dL_law_1218 ?_
      refine z_zeq (tgt := 1224) hx hb dL_law_1219 (by decide) (by omega) (fun c7 => ?_) (fun c7 => ?_)
      · refine lv_goto (tgt := 2435) hx hb dL_law_1224 (by decide) ?_
        exact W.widen (by omega) (by omega) (IH _ _ _ ρ1 μ1 _ _ n1 d1 s1 hhF hmF e0 em hdmF hoF hofF homF hdjF hS (lv_sub hl [2, 3, 4, 5, 6] rfl))
      · omega
  · omega

