/-! THE HOUSE: the poise -/
set_option maxRecDepth 100000
def cpS (a b : UInt64) : UInt64 := (a &&& 0x7fffffffffffffff) ||| (if b >>> 63 == 1 then 0x8000000000000000 else 0)
def abS (a : UInt64) : UInt64 := a &&& 0x7fffffffffffffff
def rnA (x : UInt64) : UInt64 := FP.dadd 4841369599423283200 (abS x)
def rnB (x : UInt64) : UInt64 := FP.dsub (rnA x) 4841369599423283200
def rnF (x : UInt64) : UInt64 := FP.dmul (cpS FP.dconst1 x) (rnB x)
def rnOk (x : UInt64) : Prop := FP.dIsNaN x = false ∧ (abS x) &&& 0x7fffffffffffffff ≤ 0x7ff0000000000000 ∧ (¬ 0 ≤ Op.cmpValue (FP.dcmp (abS x) 4841369599423283200) .g) ∧ vf_n64 (rnA x) ∧ vf_n64 (rnB x) ∧ vf_n64 (rnF x) ∧ (rnF x) &&& 0x7fffffffffffffff ≤ 0x7ff0000000000000
def rnT (x : UInt64) : Bool := (FP.dIsNaN x == false) && decide ((abS x) &&& 0x7fffffffffffffff ≤ 0x7ff0000000000000) && decide (¬ 0 ≤ Op.cmpValue (FP.dcmp (abS x) 4841369599423283200) .g) && n64 (rnA x) && n64 (rnB x) && n64 (rnF x) && decide ((rnF x) &&& 0x7fffffffffffffff ≤ 0x7ff0000000000000)
theorem n64_v {r : UInt64} (h : n64 r = true) : vf_n64 r := by
  unfold n64 at h
  unfold vf_n64
  exact of_decide_eq_true h
theorem rnT_ok {x : UInt64} (h : rnT x = true) : rnOk x := by
  simp only [rnT, Bool.and_eq_true, beq_iff_eq] at h
  obtain ⟨⟨⟨⟨⟨⟨h1, h2⟩, h3⟩, h4⟩, h5⟩, h6⟩, h7⟩ := h
  exact ⟨h1, of_decide_eq_true h2, of_decide_eq_true h3, n64_v h4, n64_v h5, n64_v h6, of_decide_eq_true h7⟩
/-- the poise of a sum of quarters over n elements: half goes to the even one -/
def poW (z : Int) (n : Nat) : Nat := z.natAbs / (4 * n) + if 2 * (z.natAbs % (4 * n)) > 4 * n ∨ (2 * (z.natAbs % (4 * n)) = 4 * n ∧ z.natAbs / (4 * n) % 2 = 1) then 1 else 0
def poV (z : Int) (n : Nat) : Int := if z < 0 then 0 - (poW z n : Nat) else (poW z n : Nat)
def poX (z : Int) (n : Nat) : UInt64 := FP.ddiv (FP.f2d (fq z)) (FP.i2d (iI (n : Int)))
def poT (z : Int) (n : Nat) : Bool := n64 (FP.f2d (fq z)) && n64 (poX z n) && rnT (poX z n) && n64 (FP.dadd (rnF (poX z n)) FP.dconst0) && FP.dadd (rnF (poX z n)) FP.dconst0 == FP.i2d (iI (poV z n))
def poL (n : Nat) : Bool := (List.range 621).all (fun k => poT ((k : Int) - 310) n)
theorem poL_1 : poL 1 = true := by decide +kernel
theorem poL_2 : poL 2 = true := by decide +kernel
theorem poL_3 : poL 3 = true := by decide +kernel
theorem poL_4 : poL 4 = true := by decide +kernel
theorem poL_5 : poL 5 = true := by decide +kernel
theorem poL_6 : poL 6 = true := by decide +kernel
theorem poL_7 : poL 7 = true := by decide +kernel
theorem poL_8 : poL 8 = true := by decide +kernel
theorem poL_9 : poL 9 = true := by decide +kernel
theorem poL_10 : poL 10 = true := by decide +kernel
theorem po_T {z : Int} {n : Nat} (hz : -310 ≤ z ∧ z ≤ 310) (hn : 1 ≤ n ∧ n ≤ 10) : vf_n64 (FP.f2d (fq z)) ∧ vf_n64 (poX z n) ∧ rnOk (poX z n) ∧ vf_n64 (FP.dadd (rnF (poX z n)) FP.dconst0) ∧ FP.dadd (rnF (poX z n)) FP.dconst0 = FP.i2d (iI (poV z n)) := by
  have hL : poL n = true := by
    rcases (show n = 1 ∨ n = 2 ∨ n = 3 ∨ n = 4 ∨ n = 5 ∨ n = 6 ∨ n = 7 ∨ n = 8 ∨ n = 9 ∨ n = 10 by omega) with rfl | rfl | rfl | rfl | rfl | rfl | rfl | rfl | rfl | rfl
    · exact poL_1
    · exact poL_2
    · exact poL_3
    · exact poL_4
    · exact poL_5
    · exact poL_6
    · exact poL_7
    · exact poL_8
    · exact poL_9
    · exact poL_10
  have h := List.all_eq_true.mp hL (z + 310).toNat (List.mem_range.mpr (by omega))
  rw [show (((z + 310).toNat : Nat) : Int) - 310 = z by omega] at h
  simp only [poT, Bool.and_eq_true, beq_iff_eq] at h
  obtain ⟨⟨⟨⟨h1, h2⟩, h3⟩, h4⟩, h5⟩ := h
  exact ⟨n64_v h1, n64_v h2, rnT_ok h3, n64_v h4, h5⟩
def poD (σ : St) : UInt64 := if St_ne σ = 0 then FP.dconst0 else FP.i2d (iI (poV (leS σ) (St_ne σ)))
abbrev rm_m_J10_copySign : Room := { frames := 1, cells := 0, slots := 0, locals := 30 }
theorem m_J10_copySign {l : Launch} {s0 : State} {G : zG} (hE : zE l s0 G) (H0 : Heap) (hO : zO s0 H0) (a b : UInt64) (hs : FP.dIsNaN b = false) : zM l s0 yJ10_copySign cJ10_copySign 4 (some FieldType.double) rm_m_J10_copySign [.double a, .double b] H0 M0 (rd (fun y _ => y = cpS a b)) :=
  z_ovM (row := zwC) (ps := [.double, .double]) (ret' := some .double) (by decide) zwC_row q270 zw_descDD rfl rfl (fun e U Q hq => zwC_wp hs e U Q hq) ⟨_, rfl, rfl⟩
abbrev rm_m_J10_abs : Room := { frames := 1, cells := 0, slots := 0, locals := 30 }
theorem m_J10_abs {l : Launch} {s0 : State} {G : zG} (hE : zE l s0 G) (H0 : Heap) (hO : zO s0 H0) (a : UInt64) (hs : (abS a) &&& 0x7fffffffffffffff ≤ 0x7ff0000000000000) : zM l s0 yJ10_abs cJ10_abs 2 (some FieldType.double) rm_m_J10_abs [.double a] H0 M0 (rd (fun y _ => y = abS a)) :=
  z_ovM (row := zwA) (ps := [.double]) (ret' := some .double) (by decide) zwA_row q281 zw_descD rfl rfl (fun e U Q hq => zwA_wp hs e U Q hq) ⟨_, rfl, rfl⟩
abbrev rm_m_J26_rint : Room := { frames := 2, cells := 0, slots := 0, locals := 53 }
set_option maxHeartbeats 4000000 in
theorem m_J26_rint {l : Launch} {s0 : State} {G : zG} (hE : zE l s0 G) (H0 : Heap) (hO : zO s0 H0) (x : UInt64) (hs : rnOk x) : zM l s0 yJ26_rint cJ26_rint 6 (some FieldType.double) rm_m_J26_rint [.double x] H0 M0 (rd (fun y _ => y = rnF x)) := by
  refine z_met hE (by decide +kernel) (Nat.le_of_ble_eq_true rfl) ?_
  intro pp ee ss mm args below meth cd Q ls hC hml hrt hlk hnm hH hQ hS hl
  have hx := hC.x
  have hb := hC.b
  have hl : lv_has ls 6 [(0, .double x)] := hl
  have hP : va_P G.1 zCl [] H0 := va_nil
  have hD : va_D (zA M0 H0) [] := va_nilD
  refine lv_ldc2d (v := 4841369599423283200) hx hb hC.o (hC.t _ q268) dJ26_rint_0 ?_
  refine lv_dstore_n (lv' := [(2, .double 4841369599423283200), (0, .double x)]) hx hb dJ26_rint_3 rfl hl (by decide) rfl (fun ls hl => ?_)
  refine lv_dconst1 hx hb dJ26_rint_4 ?_
  refine lv_dload_n hx hb dJ26_rint_5 rfl (lv_at hl 1 rfl) ?_
  refine z_go 0 0 (z_runS (As := [.double FP.dconst1, .double x]) (rest := []) hC hml hl.1 (m_J10_copySign hE H0 (hO.ext0 (zS_F hS)) FP.dconst1 x hs.1) (lw_S q269 q270 q78 q271) nd_J10_copySign rfl rfl (Nat.le_of_ble_eq_true rfl) ⟨Nat.le_of_ble_eq_true rfl, Nat.le_of_ble_eq_true rfl⟩ ⟨zfit (k := 0) (z := 0) rfl rfl (by omega), zfit (k := 0) (z := 0) rfl rfl (by omega)⟩ dJ26_rint_6) ⟨zad (k := 0) rfl (by omega), zad (k := 0) rfl (by omega)⟩ hS (fun _ z => z.elim) (fun r H1 locs hp hF hS1 => ?_)
  obtain ⟨_, rfl, rfl⟩ := hp
  have hP := zpk hP hF
  have hP : va_P G.1 zCl ([]) H1 := hP
  have hD : va_D (zA M0 H0) ([]) := hD
  have hS := hS1
  refine lv_dstore (lv' := [(4, .double (cpS FP.dconst1 x)), (2, .double 4841369599423283200), (0, .double x)]) hx hb dJ26_rint_9 hl (by decide) rfl (fun ls hl => ?_)
  refine lv_dload_n hx hb dJ26_rint_11 rfl (lv_at hl 2 rfl) ?_
  refine z_go 0 0 (z_runS (As := [.double x]) (rest := []) hC hml hl.1 (m_J10_abs hE H1 (hO.ext0 (zS_F hS)) x hs.2.1) (lw_S q280 q281 q78 q282) nd_J10_abs rfl rfl (Nat.le_of_ble_eq_true rfl) ⟨Nat.le_of_ble_eq_true rfl, Nat.le_of_ble_eq_true rfl⟩ ⟨zfit (k := 0) (z := 0) rfl rfl (by omega), zfit (k := 0) (z := 0) rfl rfl (by omega)⟩ dJ26_rint_12) ⟨zad (k := 0) rfl (by omega), zad (k := 0) rfl (by omega)⟩ hS (fun _ z => z.elim) (fun r H2 locs hp hF hS1 => ?_)
  obtain ⟨_, rfl, rfl⟩ := hp
  have hP := zpk hP hF
  have hP : va_P G.1 zCl ([]) H2 := hP
  have hD : va_D (zA M0 H0) ([]) := hD
  have hS := hS1
  refine lv_dstore_n (lv' := [(0, .double (abS x)), (4, .double (cpS FP.dconst1 x)), (2, .double 4841369599423283200)]) hx hb dJ26_rint_15 rfl hl (by decide) rfl (fun ls hl => ?_)
  refine lv_dload_n hx hb dJ26_rint_16 rfl (lv_at hl 0 rfl) ?_
  refine lv_dload_n hx hb dJ26_rint_17 rfl (lv_at hl 2 rfl) ?_
  refine lv_dcmp hx hb dJ26_rint_18 ?_
  refine lv_if_ge (tgt := 28) hx hb dJ26_rint_19 (by decide)   (fun cg => ?_) (fun cg => ?_)
  · exact absurd cg hs.2.2.1
  · refine lv_dload_n hx hb dJ26_rint_22 rfl (lv_at hl 2 rfl) ?_
    refine lv_dload_n hx hb dJ26_rint_23 rfl (lv_at hl 0 rfl) ?_
    refine lv_dadd hx hb dJ26_rint_24 hs.2.2.2.1 ?_
    refine lv_dload_n hx hb dJ26_rint_25 rfl (lv_at hl 2 rfl) ?_
    refine lv_dsub hx hb dJ26_rint_26 hs.2.2.2.2.1 ?_
    refine lv_dstore_n (lv' := [(0, .double (FP.dsub (FP.dadd 4841369599423283200 (abS x)) 4841369599423283200)), (4, .double (cpS FP.dconst1 x)), (2, .double 4841369599423283200)]) hx hb dJ26_rint_27 rfl hl (by decide) rfl (fun ls hl => ?_)
    refine lv_dload hx hb dJ26_rint_28 (lv_at hl 1 rfl) ?_
    refine lv_dload_n hx hb dJ26_rint_30 rfl (lv_at hl 0 rfl) ?_
    refine lv_dmul hx hb dJ26_rint_31 hs.2.2.2.2.2.1 ?_
    exact z_dret hC hrt hlk hQ hS ⟨zle (z := 0) rfl (by omega), zle (z := 0) rfl (by omega)⟩ ⟨_, rfl, rfl⟩ dJ26_rint_32

abbrev rm_m_J10_rint : Room := { frames := 4, cells := 0, slots := 0, locals := 1100 }
theorem m_J10_rint {l : Launch} {s0 : State} {G : zG} (hE : zE l s0 G) (H0 : Heap) (hO : zO s0 H0) (x : UInt64) (hs : rnOk x) : zM l s0 yJ10_rint cJ10_rint 2 (some FieldType.double) rm_m_J10_rint [.double x] H0 M0 (rd (fun y _ => y = rnF x)) :=
  z_ovR (m_J26_rint hE H0 hO x hs) hs.2.2.2.2.2.2 ⟨by decide, by decide, by decide, by decide⟩
abbrev rm_m_X1_poise : Room := { frames := 5, cells := 1, slots := 4, locals := 1121 }
set_option maxHeartbeats 4000000 in
theorem m_X1_poise {l : Launch} {s0 : State} {G : zG} (hE : zE l s0 G) (H0 : Heap) (hO : zO s0 H0) (ρ : Ro → Nat) (σ : St) (hh : HC G s0 ρ σ H0) : zM l s0 yX1_poise cX1_poise 1 (some FieldType.double) rm_m_X1_poise [.ref (ρ (0, 0, 0))] H0 M0 (rd (fun y _ => y = poD σ)) := by
  refine z_met hE (by decide +kernel) (Nat.le_of_ble_eq_true rfl) ?_
  intro pp ee ss mm args below meth cd Q ls hC hml hrt hlk hnm hH hQ hS hl
  have hx := hC.x
  have hb := hC.b
  have hl : lv_has ls 1 [(0, .ref (ρ (0, 0, 0)))] := hl
  have hP : va_P G.1 zCl [] H0 := va_nil
  have hD : va_D (zA M0 H0) [] := va_nilD
  have hH1 := hh
  obtain ⟨hp, hna, hal, hne9, hel9, hmr9⟩ := id hh.ok
  have hp7 : 0 < St_p σ ∧ St_p σ ≤ 7 := by rcases hp with h | h | h <;> rw [h] <;> decide
  obtain ⟨sm9, -⟩ := id hh.2.2.1.1
  have hls := leS_in hne9
  obtain ⟨sm, hxx⟩ := id hH1.2.2.1.1
  refine lv_aload_n hx hb dX1_poise_0 rfl (lv_at hl 0 rfl) ?_
  refine z_get hC (k := 2) rfl in_X1 hxx (by decide) q153 (fun _ h => h) rfl dX1_poise_1 ?_
  obtain ⟨mde, hLe⟩ := id hH1.2.2.1.2.2.1
  refine z_go 0 0 (z_runV (As := []) (rest := []) hC hml hl.1 (m_J2_isEmpty hE H0 (hO.ext0 (zS_F hS)) (ρ (3, 0, 0)) (St_ne σ) (fun j => ρ (13, j, 0)) (ρ (4, 0, 0)) mde hLe) (lw_V q225 q226 q227 q65 q228) rfl nd_J2_isEmpty rfl (z_rv hC (ci := 8) rfl hLe.1 rfl) rfl (Nat.le_of_ble_eq_true rfl) ⟨Nat.le_of_ble_eq_true rfl, Nat.le_of_ble_eq_true rfl⟩ ⟨zfit (k := 0) (z := 1) rfl rfl (by omega), zfit (k := 0) (z := 4) rfl rfl (by omega)⟩ dX1_poise_4) ⟨zad (k := 0) rfl (by omega), zad (k := 0) rfl (by omega)⟩ hS (fun _ z => z.elim) (fun r H1 locs hp hF hS1 => ?_)
  obtain ⟨_, rfl, rfl⟩ := hp
  have hP := zpk hP hF
  have hP : va_P G.1 zCl ([]) H1 := hP
  have hD : va_D (zA M0 H0) ([]) := hD
  have hH1 : HC G s0 ρ σ H1 := hH1.ext0 hE hF
  have hS := hS1
  refine z_zeq (tgt := 14) hx hb dX1_poise_7 (by decide) (by split <;> omega) (fun c2 => ?_) (fun c2 => ?_)
  · have e0 : St_ne σ ≠ 0 := by split at c2 <;> omega
    have hpo := po_T hls (show 1 ≤ St_ne σ ∧ St_ne σ ≤ 10 by omega)
    obtain ⟨sm, hxx⟩ := id hH1.2.2.1.1
    refine lv_aload_n hx hb dX1_poise_14 rfl (lv_at hl 0 rfl) ?_
    refine z_go 1 4 (z_runV (As := []) (rest := []) hC hml hl.1 (m_X1_leans hE H1 (hO.ext0 (zS_F hS)) ρ σ hH1) (lw_V q237 q239 qs0 q62 q240) rfl nd_X1_leans rfl (z_rv hC (ci := 0) rfl hxx rfl) rfl (Nat.le_of_ble_eq_true rfl) ⟨Nat.le_of_ble_eq_true rfl, Nat.le_of_ble_eq_true rfl⟩ ⟨zfit (k := 1) (z := 1) rfl rfl (by omega), zfit (k := 4) (z := 4) rfl rfl (by omega)⟩ dX1_poise_15) ⟨zad (k := 1) rfl (by omega), zad (k := 4) rfl (by omega)⟩ hS (fun _ z => z.elim) (fun r H2 locs hp hF hS1 => ?_)
    obtain ⟨_, rfl, rfl⟩ := hp
    have hP := zpk hP hF
    have hP : va_P G.1 zCl ([]) H2 := hP
    have hD : va_D (zA M0 H0) ([]) := hD
    have hH1 : HC G s0 ρ σ H2 := hH1.ext0 hE hF
    have hS := hS1
    obtain ⟨sm, hxx⟩ := id hH1.2.2.1.1
    refine lv_f2d hx hb dX1_poise_18 hpo.1 ?_
    refine lv_aload_n hx hb dX1_poise_19 rfl (lv_at hl 0 rfl) ?_
    refine z_get hC (k := 2) rfl in_X1 hxx (by decide) q153 (fun _ h => h) rfl dX1_poise_20 ?_
    obtain ⟨mde, hLe⟩ := id hH1.2.2.1.2.2.1
    refine z_go 1 4 (z_runV (As := []) (rest := [.double (FP.f2d (fq (leS σ)))]) hC hml hl.1 (m_J2_size hE H2 (hO.ext0 (zS_F hS)) (ρ (3, 0, 0)) (St_ne σ) (fun j => ρ (13, j, 0)) (ρ (4, 0, 0)) mde hLe) (lw_V q229 q230 q231 q65 q232) rfl nd_J2_size rfl (z_rv hC (ci := 8) rfl hLe.1 rfl) rfl (Nat.le_of_ble_eq_true rfl) ⟨Nat.le_of_ble_eq_true rfl, Nat.le_of_ble_eq_true rfl⟩ ⟨zfit (k := 0) (z := 1) rfl rfl (by omega), zfit (k := 0) (z := 4) rfl rfl (by omega)⟩ dX1_poise_23) ⟨zad (k := 0) rfl (by omega), zad (k := 0) rfl (by omega)⟩ hS (fun _ z => z.elim) (fun r H3 locs hp hF hS1 => ?_)
    obtain ⟨_, rfl, rfl⟩ := hp
    have hP := zpk hP hF
    have hP : va_P G.1 zCl ([]) H3 := hP
    have hD : va_D (zA M0 H0) ([]) := hD
    have hH1 : HC G s0 ρ σ H3 := hH1.ext0 hE hF
    have hS := hS1
    refine lv_i2d hx hb dX1_poise_26 ?_
    refine lv_ddiv hx hb dX1_poise_27 hpo.2.1 ?_
    refine z_go 1 4 (z_runS (As := [.double (FP.ddiv (FP.f2d (fq (leS σ))) (FP.i2d (iI ((St_ne σ : Nat) : Int))))]) (rest := []) hC hml hl.1 (m_J10_rint hE H3 (hO.ext0 (zS_F hS)) (poX (leS σ) (St_ne σ)) hpo.2.2.1) (lw_S q262 q263 q78 q264) nd_J10_rint rfl rfl (Nat.le_of_ble_eq_true rfl) ⟨Nat.le_of_ble_eq_true rfl, Nat.le_of_ble_eq_true rfl⟩ ⟨zfit (k := 0) (z := 1) rfl rfl (by omega), zfit (k := 0) (z := 4) rfl rfl (by omega)⟩ dX1_poise_28) ⟨zad (k := 0) rfl (by omega), zad (k := 0) rfl (by omega)⟩ hS (fun _ z => z.elim) (fun r H4 locs hp hF hS1 => ?_)
    obtain ⟨_, rfl, rfl⟩ := hp
    have hP := zpk hP hF
    have hP : va_P G.1 zCl ([]) H4 := hP
    have hD : va_D (zA M0 H0) ([]) := hD
    have hH1 : HC G s0 ρ σ H4 := hH1.ext0 hE hF
    have hS := hS1
    refine lv_dconst0 hx hb dX1_poise_31 ?_
    refine lv_dadd hx hb dX1_poise_32 hpo.2.2.2.1 ?_
    exact z_dret hC hrt hlk hQ hS ⟨zle (z := 1) rfl (by omega), zle (z := 4) rfl (by omega)⟩ ⟨_, rfl, by unfold poD; rw [if_neg e0, hpo.2.2.2.2]⟩ dX1_poise_33
  · have e0 : St_ne σ = 0 := by split at c2 <;> omega
    refine lv_dconst0 hx hb dX1_poise_10 ?_
    refine lv_goto (tgt := 33) hx hb dX1_poise_11 (by decide) ?_
    exact z_dret hC hrt hlk hQ hS ⟨zle (z := 1) rfl (by omega), zle (z := 4) rfl (by omega)⟩ ⟨_, rfl, by unfold poD; rw [if_pos e0]⟩ dX1_poise_33

