/-! THE CLASS: kinds, conjugates, products -/
set_option maxRecDepth 100000

theorem z_k1 {l : Launch} {s0 : State} {G : zG} (hE : zE l s0 G) {s : State} {H : Heap} (hW : s0.WarmedH s.vm) (ho : zO s0 H) {kd : Nat} (e : kd = 0) : zRv s H (G.2 (10 + kd)) "Versorhall$Kind$1" := by
  subst e
  obtain ⟨cell, h1, h2, h3, -⟩ := zOo hW ho hE.2.2.2.1.1.2.2.1
  exact ⟨cell, h1, h2, h3⟩
theorem z_k2 {l : Launch} {s0 : State} {G : zG} (hE : zE l s0 G) {s : State} {H : Heap} (hW : s0.WarmedH s.vm) (ho : zO s0 H) {kd : Nat} (e : kd = 1) : zRv s H (G.2 (10 + kd)) "Versorhall$Kind$2" := by
  subst e
  obtain ⟨cell, h1, h2, h3, -⟩ := zOo hW ho hE.2.2.2.1.1.2.2.2.1
  exact ⟨cell, h1, h2, h3⟩
theorem zmul3 {a b c p : Int} (ha : 0 ≤ a ∧ a < p) (hb : 0 ≤ b ∧ b < p) (hc : 0 ≤ c ∧ c < p) (hp : 0 < p ∧ p ≤ 7) : (0 ≤ a * b ∧ a * b ≤ 36) ∧ 0 ≤ a * b * c ∧ a * b * c ≤ 216 := by
  have h1 : 0 ≤ a * b := Int.mul_nonneg ha.1 hb.1
  have h2 : a * b ≤ 6 * 6 := Int.mul_le_mul (by omega) (by omega) hb.1 (by omega)
  have h3 : 0 ≤ a * b * c := Int.mul_nonneg h1 hc.1
  have h4 : a * b * c ≤ 36 * 6 := Int.mul_le_mul (by omega) (by omega) hc.1 (by omega)
  omega
/-- a product under way: rows below i, of row i the places below j -/
def tmP (p : Int) (sg : Nat → Nat → Int) (v w : Nat → Int) (i j : Nat) : Nat → Int := fun k => (sm i (fun a => v a * w (a ^^^ k) * sg a (a ^^^ k)) + if i ^^^ k < j then v i * w (i ^^^ k) * sg i (i ^^^ k) else 0) % p
theorem tmP_0 (p : Int) (sg : Nat → Nat → Int) (v w : Nat → Int) (k : Nat) : tmP p sg v w 0 0 k = 0 := by simp [tmP, sm]
theorem tmP_row {p : Int} {sg : Nat → Nat → Int} {v w : Nat → Int} {d n i j : Nat} (hn : n = 2 ^ d) (hi : i < n) (hj : n ≤ j ∨ v i = 0) {k : Nat} (hk : k < n) : tmP p sg v w i j k = tmP p sg v w (i + 1) 0 k := by
  have h := xor_lt hn hi hk
  unfold tmP
  simp only [sm, Nat.not_lt_zero, if_false, Int.add_zero]
  rcases hj with hj | hj
  · rw [if_pos (by omega)]
  · rw [hj]; simp
theorem tmP_step {p : Int} {sg : Nat → Nat → Int} {v w : Nat → Int} {n i j : Nat} {f : Nat → Int} (hf : ∀ k, k < n → f k = tmP p sg v w i j k) (k : Nat) (hk : k < n) : va_up f (i ^^^ j) ((f (i ^^^ j) + v i * w j * sg i j) % p) k = tmP p sg v w i (j + 1) k := by
  by_cases e : k = i ^^^ j
  · subst e
    have e2 : i ^^^ (i ^^^ j) = j := by rw [← Nat.xor_assoc, Nat.xor_self, Nat.zero_xor]
    rw [va_up_self, hf _ hk]
    unfold tmP
    rw [e2, if_neg (by omega), if_pos (by omega), Int.emod_add_emod, Int.add_zero]
  · have e2 : i ^^^ k ≠ j := fun e3 => e (by rw [← e3, ← Nat.xor_assoc, Nat.xor_self, Nat.zero_xor])
    rw [va_up_ne _ _ e, hf _ hk]
    unfold tmP
    by_cases c : i ^^^ k < j
    · rw [if_pos c, if_pos (by omega)]
    · rw [if_neg c, if_neg (by omega)]
theorem tmP_end (p : Int) (sg : Nat → Nat → Int) (v w : Nat → Int) (n k : Nat) : tmP p sg v w n 0 k = tmV p n sg v w k := by simp [tmP, tmV]

abbrev rm_m_X10_turned : Room := { frames := 0, cells := 0, slots := 0, locals := 0 }
set_option maxHeartbeats 4000000 in
theorem m_X10_turned {l : Launch} {s0 : State} {G : zG} (hE : zE l s0 G) (H0 : Heap) (hO : zO s0 H0) (b k : Nat) (hk : k < 16) : zMU l s0 yX10_turned cX10_turned 2 (some FieldType.int) rm_m_X10_turned [.ref b, .int (iI ((k : Nat) : Int))] H0 M0 (ri (fun y _ => y = trn 0 k)) := by
  refine z_metU hE (by decide +kernel) (Nat.le_of_ble_eq_true rfl) ?_
  intro pp ee ss mm args below meth cd Q ls hC hml hrt hlk hnm hH hQ hS hl
  have hx := hC.x
  have hb := hC.b
  have hl : lv_has ls 2 [(0, .ref b), (1, .int (iI ((k : Nat) : Int)))] := hl
  have hP : va_P G.1 zCl [] H0 := va_nil
  have hD : va_D (zA M0 H0) [] := va_nilD
  refine lv_iload_n hx hb dX10_turned_0 rfl (lv_at hl 1 rfl) ?_
  refine z_zne (tgt := 8) hx hb dX10_turned_1 (by decide) (by omega) (fun c1 => ?_) (fun c1 => ?_)
  · refine lv_iconst (v := iI (-1)) hx hb dX10_turned_8 rfl ?_
    exact z_iret hC hrt hlk hQ hS ⟨zle (z := 0) rfl (by omega), zle (z := 0) rfl (by omega)⟩ ⟨_, rfl, by unfold trn; rw [if_pos rfl, if_neg (by omega)]⟩ dX10_turned_9
  · refine lv_iconst (v := iI 1) hx hb dX10_turned_4 rfl ?_
    refine lv_goto (tgt := 9) hx hb dX10_turned_5 (by decide) ?_
    exact z_iret hC hrt hlk hQ hS ⟨zle (z := 0) rfl (by omega), zle (z := 0) rfl (by omega)⟩ ⟨_, rfl, by unfold trn; rw [if_pos rfl, if_pos (by omega)]⟩ dX10_turned_9

abbrev rm_m_X11_turned : Room := { frames := 1, cells := 0, slots := 0, locals := 22 }
set_option maxHeartbeats 4000000 in
theorem m_X11_turned {l : Launch} {s0 : State} {G : zG} (hE : zE l s0 G) (H0 : Heap) (hO : zO s0 H0) (b k : Nat) (hk : k < 16) : zMU l s0 yX11_turned cX11_turned 2 (some FieldType.int) rm_m_X11_turned [.ref b, .int (iI ((k : Nat) : Int))] H0 M0 (ri (fun y _ => y = trn 1 k)) := by
  refine z_metU hE (by decide +kernel) (Nat.le_of_ble_eq_true rfl) ?_
  intro pp ee ss mm args below meth cd Q ls hC hml hrt hlk hnm hH hQ hS hl
  have hx := hC.x
  have hb := hC.b
  have hl : lv_has ls 2 [(0, .ref b), (1, .int (iI ((k : Nat) : Int)))] := hl
  have hP : va_P G.1 zCl [] H0 := va_nil
  have hD : va_D (zA M0 H0) [] := va_nilD
  refine lv_iconst (v := iI 1) hx hb dX11_turned_0 rfl ?_
  refine lv_iconst (v := iI 2) hx hb dX11_turned_1 rfl ?_
  refine lv_iload_n hx hb dX11_turned_2 rfl (lv_at hl 1 rfl) ?_
  refine z_go 0 0 (z_runS (As := [.int (iI ((k : Nat) : Int))]) (rest := [.int (iI 2), .int (iI 1)]) hC hml hl.1 (m_J19_bitCount hE H0 (hO.ext0 (zS_F hS)) k hk) (lw_S q343 q344 q90 q345) nd_J19_bitCount rfl rfl (Nat.le_of_ble_eq_true rfl) ⟨Nat.le_of_ble_eq_true rfl, Nat.le_of_ble_eq_true rfl⟩ ⟨zfit (k := 0) (z := 0) rfl rfl (by omega), zfit (k := 0) (z := 0) rfl rfl (by omega)⟩ dX11_turned_3) ⟨zad (k := 0) rfl (by omega), zad (k := 0) rfl (by omega)⟩ hS (fun _ z => z.elim) (fun r H1 locs hp hF hS1 => ?_)
  obtain ⟨_, rfl, rfl⟩ := hp
  have hP := zpk hP hF
  have hP : va_P G.1 zCl ([]) H1 := hP
  have hD : va_D (zA M0 H0) ([]) := hD
  have hS := hS1
  have hbk : bitc k ≤ 4 := by unfold bitc; omega
  have e4 : Int.tmod ((bitc k : Nat) : Int) 4 = ((bitc k % 4 : Nat) : Int) := rfl
  refine lv_iconst (v := iI 4) hx hb dX11_turned_6 rfl ?_
  refine z_rem hx hb (z := Int.tmod ((bitc k : Nat) : Int) 4) dX11_turned_7 (by omega) rfl ?_
  refine z_top (b := ((bitc k % 4 : Nat) : Int)) (e4) ?_
  refine z_go 0 0 (z_runSN (As := [.int (iI 1), .int (iI 2), .int (iI ((bitc k % 4 : Nat) : Int))]) (rest := []) hC hml hl.1 (m_X1_isFrom hE H1 (hO.ext0 (zS_F hS)) 1 2 ((bitc k % 4 : Nat) : Int) ⟨by decide, by decide, by omega, by omega⟩) q351 q62 q349 q350 nd_X1_isFrom rfl rfl (Nat.le_of_ble_eq_true rfl) ⟨Nat.le_of_ble_eq_true rfl, Nat.le_of_ble_eq_true rfl⟩ ⟨zfit (k := 0) (z := 0) rfl rfl (by omega), zfit (k := 0) (z := 0) rfl rfl (by omega)⟩ dX11_turned_8) ⟨zad (k := 0) rfl (by omega), zad (k := 0) rfl (by omega)⟩ hS (fun _ z => z.elim) (fun r H2 locs hp hF hS1 => ?_)
  obtain ⟨_, rfl, rfl⟩ := hp
  have hP := zpk hP hF
  have hP : va_P G.1 zCl ([]) H2 := hP
  have hD : va_D (zA M0 H0) ([]) := hD
  have hS := hS1
  refine z_zeq (tgt := 18) hx hb dX11_turned_11 (by decide) (by split <;> omega) (fun c1 => ?_) (fun c1 => ?_)
  · refine lv_iconst (v := iI 1) hx hb dX11_turned_18 rfl ?_
    exact z_iret hC hrt hlk hQ hS ⟨zle (z := 0) rfl (by omega), zle (z := 0) rfl (by omega)⟩ ⟨_, rfl, by unfold trn; rw [if_neg (by decide), if_neg (by split at c1 <;> omega)]⟩ dX11_turned_19
  · refine lv_iconst (v := iI (-1)) hx hb dX11_turned_14 rfl ?_
    refine lv_goto (tgt := 19) hx hb dX11_turned_15 (by decide) ?_
    exact z_iret hC hrt hlk hQ hS ⟨zle (z := 0) rfl (by omega), zle (z := 0) rfl (by omega)⟩ ⟨_, rfl, by unfold trn; rw [if_neg (by decide), if_pos (by split at c1 <;> omega)]⟩ dX11_turned_19

abbrev rm_m_X7_conjugate : Room := { frames := 3, cells := 2, slots := 19, locals := 62 }
set_option maxHeartbeats 4000000 in
theorem m_X7_conjugate {l : Launch} {s0 : State} {G : zG} (hE : zE l s0 G) (H0 : Heap) (hO : zO s0 H0) (x g : Nat) (p : Int) (d n kd : Nat) (dv : Nat → Int) (sg : Nat → Nat → Int) (a r : Nat) (v : Nat → Int) (hA : zAg G x g p d n kd dv sg H0) (h : zEl G x g a r n v H0) (hv : rw_ok p n v) : zM l s0 yX7_conjugate cX7_conjugate 3 (some (FieldType.object "Versorhall$Element")) rm_m_X7_conjugate [.ref a] H0 M0 (rr (fun q h1 => ∃ r1, NW G H0 h1 [(q, zOb 6 [.ref g, .ref r1, .ref x]), (r1, zI G n (cjV p kd v))])) := by
  refine z_met hE (by decide +kernel) (Nat.le_of_ble_eq_true rfl) ?_
  intro pp ee ss mm args below meth cd Q ls hC hml hrt hlk hnm hH hQ hS hl
  have hx := hC.x
  have hb := hC.b
  have hl : lv_has ls 3 [(0, .ref a)] := hl
  have hP : va_P G.1 zCl [] H0 := va_nil
  have hD : va_D (zA M0 H0) [] := va_nilD
  obtain ⟨la, le, dr, kn, sm, dl, da, ml, so, dm, ro, hx0, hg0, hL0, hso, hro, hfa⟩ := id hA
  obtain ⟨hp, hd4, hn2, hkd, hdv, hsg⟩ := hfa
  obtain ⟨hn16, hp7⟩ := hA.n
  refine z_new hC hP hD hS (c1 := 1) (s1 := 3) (fs := [.null, .null, .null]) (ci := 6) rfl in_X7 tyX7_ok q315 q316 q92 df_X7 ⟨zle (z := 2) rfl (by omega), zle (z := 19) rfl (by omega)⟩ ⟨by omega, by omega⟩ (ws' := fun q1 => [(q1, zOb 6 [.null, .null, .null])]) (fun _ => rfl) dX7_conjugate_0 (fun q1 H2 hq0q1 hq1q1 hP hD hS hF => ?_)
  refine lv_dup hx hb dX7_conjugate_3 rfl ?_
  refine lv_aload_n hx hb dX7_conjugate_4 rfl (lv_at hl 0 rfl) ?_
  refine z_get hC (k := 2) rfl in_X7 (zo hS h.1 id) (by decide) q326 (fun _ h => h) rfl dX7_conjugate_5 ?_
  refine lv_aload_n hx hb dX7_conjugate_8 rfl (lv_at hl 0 rfl) ?_
  refine z_get hC (k := 0) rfl in_X7 (zo hS h.1 id) (by decide) q322 (fun _ h => h) rfl dX7_conjugate_9 ?_
  refine z_go 2 19 (z_runI (As := [.ref x, .ref g]) (rest := [.ref q1]) hC hml hl.1 (m_X7_init hE H2 (hO.ext0 (zS_F hS)) x g p d n kd dv sg q1 (Nat.le_trans hO.1 hq0q1) (hA.ext0 (zS_F hS)) (hP 0 _ rfl)) q319 q92 q317 q318 rfl nd_X7_init rfl rfl (Nat.le_of_ble_eq_true rfl) ⟨Nat.le_of_ble_eq_true rfl, Nat.le_of_ble_eq_true rfl⟩ ⟨zfit (k := 1) (z := 2) rfl rfl (by omega), zfit (k := 16) (z := 19) rfl rfl (by omega)⟩ dX7_conjugate_12) ⟨zad (k := 1) rfl (by omega), zad (k := 16) rfl (by omega)⟩ hS (fun q z => by subst z; exact hD.2 0 _ rfl) (fun r H3 locs hp hF hS1 => ?_)
  obtain ⟨rfl, rq1, hm, hN⟩ := hp
  obtain ⟨hP, hD⟩ := zjmn hP hD hS.1 hF 0 rfl hm hN
  have hP : va_P G.1 zCl ([(q1, zOb 6 [.ref g, .ref rq1, .ref x]), (rq1, zI G n (fun _ => 0))]) H3 := hP
  have hD : va_D (zA M0 H0) ([(q1, zOb 6 [.ref g, .ref rq1, .ref x]), (rq1, zI G n (fun _ => 0))]) := hD
  have hS := hS1
  refine lv_astore_n (lv' := [(1, .ref q1), (0, .ref a)]) hx hb dX7_conjugate_15 rfl hl (by decide) rfl (fun ls hl => ?_)
  refine lv_iconst (v := iI 0) hx hb dX7_conjugate_16 rfl ?_
  refine lv_istore_n (lv' := [(2, .int (iI 0)), (1, .ref q1), (0, .ref a)]) hx hb dX7_conjugate_17 rfl hl (by decide) rfl (fun ls hl => ?_)
  have lp4 : ∀ (dlp4 : Nat) (k : Nat) (f : Nat → Int), n - k = dlp4 → (k ≤ n) → (∀ j, j < k → f j = (cjV p kd v) j) → ∀ (H5 : Heap) (locs : List Loc) (ls : Array Slot), va_P G.1 zCl ([(q1, zOb 6 [.ref g, .ref rq1, .ref x]), (rq1, zI G n f)]) H5 → va_D (zA M0 H0) ([(q1, zOb 6 [.ref g, .ref rq1, .ref x]), (rq1, zI G n f)]) → va_S (zA M0 H0) H0 H5 locs → lv_has ls 3 [(2, .int (iI ((k : Nat) : Int))), (1, .ref q1), (0, .ref a)] → W pp l ee rm_m_X7_conjugate ss mm args below meth cd H5 locs 2 19 Q (F0 mm 18 ls []) := by
    intro dlp4
    induction dlp4 using Nat.strongRecOn with
    | ind dlp4 ihlp4 =>
      intro k f hdlp4 hk hf H5 locs ls  hP hD hS hl
      refine lv_iload_n hx hb dX7_conjugate_18 rfl (lv_at hl 0 rfl) ?_
      refine lv_aload_n hx hb dX7_conjugate_19 rfl (lv_at hl 2 rfl) ?_
      refine z_get hC (k := 1) rfl in_X7 (zo hS h.1 id) (by decide) q324 (fun _ h => h) rfl dX7_conjugate_20 ?_
      refine z_alen hC 0 (zo hS h.2 id) rfl (y := ((n : Nat) : Int)) rfl dX7_conjugate_23 ?_
      refine z_cge (tgt := 64) hx hb dX7_conjugate_24 (by decide) (by omega) (fun c6 => ?_) (fun c6 => ?_)
      · refine lv_aload_n hx hb dX7_conjugate_64 rfl (lv_at hl 1 rfl) ?_
        have hP : va_P G.1 zCl ([(q1, zOb 6 [.ref g, .ref rq1, .ref x]), (rq1, zI G n (cjV p kd v))]) H5 := zcI hP 1 rfl (fun j hj => hf j (by omega))
        have hD : va_D (zA M0 H0) ([(q1, zOb 6 [.ref g, .ref rq1, .ref x]), (rq1, zI G n (cjV p kd v))]) := hD.set (p := 1) rfl
        exact z_aret hC hrt hlk hQ hS ⟨zle (z := 2) rfl (by omega), zle (z := 19) rfl (by omega)⟩ ⟨_, rfl, _, hP, zdn hD⟩ dX7_conjugate_65
      · have hvk := hv k (by omega)
        have htk := trn_in kd k
        have hb2 : -70 ≤ trn kd k * v k ∧ trn kd k * v k ≤ 70 := zmulb (by omega) hvk hp7
        refine lv_aload_n hx hb dX7_conjugate_27 rfl (lv_at hl 1 rfl) ?_
        refine z_get hC (k := 1) rfl in_X7 (hP 0 _ rfl) (by decide) q324 (fun _ h => h) rfl dX7_conjugate_28 ?_
        refine lv_iload_n hx hb dX7_conjugate_31 rfl (lv_at hl 0 rfl) ?_
        refine lv_aload_n hx hb dX7_conjugate_32 rfl (lv_at hl 2 rfl) ?_
        refine z_get hC (k := 2) rfl in_X7 (zo hS h.1 id) (by decide) q326 (fun _ h => h) rfl dX7_conjugate_33 ?_
        refine lv_aload_n hx hb dX7_conjugate_36 rfl (lv_at hl 2 rfl) ?_
        refine z_get hC (k := 0) rfl in_X7 (zo hS h.1 id) (by decide) q322 (fun _ h => h) rfl dX7_conjugate_37 ?_
        refine z_getn hC (k := 0) rfl in_X5 (zo hS hg0 id) (by decide) q956 (fun _ h => h) rfl dX7_conjugate_40 ?_
        refine lv_iload_n hx hb dX7_conjugate_43 rfl (lv_at hl 0 rfl) ?_
        rcases (show kd = 0 ∨ kd = 1 from by omega) with ekd | ekd
        · refine z_go 2 19 (z_runAU (n := 1) (As := [.int (iI ((k : Nat) : Int))]) (rest := [.ref x, .int (iI ((k : Nat) : Int)), .ref rq1]) hC hml hl.1 (m_X10_turned hE H5 (hO.ext0 (zS_F hS)) _ k (by omega)) q339 q334 q336 q337 q338  q335 ⟨by decide +kernel, by decide +kernel, by decide +kernel⟩ rfl (z_k1 hE hC.w (hO.ext0 (zS_F hS)) ekd) rfl (Nat.le_of_ble_eq_true rfl) ⟨Nat.le_of_ble_eq_true rfl, Nat.le_of_ble_eq_true rfl⟩ ⟨zfit (k := 0) (z := 2) rfl rfl (by omega), zfit (k := 0) (z := 19) rfl rfl (by omega)⟩ dX7_conjugate_44) ⟨zad (k := 0) rfl (by omega), zad (k := 0) rfl (by omega)⟩ hS (fun _ z => z.elim) (fun r H7 locs hp hF hS1 => ?_)
          obtain ⟨_, rfl, rfl⟩ := hp
          have hP := zpk hP hF
          have hP : va_P G.1 zCl ([(q1, zOb 6 [.ref g, .ref rq1, .ref x]), (rq1, zI G n f)]) H7 := hP
          have hD : va_D (zA M0 H0) ([(q1, zOb 6 [.ref g, .ref rq1, .ref x]), (rq1, zI G n f)]) := hD
          have hS := hS1
          have etr : trn 0 k = trn kd k := by rw [ekd]
          refine z_top (b := trn kd k) (etr) ?_
          refine lv_aload_n hx hb dX7_conjugate_47 rfl (lv_at hl 2 rfl) ?_
          refine z_get hC (k := 1) rfl in_X7 (zo hS h.1 id) (by decide) q324 (fun _ h => h) rfl dX7_conjugate_48 ?_
          refine lv_iload_n hx hb dX7_conjugate_51 rfl (lv_at hl 0 rfl) ?_
          refine z_iald hC (zo hS h.2 id) (k := k) rfl (by omega) (y := v k) rfl dX7_conjugate_52 ?_
          refine z_mul hx hb (z := (trn kd k) * (v k)) dX7_conjugate_53 rfl ?_
          refine z_go 2 19 (z_runVN (As := [.int (iI ((trn kd k) * (v k)))]) (rest := [.int (iI ((k : Nat) : Int)), .ref rq1]) hC hml hl.1 (m_X1_mod hE H7 (hO.ext0 (zS_F hS)) x la le dr p kn sm (trn kd k * v k) (zo hS hx0 id) hp7 (by omega)) q355 q62 q352 q354 qs5 nd_X1_mod rfl (z_rv hC (ci := 0) rfl (zo hS hx0 id) rfl) rfl (Nat.le_of_ble_eq_true rfl) ⟨Nat.le_of_ble_eq_true rfl, Nat.le_of_ble_eq_true rfl⟩ ⟨zfit (k := 0) (z := 2) rfl rfl (by omega), zfit (k := 0) (z := 19) rfl rfl (by omega)⟩ dX7_conjugate_54) ⟨zad (k := 0) rfl (by omega), zad (k := 0) rfl (by omega)⟩ hS (fun _ z => z.elim) (fun r H8 locs hp hF hS1 => ?_)
          obtain ⟨_, rfl, rfl⟩ := hp
          have hP := zpk hP hF
          have hP : va_P G.1 zCl ([(q1, zOb 6 [.ref g, .ref rq1, .ref x]), (rq1, zI G n f)]) H8 := hP
          have hD : va_D (zA M0 H0) ([(q1, zOb 6 [.ref g, .ref rq1, .ref x]), (rq1, zI G n f)]) := hD
          have hS := hS1
          refine z_iast hC hP hD hS 1 (k := k) rfl rfl (by omega) (ws' := [(q1, zOb 6 [.ref g, .ref rq1, .ref x]), (rq1, zI G n (va_up f k ((trn kd k * v k) % p)))]) rfl dX7_conjugate_57 (fun H9 locs hP hD hS => ?_)
          refine z_iinc (z := ((k + 1 : Nat) : Int)) (lv' := [(2, .int (iI ((k + 1 : Nat) : Int))), (1, .ref q1), (0, .ref a)]) hx hb dX7_conjugate_58 hl (k := 0) rfl (by omega) (by decide) rfl (fun ls hl => ?_)
          refine lv_goto (tgt := 18) hx hb dX7_conjugate_61 (by decide) ?_
          exact W.widen (by omega) (by omega) (ihlp4 (n - (k + 1)) (by omega) (k + 1) (va_up f k ((trn kd k * v k) % p)) rfl (by omega) (fun j hj => if e : j = k then by subst e; rw [va_up_self]; rfl else by rw [va_up_ne _ _ e]; exact hf j (by omega)) _ _ _  hP hD hS hl)
        · refine z_go 2 19 (z_runAU (n := 1) (As := [.int (iI ((k : Nat) : Int))]) (rest := [.ref x, .int (iI ((k : Nat) : Int)), .ref rq1]) hC hml hl.1 (m_X11_turned hE H5 (hO.ext0 (zS_F hS)) _ k (by omega)) q342 q334 q336 q340 q341  q335 ⟨by decide +kernel, by decide +kernel, by decide +kernel⟩ rfl (z_k2 hE hC.w (hO.ext0 (zS_F hS)) ekd) rfl (Nat.le_of_ble_eq_true rfl) ⟨Nat.le_of_ble_eq_true rfl, Nat.le_of_ble_eq_true rfl⟩ ⟨zfit (k := 0) (z := 2) rfl rfl (by omega), zfit (k := 0) (z := 19) rfl rfl (by omega)⟩ dX7_conjugate_44) ⟨zad (k := 0) rfl (by omega), zad (k := 0) rfl (by omega)⟩ hS (fun _ z => z.elim) (fun r H10 locs hp hF hS1 => ?_)
          obtain ⟨_, rfl, rfl⟩ := hp
          have hP := zpk hP hF
          have hP : va_P G.1 zCl ([(q1, zOb 6 [.ref g, .ref rq1, .ref x]), (rq1, zI G n f)]) H10 := hP
          have hD : va_D (zA M0 H0) ([(q1, zOb 6 [.ref g, .ref rq1, .ref x]), (rq1, zI G n f)]) := hD
          have hS := hS1
          have etr : trn 1 k = trn kd k := by rw [ekd]
          refine z_top (b := trn kd k) (etr) ?_
          refine lv_aload_n hx hb dX7_conjugate_47 rfl (lv_at hl 2 rfl) ?_
          refine z_get hC (k := 1) rfl in_X7 (zo hS h.1 id) (by decide) q324 (fun _ h => h) rfl dX7_conjugate_48 ?_
          refine lv_iload_n hx hb dX7_conjugate_51 rfl (lv_at hl 0 rfl) ?_
          refine z_iald hC (zo hS h.2 id) (k := k) rfl (by omega) (y := v k) rfl dX7_conjugate_52 ?_
          refine z_mul hx hb (z := (trn kd k) * (v k)) dX7_conjugate_53 rfl ?_
          refine z_go 2 19 (z_runVN (As := [.int (iI ((trn kd k) * (v k)))]) (rest := [.int (iI ((k : Nat) : Int)), .ref rq1]) hC hml hl.1 (m_X1_mod hE H10 (hO.ext0 (zS_F hS)) x la le dr p kn sm (trn kd k * v k) (zo hS hx0 id) hp7 (by omega)) q355 q62 q352 q354 qs5 nd_X1_mod rfl (z_rv hC (ci := 0) rfl (zo hS hx0 id) rfl) rfl (Nat.le_of_ble_eq_true rfl) ⟨Nat.le_of_ble_eq_true rfl, Nat.le_of_ble_eq_true rfl⟩ ⟨zfit (k := 0) (z := 2) rfl rfl (by omega), zfit (k := 0) (z := 19) rfl rfl (by omega)⟩ dX7_conjugate_54) ⟨zad (k := 0) rfl (by omega), zad (k := 0) rfl (by omega)⟩ hS (fun _ z => z.elim) (fun r H11 locs hp hF hS1 => ?_)
          obtain ⟨_, rfl, rfl⟩ := hp
          have hP := zpk hP hF
          have hP : va_P G.1 zCl ([(q1, zOb 6 [.ref g, .ref rq1, .ref x]), (rq1, zI G n f)]) H11 := hP
          have hD : va_D (zA M0 H0) ([(q1, zOb 6 [.ref g, .ref rq1, .ref x]), (rq1, zI G n f)]) := hD
          have hS := hS1
          refine z_iast hC hP hD hS 1 (k := k) rfl rfl (by omega) (ws' := [(q1, zOb 6 [.ref g, .ref rq1, .ref x]), (rq1, zI G n (va_up f k ((trn kd k * v k) % p)))]) rfl dX7_conjugate_57 (fun H12 locs hP hD hS => ?_)
          refine z_iinc (z := ((k + 1 : Nat) : Int)) (lv' := [(2, .int (iI ((k + 1 : Nat) : Int))), (1, .ref q1), (0, .ref a)]) hx hb dX7_conjugate_58 hl (k := 0) rfl (by omega) (by decide) rfl (fun ls hl => ?_)
          refine lv_goto (tgt := 18) hx hb dX7_conjugate_61 (by decide) ?_
          exact W.widen (by omega) (by omega) (ihlp4 (n - (k + 1)) (by omega) (k + 1) (va_up f k ((trn kd k * v k) % p)) rfl (by omega) (fun j hj => if e : j = k then by subst e; rw [va_up_self]; rfl else by rw [va_up_ne _ _ e]; exact hf j (by omega)) _ _ _  hP hD hS hl)
  exact W.widen (by omega) (by omega) (lp4 _ 0 (fun _ => 0) rfl (Nat.zero_le _) (fun j hj => absurd hj (Nat.not_lt_zero j)) _ _ _  hP hD hS hl)

abbrev rm_m_X7_times : Room := { frames := 3, cells := 2, slots := 19, locals := 62 }
set_option maxHeartbeats 4000000 in
theorem m_X7_times {l : Launch} {s0 : State} {G : zG} (hE : zE l s0 G) (H0 : Heap) (hO : zO s0 H0) (x g : Nat) (p : Int) (d n kd : Nat) (dv : Nat → Int) (sg : Nat → Nat → Int) (a r : Nat) (v : Nat → Int) (b s : Nat) (w : Nat → Int) (hA : zAg G x g p d n kd dv sg H0) (h : zEl G x g a r n v H0) (hv : rw_ok p n v) (h2 : zEl G x g b s n w H0) (hw : rw_ok p n w) : zM l s0 yX7_times cX7_times 5 (some (FieldType.object "Versorhall$Element")) rm_m_X7_times [.ref a, .ref b] H0 M0 (rr (fun q h1 => ∃ r1, NW G H0 h1 [(q, zOb 6 [.ref g, .ref r1, .ref x]), (r1, zI G n (tmV p n sg v w))])) := by
  refine z_met hE (by decide +kernel) (Nat.le_of_ble_eq_true rfl) ?_
  intro pp ee ss mm args below meth cd Q ls hC hml hrt hlk hnm hH hQ hS hl
  have hx := hC.x
  have hb := hC.b
  have hl : lv_has ls 5 [(0, .ref a), (1, .ref b)] := hl
  have hP : va_P G.1 zCl [] H0 := va_nil
  have hD : va_D (zA M0 H0) [] := va_nilD
  obtain ⟨la, le, dr, kn, sm, dl, da, ml, so, dm, ro, hx0, hg0, hL0, hso, hro, hfa⟩ := id hA
  obtain ⟨hp, hd4, hn2, hkd, hdv, hsg⟩ := hfa
  obtain ⟨hn16, hp7⟩ := hA.n
  refine z_new hC hP hD hS (c1 := 1) (s1 := 3) (fs := [.null, .null, .null]) (ci := 6) rfl in_X7 tyX7_ok q315 q316 q92 df_X7 ⟨zle (z := 2) rfl (by omega), zle (z := 19) rfl (by omega)⟩ ⟨by omega, by omega⟩ (ws' := fun q1 => [(q1, zOb 6 [.null, .null, .null])]) (fun _ => rfl) dX7_times_0 (fun q1 H2 hq0q1 hq1q1 hP hD hS hF => ?_)
  refine lv_dup hx hb dX7_times_3 rfl ?_
  refine lv_aload_n hx hb dX7_times_4 rfl (lv_at hl 0 rfl) ?_
  refine z_get hC (k := 2) rfl in_X7 (zo hS h.1 id) (by decide) q326 (fun _ h => h) rfl dX7_times_5 ?_
  refine lv_aload_n hx hb dX7_times_8 rfl (lv_at hl 0 rfl) ?_
  refine z_get hC (k := 0) rfl in_X7 (zo hS h.1 id) (by decide) q322 (fun _ h => h) rfl dX7_times_9 ?_
  refine z_go 2 19 (z_runI (As := [.ref x, .ref g]) (rest := [.ref q1]) hC hml hl.1 (m_X7_init hE H2 (hO.ext0 (zS_F hS)) x g p d n kd dv sg q1 (Nat.le_trans hO.1 hq0q1) (hA.ext0 (zS_F hS)) (hP 0 _ rfl)) q319 q92 q317 q318 rfl nd_X7_init rfl rfl (Nat.le_of_ble_eq_true rfl) ⟨Nat.le_of_ble_eq_true rfl, Nat.le_of_ble_eq_true rfl⟩ ⟨zfit (k := 1) (z := 2) rfl rfl (by omega), zfit (k := 16) (z := 19) rfl rfl (by omega)⟩ dX7_times_12) ⟨zad (k := 1) rfl (by omega), zad (k := 16) rfl (by omega)⟩ hS (fun q z => by subst z; exact hD.2 0 _ rfl) (fun r H3 locs hp hF hS1 => ?_)
  obtain ⟨rfl, rq1, hm, hN⟩ := hp
  obtain ⟨hP, hD⟩ := zjmn hP hD hS.1 hF 0 rfl hm hN
  have hP : va_P G.1 zCl ([(q1, zOb 6 [.ref g, .ref rq1, .ref x]), (rq1, zI G n (fun _ => 0))]) H3 := hP
  have hD : va_D (zA M0 H0) ([(q1, zOb 6 [.ref g, .ref rq1, .ref x]), (rq1, zI G n (fun _ => 0))]) := hD
  have hS := hS1
  refine lv_astore_n (lv' := [(2, .ref q1), (0, .ref a), (1, .ref b)]) hx hb dX7_times_15 rfl hl (by decide) rfl (fun ls hl => ?_)
  refine lv_iconst (v := iI 0) hx hb dX7_times_16 rfl ?_
  refine lv_istore_n (lv' := [(3, .int (iI 0)), (2, .ref q1), (0, .ref a), (1, .ref b)]) hx hb dX7_times_17 rfl hl (by decide) rfl (fun ls hl => ?_)
  have lp4 : ∀ (dlp4 : Nat) (i : Nat) (f : Nat → Int), n - i = dlp4 → (i ≤ n) → (∀ k, k < n → f k = tmP p sg v w i 0 k) → ∀ (H5 : Heap) (locs : List Loc) (ls : Array Slot), va_P G.1 zCl ([(q1, zOb 6 [.ref g, .ref rq1, .ref x]), (rq1, zI G n f)]) H5 → va_D (zA M0 H0) ([(q1, zOb 6 [.ref g, .ref rq1, .ref x]), (rq1, zI G n f)]) → va_S (zA M0 H0) H0 H5 locs → lv_has ls 5 [(3, .int (iI ((i : Nat) : Int))), (2, .ref q1), (0, .ref a), (1, .ref b)] → W pp l ee rm_m_X7_times ss mm args below meth cd H5 locs 2 19 Q (F0 mm 18 ls []) := by
    intro dlp4
    induction dlp4 using Nat.strongRecOn with
    | ind dlp4 ihlp4 =>
      intro i f hdlp4 hi hf H5 locs ls  hP hD hS hl
      refine lv_iload_n hx hb dX7_times_18 rfl (lv_at hl 0 rfl) ?_
      refine lv_aload_n hx hb dX7_times_19 rfl (lv_at hl 2 rfl) ?_
      refine z_get hC (k := 1) rfl in_X7 (zo hS h.1 id) (by decide) q324 (fun _ h => h) rfl dX7_times_20 ?_
      refine z_alen hC 0 (zo hS h.2 id) rfl (y := ((n : Nat) : Int)) rfl dX7_times_23 ?_
      refine z_cge (tgt := 114) hx hb dX7_times_24 (by decide) (by omega) (fun c6 => ?_) (fun c6 => ?_)
      · have ei : i = n := by omega
        refine lv_aload_n hx hb dX7_times_114 rfl (lv_at hl 1 rfl) ?_
        have hP : va_P G.1 zCl ([(q1, zOb 6 [.ref g, .ref rq1, .ref x]), (rq1, zI G n (tmV p n sg v w))]) H5 := zcI hP 1 rfl (fun k hk => by rw [hf k hk, ei]; exact tmP_end p sg v w n k)
        have hD : va_D (zA M0 H0) ([(q1, zOb 6 [.ref g, .ref rq1, .ref x]), (rq1, zI G n (tmV p n sg v w))]) := hD.set (p := 1) rfl
        exact z_aret hC hrt hlk hQ hS ⟨zle (z := 2) rfl (by omega), zle (z := 19) rfl (by omega)⟩ ⟨_, rfl, _, hP, zdn hD⟩ dX7_times_115
      · have hvi := hv i (by omega)
        refine lv_iconst (v := iI 0) hx hb dX7_times_27 rfl ?_
        refine lv_istore (lv' := [(4, .int (iI 0)), (3, .int (iI ((i : Nat) : Int))), (2, .ref q1), (0, .ref a), (1, .ref b)]) hx hb dX7_times_28 hl (by decide) rfl (fun ls hl => ?_)
        have lp7 : ∀ (dlp7 : Nat) (j : Nat) (f2 : Nat → Int), n - j = dlp7 → (j ≤ n) → (∀ k, k < n → f2 k = tmP p sg v w i j k) → ∀ (H8 : Heap) (locs : List Loc) (ls : Array Slot), va_P G.1 zCl ([(q1, zOb 6 [.ref g, .ref rq1, .ref x]), (rq1, zI G n f2)]) H8 → va_D (zA M0 H0) ([(q1, zOb 6 [.ref g, .ref rq1, .ref x]), (rq1, zI G n f2)]) → va_S (zA M0 H0) H0 H8 locs → lv_has ls 5 [(4, .int (iI ((j : Nat) : Int))), (3, .int (iI ((i : Nat) : Int))), (2, .ref q1), (0, .ref a), (1, .ref b)] → W pp l ee rm_m_X7_times ss mm args below meth cd H8 locs 2 19 Q (F0 mm 30 ls []) := by
          intro dlp7
          induction dlp7 using Nat.strongRecOn with
          | ind dlp7 ihlp7 =>
            intro j f2 hdlp7 hj hf2 H8 locs ls  hP hD hS hl
            refine lv_iload hx hb dX7_times_30 (lv_at hl 0 rfl) ?_
            refine lv_aload_n hx hb dX7_times_32 rfl (lv_at hl 3 rfl) ?_
            refine z_get hC (k := 1) rfl in_X7 (zo hS h.1 id) (by decide) q324 (fun _ h => h) rfl dX7_times_33 ?_
            refine z_alen hC 0 (zo hS h.2 id) rfl (y := ((n : Nat) : Int)) rfl dX7_times_36 ?_
            refine z_cge (tgt := 108) hx hb dX7_times_37 (by decide) (by omega) (fun c9 => ?_) (fun c9 => ?_)
            · refine z_iinc (z := ((i + 1 : Nat) : Int)) (lv' := [(3, .int (iI ((i + 1 : Nat) : Int))), (4, .int (iI ((j : Nat) : Int))), (2, .ref q1), (0, .ref a), (1, .ref b)]) hx hb dX7_times_108 hl (k := 1) rfl (by omega) (by decide) rfl (fun ls hl => ?_)
              refine lv_goto (tgt := 18) hx hb dX7_times_111 (by decide) ?_
              exact W.widen (by omega) (by omega) (ihlp4 (n - (i + 1)) (by omega) (i + 1) f2 rfl (by omega) (fun k hk => (hf2 k hk).trans (tmP_row hn2 (by omega) (Or.inl (by omega)) hk)) _ _ _  hP hD hS (lv_sub hl [0, 2, 3, 4] rfl))
            · refine lv_aload_n hx hb dX7_times_40 rfl (lv_at hl 3 rfl) ?_
              refine z_get hC (k := 1) rfl in_X7 (zo hS h.1 id) (by decide) q324 (fun _ h => h) rfl dX7_times_41 ?_
              refine lv_iload_n hx hb dX7_times_44 rfl (lv_at hl 1 rfl) ?_
              refine z_iald hC (zo hS h.2 id) (k := i) rfl (by omega) (y := v i) rfl dX7_times_45 ?_
              refine z_zeq (tgt := 108) hx hb dX7_times_46 (by decide) (by omega) (fun c10 => ?_) (fun c10 => ?_)
              · refine z_iinc (z := ((i + 1 : Nat) : Int)) (lv' := [(3, .int (iI ((i + 1 : Nat) : Int))), (4, .int (iI ((j : Nat) : Int))), (2, .ref q1), (0, .ref a), (1, .ref b)]) hx hb dX7_times_108 hl (k := 1) rfl (by omega) (by decide) rfl (fun ls hl => ?_)
                refine lv_goto (tgt := 18) hx hb dX7_times_111 (by decide) ?_
                exact W.widen (by omega) (by omega) (ihlp4 (n - (i + 1)) (by omega) (i + 1) f2 rfl (by omega) (fun k hk => (hf2 k hk).trans (tmP_row hn2 (by omega) (Or.inr (by omega)) hk)) _ _ _  hP hD hS (lv_sub hl [0, 2, 3, 4] rfl))
              · have hij := xor_lt hn2 (show i < n by omega) (show j < n by omega)
                have hfk : 0 ≤ f2 (i ^^^ j) ∧ f2 (i ^^^ j) < p := by rw [hf2 _ hij]; exact md_in hp _
                have hb3 := zmul3 (hv i (by omega)) (hw j (by omega)) (hsg i j (by omega) (by omega)) hp7
                refine lv_aload_n hx hb dX7_times_49 rfl (lv_at hl 2 rfl) ?_
                refine z_get hC (k := 1) rfl in_X7 (hP 0 _ rfl) (by decide) q324 (fun _ h => h) rfl dX7_times_50 ?_
                refine lv_iload_n hx hb dX7_times_53 rfl (lv_at hl 1 rfl) ?_
                refine lv_iload hx hb dX7_times_54 (lv_at hl 0 rfl) ?_
                refine z_xor hx hb (n := i ^^^ j) dX7_times_56 rfl rfl rfl ?_
                refine lv_aload_n hx hb dX7_times_57 rfl (lv_at hl 3 rfl) ?_
                refine z_get hC (k := 2) rfl in_X7 (zo hS h.1 id) (by decide) q326 (fun _ h => h) rfl dX7_times_58 ?_
                refine lv_aload_n hx hb dX7_times_61 rfl (lv_at hl 2 rfl) ?_
                refine z_get hC (k := 1) rfl in_X7 (hP 0 _ rfl) (by decide) q324 (fun _ h => h) rfl dX7_times_62 ?_
                refine lv_iload_n hx hb dX7_times_65 rfl (lv_at hl 1 rfl) ?_
                refine lv_iload hx hb dX7_times_66 (lv_at hl 0 rfl) ?_
                refine z_xor hx hb (n := i ^^^ j) dX7_times_68 rfl rfl rfl ?_
                refine z_iald hC (hP 1 _ rfl) (k := i ^^^ j) rfl (by omega) (y := f2 (i ^^^ j)) rfl dX7_times_69 ?_
                refine lv_aload_n hx hb dX7_times_70 rfl (lv_at hl 3 rfl) ?_
                refine z_get hC (k := 1) rfl in_X7 (zo hS h.1 id) (by decide) q324 (fun _ h => h) rfl dX7_times_71 ?_
                refine lv_iload_n hx hb dX7_times_74 rfl (lv_at hl 1 rfl) ?_
                refine z_iald hC (zo hS h.2 id) (k := i) rfl (by omega) (y := v i) rfl dX7_times_75 ?_
                refine lv_aload_n hx hb dX7_times_76 rfl (lv_at hl 4 rfl) ?_
                refine z_get hC (k := 1) rfl in_X7 (zo hS h2.1 id) (by decide) q324 (fun _ h => h) rfl dX7_times_77 ?_
                refine lv_iload hx hb dX7_times_80 (lv_at hl 0 rfl) ?_
                refine z_iald hC (zo hS h2.2 id) (k := j) rfl (by omega) (y := w j) rfl dX7_times_82 ?_
                refine z_mul hx hb (z := (v i) * (w j)) dX7_times_83 rfl ?_
                refine lv_aload_n hx hb dX7_times_84 rfl (lv_at hl 3 rfl) ?_
                refine z_get hC (k := 0) rfl in_X7 (zo hS h.1 id) (by decide) q322 (fun _ h => h) rfl dX7_times_85 ?_
                refine z_getn hC (k := 3) rfl in_X5 (zo hS hg0 id) (by decide) q963 (fun _ h => h) rfl dX7_times_88 ?_
                refine lv_iload_n hx hb dX7_times_91 rfl (lv_at hl 1 rfl) ?_
                refine z_aald hC (zo hS hso id) (k := i) rfl (by omega) (q := (ro i)) rfl dX7_times_92 ?_
                refine lv_iload hx hb dX7_times_93 (lv_at hl 0 rfl) ?_
                refine z_iald hC (zo hS (hro i (by omega)) id) (k := j) rfl (by omega) (y := (sg i) j) rfl dX7_times_95 ?_
                refine z_mul hx hb (z := ((v i) * (w j)) * ((sg i) j)) dX7_times_96 rfl ?_
                refine z_add hx hb (z := (f2 (i ^^^ j)) + (((v i) * (w j)) * ((sg i) j))) dX7_times_97 rfl ?_
                refine z_go 2 19 (z_runVN (As := [.int (iI ((f2 (i ^^^ j)) + (((v i) * (w j)) * ((sg i) j))))]) (rest := [.int (iI ((i ^^^ j : Nat) : Int)), .ref rq1]) hC hml hl.1 (m_X1_mod hE H8 (hO.ext0 (zS_F hS)) x la le dr p kn sm (f2 (i ^^^ j) + v i * w j * sg i j) (zo hS hx0 id) hp7 (by omega)) q355 q62 q352 q354 qs5 nd_X1_mod rfl (z_rv hC (ci := 0) rfl (zo hS hx0 id) rfl) rfl (Nat.le_of_ble_eq_true rfl) ⟨Nat.le_of_ble_eq_true rfl, Nat.le_of_ble_eq_true rfl⟩ ⟨zfit (k := 0) (z := 2) rfl rfl (by omega), zfit (k := 0) (z := 19) rfl rfl (by omega)⟩ dX7_times_98) ⟨zad (k := 0) rfl (by omega), zad (k := 0) rfl (by omega)⟩ hS (fun _ z => z.elim) (fun r H11 locs hp hF hS1 => ?_)
                obtain ⟨_, rfl, rfl⟩ := hp
                have hP := zpk hP hF
                have hP : va_P G.1 zCl ([(q1, zOb 6 [.ref g, .ref rq1, .ref x]), (rq1, zI G n f2)]) H11 := hP
                have hD : va_D (zA M0 H0) ([(q1, zOb 6 [.ref g, .ref rq1, .ref x]), (rq1, zI G n f2)]) := hD
                have hS := hS1
                refine z_iast hC hP hD hS 1 (k := i ^^^ j) rfl rfl (by omega) (ws' := [(q1, zOb 6 [.ref g, .ref rq1, .ref x]), (rq1, zI G n (va_up f2 (i ^^^ j) ((f2 (i ^^^ j) + v i * w j * sg i j) % p)))]) rfl dX7_times_101 (fun H12 locs hP hD hS => ?_)
                refine z_iinc (z := ((j + 1 : Nat) : Int)) (lv' := [(4, .int (iI ((j + 1 : Nat) : Int))), (3, .int (iI ((i : Nat) : Int))), (2, .ref q1), (0, .ref a), (1, .ref b)]) hx hb dX7_times_102 hl (k := 0) rfl (by omega) (by decide) rfl (fun ls hl => ?_)
                refine lv_goto (tgt := 30) hx hb dX7_times_105 (by decide) ?_
                exact W.widen (by omega) (by omega) (ihlp7 (n - (j + 1)) (by omega) (j + 1) (va_up f2 (i ^^^ j) ((f2 (i ^^^ j) + v i * w j * sg i j) % p)) rfl (by omega) (tmP_step hf2) _ _ _  hP hD hS hl)
        exact W.widen (by omega) (by omega) (lp7 _ 0 f rfl (Nat.zero_le _) hf _ _ _  hP hD hS hl)
  exact W.widen (by omega) (by omega) (lp4 _ 0 (fun _ => 0) rfl (Nat.zero_le _) (fun k hk => (tmP_0 p sg v w k).symm) _ _ _  hP hD hS hl)

