/-! THE MODEL: the checksum -/
set_option maxRecDepth 100000
abbrev rm_m_X3_digest : Room := { frames := 7, cells := 3800, slots := 57000, locals := 194 }
set_option maxHeartbeats 4000000 in
theorem m_X3_digest {l : Launch} {s0 : State} {G : zG} (hE : zE l s0 G) (H0 : Heap) (hO : zO s0 H0) (μ : Ro → Nat) (σ : St) (th : Int) (hh : HM G s0 μ σ th H0) : zM l s0 yX3_digest cX3_digest 8 (some FieldType.long) rm_m_X3_digest [.ref (μ (0, 0, 0))] H0 (FM G μ σ) (rl (fun y h1 => y = dgV σ ∧ PoM G s0 H0 μ σ σ 0 h1)) := by
  refine z_met hE (by decide +kernel) (Nat.le_of_ble_eq_true rfl) ?_
  intro pp ee ss mm args below meth cd Q ls hC hml hrt hlk hnm hH hQ hS hl
  have hx := hC.x
  have hb := hC.b
  have hl : lv_has ls 8 [(0, .ref (μ (0, 0, 0)))] := hl
  have hP : va_P G.1 zCl [] H0 := va_nil
  have hD : va_D (zA (FM G μ σ) H0) [] := va_nilD
  have hMo : ∀ z, (FM G μ σ) z → s0.heap.size ≤ z := fun z hz => FM.ge hh.sep hz
  have hH1 := hh
  obtain ⟨hp, hna, hal, hne9, hel9, hmr9⟩ := id hh.ok
  have hp7 : 0 < St_p σ ∧ St_p σ ≤ 7 := by rcases hp with h | h | h <;> rw [h] <;> decide
  have hP : va_P G.1 zCl [((μ (0, 0, 0)), zOb 2 [.int (iI th), .int (iI (St_p σ)), .int (iI ((St_kn σ : Nat) : Int)), .ref (μ (1, 0, 0)), .ref (μ (3, 0, 0))])] H0 := zP1 hh.2.2.1.1
  have hD : va_D (zA (FM G μ σ) H0) [((μ (0, 0, 0)), zOb 2 [.int (iI th), .int (iI (St_p σ)), .int (iI ((St_kn σ : Nat) : Int)), .ref (μ (1, 0, 0)), .ref (μ (3, 0, 0))])] := zD1 (Or.inl (FM.in hE hh.sep (domM0 0 (by omega)) (by simp [rAm])))
  refine lv_aload_n hx hb dX3_digest_0 rfl (lv_at hl 0 rfl) ?_
  refine lv_iconst (v := iI 0) hx hb dX3_digest_1 rfl ?_
  refine z_putO hC hP hD hS 0 (k := 0) rfl rfl in_X3 tyX3_ok nmX3 (by decide) q1495 (fun _ h => h) rfl rfl rfl rfl (Nat.le_of_ble_eq_true rfl) (ws' := [((μ (0, 0, 0)), zOb 2 [.int (iI 0), .int (iI (St_p σ)), .int (iI ((St_kn σ : Nat) : Int)), .ref (μ (1, 0, 0)), .ref (μ (3, 0, 0))])]) rfl dX3_digest_2 (fun H1 locs hP hD hS hZ1 hZ2 => ?_)
  have hH1 : HM G s0 μ σ 0 H1 := HM.thr hE hH1 (zF.one hZ1 hZ2) (hP 0 _ rfl)
  have hP : va_P G.1 zCl [] H1 := va_nil
  have hD : va_D (zA (FM G μ σ) H0) [] := va_nilD
  have hp7b := hp7
  refine z_ldc2 (z := 58236) hC q1942 (by decide) dX3_digest_5 ?_
  refine lv_lstore_n (lv' := [(1, .long (lI 58236)), (0, .ref (μ (0, 0, 0)))]) hx hb dX3_digest_8 rfl hl (by decide) rfl (fun ls hl => ?_)
  refine lv_iconst (v := iI 0) hx hb dX3_digest_9 rfl ?_
  refine lv_istore_n (lv' := [(3, .int (iI 0)), (1, .long (lI 58236)), (0, .ref (μ (0, 0, 0)))]) hx hb dX3_digest_10 rfl hl (by decide) rfl (fun ls hl => ?_)
  have lp2 : ∀ (dlp2 : Nat) (w : Nat), 8 - w = dlp2 → (w ≤ 8) → ∀ (H3 : Heap) (locs : List Loc) (ls : Array Slot), (HM G s0 μ σ 0 H3) → va_P G.1 zCl ([]) H3 → va_D (zA (FM G μ σ) H0) ([]) → va_S (zA (FM G μ σ) H0) H0 H3 locs → lv_has ls 8 [(3, .int (iI ((w : Nat) : Int))), (1, .long (lI (dgM (myV σ) 58236 w))), (0, .ref (μ (0, 0, 0)))] → W pp l ee rm_m_X3_digest ss mm args below meth cd H3 locs (0 + 60 * w) (0 + 700 * w) Q (F0 mm 11 ls []) := by
    intro dlp2
    induction dlp2 using Nat.strongRecOn with
    | ind dlp2 ihlp2 =>
      intro w hdlp2 hw H3 locs ls hH1 hP hD hS hl
      refine lv_iload_n hx hb dX3_digest_11 rfl (lv_at hl 0 rfl) ?_
      refine lv_bipush (v := iI 7) hx hb dX3_digest_12 (by decide) ?_
      refine z_cgt (tgt := 36) hx hb dX3_digest_14 (by decide) (by omega) (fun c4 => ?_) (fun c4 => ?_)
      · have ew : w = 8 := by omega
        rw [ew] at hl
        have hl : lv_has ls 8 [(1, .long (lI (dgM (myV σ) 58236 8))), (0, .ref (μ (0, 0, 0)))] := lv_sub hl [1, 2] rfl
        refine lv_iconst (v := iI 0) hx hb dX3_digest_36 rfl ?_
        refine lv_istore_n (lv' := [(3, .int (iI 0)), (1, .long (lI (dgM (myV σ) 58236 8))), (0, .ref (μ (0, 0, 0)))]) hx hb dX3_digest_37 rfl hl (by decide) rfl (fun ls hl => ?_)
        have lp5 : ∀ (dlp5 : Nat) (k : Nat), St_na σ - k = dlp5 → (k ≤ St_na σ) → ∀ (H6 : Heap) (locs : List Loc) (ls : Array Slot), (HM G s0 μ σ 0 H6) → va_P G.1 zCl ([]) H6 → va_D (zA (FM G μ σ) H0) ([]) → va_S (zA (FM G μ σ) H0) H0 H6 locs → lv_has ls 8 [(3, .int (iI ((k : Nat) : Int))), (1, .long (lI (dgI (dgA σ) (dgM (myV σ) 58236 8) k))), (0, .ref (μ (0, 0, 0)))] → W pp l ee rm_m_X3_digest ss mm args below meth cd H6 locs (0 + 60 * w + 60 * k) (0 + 700 * w + 800 * k) Q (F0 mm 38 ls []) := by
          intro dlp5
          induction dlp5 using Nat.strongRecOn with
          | ind dlp5 ihlp5 =>
            intro k hdlp5 hk H6 locs ls hH1 hP hD hS hl
            have hxx := hH1.2.2.1.1
            refine lv_iload_n hx hb dX3_digest_38 rfl (lv_at hl 0 rfl) ?_
            refine lv_aload_n hx hb dX3_digest_39 rfl (lv_at hl 2 rfl) ?_
            have hxx := hH1.2.2.1.1
            refine z_get hC (k := 3) rfl in_X3 hxx (by decide) q1499 (fun _ h => h) rfl dX3_digest_40 ?_
            obtain ⟨mda, hLa⟩ := id hH1.2.2.1.2.1
            refine z_go5 (0 + 60 * w + 60 * k) (0 + 700 * w + 800 * k) (z_runF (n := 0) (As := []) (rest := [.int (iI ((k : Nat) : Int))]) (ci := 8) hC hml hl.1 (m_J2_size hE H6 (hO.ext (zS_F hS) hMo) (μ (1, 0, 0)) (St_na σ) (fun k => μ (6, k, 0)) (μ (2, 0, 0)) mda hLa) q232 q1525 q1529 q230 q65 q1527 q1526 q1531 q1530 q1528 ⟨by decide +kernel, by decide +kernel, by decide +kernel⟩ rfl rfl rfl (z_rv hC (ci := 8) rfl hLa.1 rfl) rfl (Nat.le_of_ble_eq_true rfl) ⟨Nat.le_of_ble_eq_true rfl, Nat.le_of_ble_eq_true rfl⟩ ⟨zfit (k := 0) (z := 3800) rfl rfl (by omega), zfit (k := 0) (z := 57000) rfl rfl (by omega)⟩ dX3_digest_43) ⟨zad (k := 0) rfl (by omega), zad (k := 0) rfl (by omega)⟩ hS (fun _ z => z.elim) (fun r H7 locs hp hF hS1 => ?_)
            obtain ⟨_, rfl, rfl⟩ := hp
            have hP := zpk hP hF
            have hP : va_P G.1 zCl ([]) H7 := hP
            have hD : va_D (zA (FM G μ σ) H0) ([]) := hD
            have hH1 : HM G s0 μ σ 0 H7 := hH1.ext0 hE hF
            have hS := hS1
            refine z_cge (tgt := 209) hx hb dX3_digest_48 (by decide) (by omega) (fun c8 => ?_) (fun c8 => ?_)
            · have ek : k = St_na σ := by omega
              rw [ek] at hl
              have hl : lv_has ls 8 [(1, .long (lI (dgI (dgA σ) (dgM (myV σ) 58236 8) (St_na σ)))), (0, .ref (μ (0, 0, 0)))] := lv_sub hl [1, 2] rfl
              refine lv_iconst (v := iI 0) hx hb dX3_digest_209 rfl ?_
              refine lv_istore_n (lv' := [(3, .int (iI 0)), (1, .long (lI (dgI (dgA σ) (dgM (myV σ) 58236 8) (St_na σ)))), (0, .ref (μ (0, 0, 0)))]) hx hb dX3_digest_210 rfl hl (by decide) rfl (fun ls hl => ?_)
              have hne8 : St_ne σ ≤ 10 := hne9
              have lp9 : ∀ (dlp9 : Nat) (j : Nat), St_ne σ - j = dlp9 → (j ≤ St_ne σ) → ∀ (H10 : Heap) (locs : List Loc) (ls : Array Slot), (HM G s0 μ σ 0 H10) → va_P G.1 zCl ([]) H10 → va_D (zA (FM G μ σ) H0) ([]) → va_S (zA (FM G μ σ) H0) H0 H10 locs → lv_has ls 8 [(3, .int (iI ((j : Nat) : Int))), (1, .long (lI (dgI (dgE σ) (dgI (dgA σ) (dgM (myV σ) 58236 8) (St_na σ)) j))), (0, .ref (μ (0, 0, 0)))] → W pp l ee rm_m_X3_digest ss mm args below meth cd H10 locs (0 + 60 * w + 60 * k + 260 * j) (0 + 700 * w + 800 * k + 4600 * j) Q (F0 mm 211 ls []) := by
                intro dlp9
                induction dlp9 using Nat.strongRecOn with
                | ind dlp9 ihlp9 =>
                  intro j hdlp9 hj9 H10 locs ls hH1 hP hD hS hl
                  have hxx := hH1.2.2.1.1
                  refine lv_iload_n hx hb dX3_digest_211 rfl (lv_at hl 0 rfl) ?_
                  refine lv_aload_n hx hb dX3_digest_212 rfl (lv_at hl 2 rfl) ?_
                  have hxx := hH1.2.2.1.1
                  refine z_get hC (k := 4) rfl in_X3 hxx (by decide) q1500 (fun _ h => h) rfl dX3_digest_213 ?_
                  obtain ⟨mde, hLe⟩ := id hH1.2.2.1.2.2
                  refine z_go5 (0 + 60 * w + 60 * k + 260 * j) (0 + 700 * w + 800 * k + 4600 * j) (z_runF (n := 0) (As := []) (rest := [.int (iI ((j : Nat) : Int))]) (ci := 8) hC hml hl.1 (m_J2_size hE H10 (hO.ext (zS_F hS) hMo) (μ (3, 0, 0)) (St_ne σ) (fun j => μ (13, j, 0)) (μ (4, 0, 0)) mde hLe) q232 q1525 q1529 q230 q65 q1527 q1526 q1531 q1530 q1528 ⟨by decide +kernel, by decide +kernel, by decide +kernel⟩ rfl rfl rfl (z_rv hC (ci := 8) rfl hLe.1 rfl) rfl (Nat.le_of_ble_eq_true rfl) ⟨Nat.le_of_ble_eq_true rfl, Nat.le_of_ble_eq_true rfl⟩ ⟨zfit (k := 0) (z := 3800) rfl rfl (by omega), zfit (k := 0) (z := 57000) rfl rfl (by omega)⟩ dX3_digest_216) ⟨zad (k := 0) rfl (by omega), zad (k := 0) rfl (by omega)⟩ hS (fun _ z => z.elim) (fun r H11 locs hp hF hS1 => ?_)
                  obtain ⟨_, rfl, rfl⟩ := hp
                  have hP := zpk hP hF
                  have hP : va_P G.1 zCl ([]) H11 := hP
                  have hD : va_D (zA (FM G μ σ) H0) ([]) := hD
                  have hH1 : HM G s0 μ σ 0 H11 := hH1.ext0 hE hF
                  have hS := hS1
                  refine z_cge (tgt := 322) hx hb dX3_digest_221 (by decide) (by omega) (fun c12 => ?_) (fun c12 => ?_)
                  · have ej : j = St_ne σ := by omega
                    refine lv_lload_n hx hb dX3_digest_322 rfl (lv_at hl 1 rfl) ?_
                    exact z_lret hC hrt hlk hQ hS ⟨zle (z := 3800) rfl (by omega), zle (z := 57000) rfl (by omega)⟩ ⟨_, rfl, by rw [ej]; rfl, PoM.same hH1⟩ dX3_digest_323
                  · have hj : j < St_ne σ := by omega
                    have hnn := hh.n (hh.ea hj)
                    refine lv_aload_n hx hb dX3_digest_224 rfl (lv_at hl 2 rfl) ?_
                    refine lv_iload_n hx hb dX3_digest_225 rfl (lv_at hl 0 rfl) ?_
                    refine z_go (0 + 60 * w + 60 * k + 260 * j) (0 + 700 * w + 800 * k + 4600 * j) (z_runV (As := [.int (iI ((j : Nat) : Int))]) (rest := []) hC hml hl.1 (m_X3_row hE H11 (hO.ext (zS_F hS) hMo) μ σ 0 j hH1 hj) (lw_V q1654 q1656 qs36 q67 q1657) rfl nd_X3_row rfl (z_rv hC (ci := 2) rfl hH1.2.2.1.1 rfl) rfl (Nat.le_of_ble_eq_true rfl) ⟨Nat.le_of_ble_eq_true rfl, Nat.le_of_ble_eq_true rfl⟩ ⟨zfit (k := 0) (z := 3800) rfl rfl (by omega), zfit (k := 0) (z := 57000) rfl rfl (by omega)⟩ dX3_digest_226) ⟨zad (k := 0) rfl (by omega), zad (k := 0) rfl (by omega)⟩ hS (fun _ z => z.elim) (fun r H13 locs hp hF hS1 => ?_)
                    obtain ⟨_, rfl, rfl⟩ := hp
                    have hP := zpk hP hF
                    have hP : va_P G.1 zCl ([]) H13 := hP
                    have hD : va_D (zA (FM G μ σ) H0) ([]) := hD
                    have hH1 : HM G s0 μ σ 0 H13 := hH1.ext0 hE hF
                    have hS := hS1
                    have hRj := (hH1.el (j := j) (by omega)).2
                    have hVj := hH1.row (j := j) (by omega)
                    refine lv_astore (lv' := [(4, .ref (μ (14, j, 0))), (3, .int (iI ((j : Nat) : Int))), (1, .long (lI (dgI (dgE σ) (dgI (dgA σ) (dgM (myV σ) 58236 8) (St_na σ)) j))), (0, .ref (μ (0, 0, 0)))]) hx hb dX3_digest_229 hl (by decide) rfl (fun ls hl => ?_)
                    refine lv_aload hx hb dX3_digest_231 (lv_at hl 0 rfl) ?_
                    refine z_alen hC 0 hRj rfl (y := ((St_n σ (St_ea σ j) : Nat) : Int)) rfl dX3_digest_233 ?_
                    refine lv_istore (lv' := [(5, .int (iI ((St_n σ (St_ea σ j) : Nat) : Int))), (4, .ref (μ (14, j, 0))), (3, .int (iI ((j : Nat) : Int))), (1, .long (lI (dgI (dgE σ) (dgI (dgA σ) (dgM (myV σ) 58236 8) (St_na σ)) j))), (0, .ref (μ (0, 0, 0)))]) hx hb dX3_digest_234 hl (by decide) rfl (fun ls hl => ?_)
                    refine lv_iconst (v := iI 0) hx hb dX3_digest_236 rfl ?_
                    refine lv_istore (lv' := [(6, .int (iI 0)), (5, .int (iI ((St_n σ (St_ea σ j) : Nat) : Int))), (4, .ref (μ (14, j, 0))), (3, .int (iI ((j : Nat) : Int))), (1, .long (lI (dgI (dgE σ) (dgI (dgA σ) (dgM (myV σ) 58236 8) (St_na σ)) j))), (0, .ref (μ (0, 0, 0)))]) hx hb dX3_digest_237 hl (by decide) rfl (fun ls hl => ?_)
                    have lp14 : ∀ (dlp14 : Nat) (u : Nat), St_n σ (St_ea σ j) - u = dlp14 → (u ≤ St_n σ (St_ea σ j)) → ∀ (H15 : Heap) (locs : List Loc) (ls : Array Slot), (HM G s0 μ σ 0 H15) → va_P G.1 zCl ([]) H15 → va_D (zA (FM G μ σ) H0) ([]) → va_S (zA (FM G μ σ) H0) H0 H15 locs → lv_has ls 8 [(6, .int (iI ((u : Nat) : Int))), (5, .int (iI ((St_n σ (St_ea σ j) : Nat) : Int))), (4, .ref (μ (14, j, 0))), (3, .int (iI ((j : Nat) : Int))), (1, .long (lI (dgM (St_ev σ j) (dgI (dgE σ) (dgI (dgA σ) (dgM (myV σ) 58236 8) (St_na σ)) j) u))), (0, .ref (μ (0, 0, 0)))] → W pp l ee rm_m_X3_digest ss mm args below meth cd H15 locs (0 + 60 * w + 60 * k + 260 * j) (0 + 700 * w + 800 * k + 4600 * j) Q (F0 mm 239 ls []) := by
                      intro dlp14
                      induction dlp14 using Nat.strongRecOn with
                      | ind dlp14 ihlp14 =>
                        intro u hdlp14 hu H15 locs ls hH1 hP hD hS hl
                        have hRj := (hH1.el (j := j) (by omega)).2
                        have hVj := hH1.row (j := j) (by omega)
                        refine lv_iload hx hb dX3_digest_239 (lv_at hl 0 rfl) ?_
                        refine lv_iload hx hb dX3_digest_241 (lv_at hl 1 rfl) ?_
                        refine z_cge (tgt := 269) hx hb dX3_digest_243 (by decide) (by omega) (fun c16 => ?_) (fun c16 => ?_)
                        · have eu : u = St_n σ (St_ea σ j) := by omega
                          rw [eu] at hl
                          have hl : lv_has ls 8 [(3, .int (iI ((j : Nat) : Int))), (1, .long (lI (dgM (St_ev σ j) (dgI (dgE σ) (dgI (dgA σ) (dgM (myV σ) 58236 8) (St_na σ)) j) (St_n σ (St_ea σ j))))), (0, .ref (μ (0, 0, 0)))] := lv_sub hl [3, 4, 5] rfl
                          refine lv_iconst (v := iI 0) hx hb dX3_digest_269 rfl ?_
                          refine lv_istore (lv' := [(4, .int (iI 0)), (3, .int (iI ((j : Nat) : Int))), (1, .long (lI (dgM (St_ev σ j) (dgI (dgE σ) (dgI (dgA σ) (dgM (myV σ) 58236 8) (St_na σ)) j) (St_n σ (St_ea σ j))))), (0, .ref (μ (0, 0, 0)))]) hx hb dX3_digest_270 hl (by decide) rfl (fun ls hl => ?_)
                          refine lv_iload hx hb dX3_digest_272 (lv_at hl 0 rfl) ?_
                          refine lv_bipush (v := iI 9) hx hb dX3_digest_274 (by decide) ?_
                          refine z_cgt (tgt := 300) hx hb dX3_digest_276 (by decide) (by omega) (fun c17 => ?_) (fun c17 => ?_)
                          · omega
                          · refine lv_lload_n hx hb dX3_digest_279 rfl (lv_at hl 2 rfl) ?_
                            refine z_ldc2 (z := 31) hC q1943 (by decide) dX3_digest_280 ?_
                            refine z_lmul hx hb (z := (dgM (St_ev σ j) (dgI (dgE σ) (dgI (dgA σ) (dgM (myV σ) 58236 8) (St_na σ)) j) (St_n σ (St_ea σ j))) * 31) dX3_digest_283 rfl ?_
                            refine lv_aload_n hx hb dX3_digest_284 rfl (lv_at hl 3 rfl) ?_
                            refine lv_iload_n hx hb dX3_digest_285 rfl (lv_at hl 1 rfl) ?_
                            refine lv_iload hx hb dX3_digest_286 (lv_at hl 0 rfl) ?_
                            refine z_go (0 + 60 * w + 60 * k + 260 * j) (0 + 700 * w + 800 * k + 4600 * j) (z_runV (As := [.int (iI ((j : Nat) : Int)), .int (iI 0)]) (rest := [.long (lI ((dgM (St_ev σ j) (dgI (dgE σ) (dgI (dgA σ) (dgM (myV σ) 58236 8) (St_na σ)) j) (St_n σ (St_ea σ j))) * 31))]) hC hml hl.1 (m_X3_elementNow_0 hE H15 (hO.ext (zS_F hS) hMo) μ σ 0 j hH1 hj) (lw_V q1811 q1813 qs48 q67 q1814) rfl nd_X3_elementNow rfl (z_rv hC (ci := 2) rfl hH1.2.2.1.1 rfl) rfl (Nat.le_of_ble_eq_true rfl) ⟨Nat.le_of_ble_eq_true rfl, Nat.le_of_ble_eq_true rfl⟩ ⟨zfit (k := 0) (z := 3800) rfl rfl (by omega), zfit (k := 0) (z := 57000) rfl rfl (by omega)⟩ dX3_digest_288) ⟨zad (k := 0) rfl (by omega), zad (k := 0) rfl (by omega)⟩ hS (fun _ z => z.elim) (fun r H18 locs hp hF hS1 => ?_)
                            obtain ⟨_, rfl, rfl⟩ := hp
                            have hP := zpk hP hF
                            have hP : va_P G.1 zCl ([]) H18 := hP
                            have hD : va_D (zA (FM G μ σ) H0) ([]) := hD
                            have hH1 : HM G s0 μ σ 0 H18 := hH1.ext0 hE hF
                            have hS := hS1
                            refine z_i2lW hx hb dX3_digest_291 ?_
                            refine z_ladd hx hb (z := ((dgM (St_ev σ j) (dgI (dgE σ) (dgI (dgA σ) (dgM (myV σ) 58236 8) (St_na σ)) j) (St_n σ (St_ea σ j))) * 31) + (wz (oeV σ j 0))) dX3_digest_292 rfl ?_
                            refine lv_lstore_n (lv' := [(1, .long (lI (((dgM (St_ev σ j) (dgI (dgE σ) (dgI (dgA σ) (dgM (myV σ) 58236 8) (St_na σ)) j) (St_n σ (St_ea σ j))) * 31) + (wz (oeV σ j 0))))), (4, .int (iI 0)), (3, .int (iI ((j : Nat) : Int))), (0, .ref (μ (0, 0, 0)))]) hx hb dX3_digest_293 rfl hl (by decide) rfl (fun ls hl => ?_)
                            refine z_iinc (z := 1) (lv' := [(4, .int (iI 1)), (1, .long (lI (((dgM (St_ev σ j) (dgI (dgE σ) (dgI (dgA σ) (dgM (myV σ) 58236 8) (St_na σ)) j) (St_n σ (St_ea σ j))) * 31) + (wz (oeV σ j 0))))), (3, .int (iI ((j : Nat) : Int))), (0, .ref (μ (0, 0, 0)))]) hx hb dX3_digest_294 hl (k := 1) rfl (by omega) (by decide) rfl (fun ls hl => ?_)
                            refine lv_goto (tgt := 272) hx hb dX3_digest_297 (by decide) ?_
                            refine lv_iload hx hb dX3_digest_272 (lv_at hl 0 rfl) ?_
                            refine lv_bipush (v := iI 9) hx hb dX3_digest_274 (by decide) ?_
                            refine z_cgt (tgt := 300) hx hb dX3_digest_276 (by decide) (by omega) (fun c19 => ?_) (fun c19 => ?_)
                            · omega
                            · refine lv_lload_n hx hb dX3_digest_279 rfl (lv_at hl 1 rfl) ?_
                              refine z_ldc2 (z := 31) hC q1943 (by decide) dX3_digest_280 ?_
                              refine z_lmul hx hb (z := (((dgM (St_ev σ j) (dgI (dgE σ) (dgI (dgA σ) (dgM (myV σ) 58236 8) (St_na σ)) j) (St_n σ (St_ea σ j))) * 31) + (wz (oeV σ j 0))) * 31) dX3_digest_283 rfl ?_
                              refine lv_aload_n hx hb dX3_digest_284 rfl (lv_at hl 3 rfl) ?_
                              refine lv_iload_n hx hb dX3_digest_285 rfl (lv_at hl 2 rfl) ?_
                              refine lv_iload hx hb dX3_digest_286 (lv_at hl 0 rfl) ?_
                              refine z_go (0 + 60 * w + 60 * k + 260 * j) (0 + 700 * w + 800 * k + 4600 * j) (z_runV (As := [.int (iI ((j : Nat) : Int)), .int (iI 1)]) (rest := [.long (lI ((((dgM (St_ev σ j) (dgI (dgE σ) (dgI (dgA σ) (dgM (myV σ) 58236 8) (St_na σ)) j) (St_n σ (St_ea σ j))) * 31) + (wz (oeV σ j 0))) * 31))]) hC hml hl.1 (m_X3_elementNow_1 hE H18 (hO.ext (zS_F hS) hMo) μ σ 0 j hH1 hj) (lw_V q1811 q1813 qs48 q67 q1814) rfl nd_X3_elementNow rfl (z_rv hC (ci := 2) rfl hH1.2.2.1.1 rfl) rfl (Nat.le_of_ble_eq_true rfl) ⟨Nat.le_of_ble_eq_true rfl, Nat.le_of_ble_eq_true rfl⟩ ⟨zfit (k := 0) (z := 3800) rfl rfl (by omega), zfit (k := 0) (z := 57000) rfl rfl (by omega)⟩ dX3_digest_288) ⟨zad (k := 0) rfl (by omega), zad (k := 0) rfl (by omega)⟩ hS (fun _ z => z.elim) (fun r H20 locs hp hF hS1 => ?_)
                              obtain ⟨_, rfl, rfl⟩ := hp
                              have hP := zpk hP hF
                              have hP : va_P G.1 zCl ([]) H20 := hP
                              have hD : va_D (zA (FM G μ σ) H0) ([]) := hD
                              have hH1 : HM G s0 μ σ 0 H20 := hH1.ext0 hE hF
                              have hS := hS1
                              refine z_i2lW hx hb dX3_digest_291 ?_
                              refine z_ladd hx hb (z := ((((dgM (St_ev σ j) (dgI (dgE σ) (dgI (dgA σ) (dgM (myV σ) 58236 8) (St_na σ)) j) (St_n σ (St_ea σ j))) * 31) + (wz (oeV σ j 0))) * 31) + (wz (oeV σ j 1))) dX3_digest_292 rfl ?_
                              refine lv_lstore_n (lv' := [(1, .long (lI (((((dgM (St_ev σ j) (dgI (dgE σ) (dgI (dgA σ) (dgM (myV σ) 58236 8) (St_na σ)) j) (St_n σ (St_ea σ j))) * 31) + (wz (oeV σ j 0))) * 31) + (wz (oeV σ j 1))))), (4, .int (iI 1)), (3, .int (iI ((j : Nat) : Int))), (0, .ref (μ (0, 0, 0)))]) hx hb dX3_digest_293 rfl hl (by decide) rfl (fun ls hl => ?_)
                              refine z_iinc (z := 2) (lv' := [(4, .int (iI 2)), (1, .long (lI (((((dgM (St_ev σ j) (dgI (dgE σ) (dgI (dgA σ) (dgM (myV σ) 58236 8) (St_na σ)) j) (St_n σ (St_ea σ j))) * 31) + (wz (oeV σ j 0))) * 31) + (wz (oeV σ j 1))))), (3, .int (iI ((j : Nat) : Int))), (0, .ref (μ (0, 0, 0)))]) hx hb dX3_digest_294 hl (k := 1) rfl (by omega) (by decide) rfl (fun ls hl => ?_)
                              refine lv_goto (tgt := 272) hx hb dX3_digest_297 (by decide) ?_
                              refine lv_iload hx hb dX3_digest_272 (lv_at hl 0 rfl) ?_
                              refine lv_bipush (v := iI 9) hx hb dX3_digest_274 (by decide) ?_
                              refine z_cgt (tgt := 300) hx hb dX3_digest_276 (by decide) (by omega) (fun c21 => ?_) (fun c21 => ?_)
                              · omega
                              · refine lv_lload_n hx hb dX3_digest_279 rfl (lv_at hl 1 rfl) ?_
                                refine z_ldc2 (z := 31) hC q1943 (by decide) dX3_digest_280 ?_
                                refine z_lmul hx hb (z := (((((dgM (St_ev σ j) (dgI (dgE σ) (dgI (dgA σ) (dgM (myV σ) 58236 8) (St_na σ)) j) (St_n σ (St_ea σ j))) * 31) + (wz (oeV σ j 0))) * 31) + (wz (oeV σ j 1))) * 31) dX3_digest_283 rfl ?_
                                refine lv_aload_n hx hb dX3_digest_284 rfl (lv_at hl 3 rfl) ?_
                                refine lv_iload_n hx hb dX3_digest_285 rfl (lv_at hl 2 rfl) ?_
                                refine lv_iload hx hb dX3_digest_286 (lv_at hl 0 rfl) ?_
                                refine z_go ((0 + 60 * w + 60 * k + 260 * j) + 2) ((0 + 700 * w + 800 * k + 4600 * j) + 32) (z_runV (As := [.int (iI ((j : Nat) : Int)), .int (iI 2)]) (rest := [.long (lI ((((((dgM (St_ev σ j) (dgI (dgE σ) (dgI (dgA σ) (dgM (myV σ) 58236 8) (St_na σ)) j) (St_n σ (St_ea σ j))) * 31) + (wz (oeV σ j 0))) * 31) + (wz (oeV σ j 1))) * 31))]) hC hml hl.1 (m_X3_elementNow_2 hE H20 (hO.ext (zS_F hS) hMo) μ σ 0 j hH1 hj) (lw_V q1811 q1813 qs48 q67 q1814) rfl nd_X3_elementNow rfl (z_rv hC (ci := 2) rfl hH1.2.2.1.1 rfl) rfl (Nat.le_of_ble_eq_true rfl) ⟨Nat.le_of_ble_eq_true rfl, Nat.le_of_ble_eq_true rfl⟩ ⟨zfit (k := 2) (z := 3800) rfl rfl (by omega), zfit (k := 32) (z := 57000) rfl rfl (by omega)⟩ dX3_digest_288) ⟨zad (k := 2) rfl (by omega), zad (k := 32) rfl (by omega)⟩ hS (fun _ z => z.elim) (fun r H22 locs hp hF hS1 => ?_)
                                obtain ⟨_, rfl, rfl⟩ := hp
                                have hP := zpk hP hF
                                have hP : va_P G.1 zCl ([]) H22 := hP
                                have hD : va_D (zA (FM G μ σ) H0) ([]) := hD
                                have hH1 : HM G s0 μ σ 0 H22 := hH1.ext0 hE hF
                                have hS := hS1
                                refine z_i2lW hx hb dX3_digest_291 ?_
                                refine z_ladd hx hb (z := ((((((dgM (St_ev σ j) (dgI (dgE σ) (dgI (dgA σ) (dgM (myV σ) 58236 8) (St_na σ)) j) (St_n σ (St_ea σ j))) * 31) + (wz (oeV σ j 0))) * 31) + (wz (oeV σ j 1))) * 31) + (wz (oeV σ j 2))) dX3_digest_292 rfl ?_
                                refine lv_lstore_n (lv' := [(1, .long (lI (((((((dgM (St_ev σ j) (dgI (dgE σ) (dgI (dgA σ) (dgM (myV σ) 58236 8) (St_na σ)) j) (St_n σ (St_ea σ j))) * 31) + (wz (oeV σ j 0))) * 31) + (wz (oeV σ j 1))) * 31) + (wz (oeV σ j 2))))), (4, .int (iI 2)), (3, .int (iI ((j : Nat) : Int))), (0, .ref (μ (0, 0, 0)))]) hx hb dX3_digest_293 rfl hl (by decide) rfl (fun ls hl => ?_)
                                refine z_iinc (z := 3) (lv' := [(4, .int (iI 3)), (1, .long (lI (((((((dgM (St_ev σ j) (dgI (dgE σ) (dgI (dgA σ) (dgM (myV σ) 58236 8) (St_na σ)) j) (St_n σ (St_ea σ j))) * 31) + (wz (oeV σ j 0))) * 31) + (wz (oeV σ j 1))) * 31) + (wz (oeV σ j 2))))), (3, .int (iI ((j : Nat) : Int))), (0, .ref (μ (0, 0, 0)))]) hx hb dX3_digest_294 hl (k := 1) rfl (by omega) (by decide) rfl (fun ls hl => ?_)
                                refine lv_goto (tgt := 272) hx hb dX3_digest_297 (by decide) ?_
                                refine lv_iload hx hb dX3_digest_272 (lv_at hl 0 rfl) ?_
                                refine lv_bipush (v := iI 9) hx hb dX3_digest_274 (by decide) ?_
                                refine z_cgt (tgt := 300) hx hb dX3_digest_276 (by decide) (by omega) (fun c23 => ?_) (fun c23 => ?_)
                                · omega
                                · refine lv_lload_n hx hb dX3_digest_279 rfl (lv_at hl 1 rfl) ?_
                                  refine z_ldc2 (z := 31) hC q1943 (by decide) dX3_digest_280 ?_
                                  refine z_lmul hx hb (z := (((((((dgM (St_ev σ j) (dgI (dgE σ) (dgI (dgA σ) (dgM (myV σ) 58236 8) (St_na σ)) j) (St_n σ (St_ea σ j))) * 31) + (wz (oeV σ j 0))) * 31) + (wz (oeV σ j 1))) * 31) + (wz (oeV σ j 2))) * 31) dX3_digest_283 rfl ?_
                                  refine lv_aload_n hx hb dX3_digest_284 rfl (lv_at hl 3 rfl) ?_
                                  refine lv_iload_n hx hb dX3_digest_285 rfl (lv_at hl 2 rfl) ?_
                                  refine lv_iload hx hb dX3_digest_286 (lv_at hl 0 rfl) ?_
                                  refine z_go ((0 + 60 * w + 60 * k + 260 * j) + 2) ((0 + 700 * w + 800 * k + 4600 * j) + 32) (z_runV (As := [.int (iI ((j : Nat) : Int)), .int (iI 3)]) (rest := [.long (lI ((((((((dgM (St_ev σ j) (dgI (dgE σ) (dgI (dgA σ) (dgM (myV σ) 58236 8) (St_na σ)) j) (St_n σ (St_ea σ j))) * 31) + (wz (oeV σ j 0))) * 31) + (wz (oeV σ j 1))) * 31) + (wz (oeV σ j 2))) * 31))]) hC hml hl.1 (m_X3_elementNow_3 hE H22 (hO.ext (zS_F hS) hMo) μ σ 0 j hH1 hj) (lw_V q1811 q1813 qs48 q67 q1814) rfl nd_X3_elementNow rfl (z_rv hC (ci := 2) rfl hH1.2.2.1.1 rfl) rfl (Nat.le_of_ble_eq_true rfl) ⟨Nat.le_of_ble_eq_true rfl, Nat.le_of_ble_eq_true rfl⟩ ⟨zfit (k := 0) (z := 3800) rfl rfl (by omega), zfit (k := 0) (z := 57000) rfl rfl (by omega)⟩ dX3_digest_288) ⟨zad (k := 0) rfl (by omega), zad (k := 0) rfl (by omega)⟩ hS (fun _ z => z.elim) (fun r H24 locs hp hF hS1 => ?_)
                                  obtain ⟨_, rfl, rfl⟩ := hp
                                  have hP := zpk hP hF
                                  have hP : va_P G.1 zCl ([]) H24 := hP
                                  have hD : va_D (zA (FM G μ σ) H0) ([]) := hD
                                  have hH1 : HM G s0 μ σ 0 H24 := hH1.ext0 hE hF
                                  have hS := hS1
                                  refine z_i2lW hx hb dX3_digest_291 ?_
                                  refine z_ladd hx hb (z := ((((((((dgM (St_ev σ j) (dgI (dgE σ) (dgI (dgA σ) (dgM (myV σ) 58236 8) (St_na σ)) j) (St_n σ (St_ea σ j))) * 31) + (wz (oeV σ j 0))) * 31) + (wz (oeV σ j 1))) * 31) + (wz (oeV σ j 2))) * 31) + (wz (oeV σ j 3))) dX3_digest_292 rfl ?_
                                  refine lv_lstore_n (lv' := [(1, .long (lI (((((((((dgM (St_ev σ j) (dgI (dgE σ) (dgI (dgA σ) (dgM (myV σ) 58236 8) (St_na σ)) j) (St_n σ (St_ea σ j))) * 31) + (wz (oeV σ j 0))) * 31) + (wz (oeV σ j 1))) * 31) + (wz (oeV σ j 2))) * 31) + (wz (oeV σ j 3))))), (4, .int (iI 3)), (3, .int (iI ((j : Nat) : Int))), (0, .ref (μ (0, 0, 0)))]) hx hb dX3_digest_293 rfl hl (by decide) rfl (fun ls hl => ?_)
                                  refine z_iinc (z := 4) (lv' := [(4, .int (iI 4)), (1, .long (lI (((((((((dgM (St_ev σ j) (dgI (dgE σ) (dgI (dgA σ) (dgM (myV σ) 58236 8) (St_na σ)) j) (St_n σ (St_ea σ j))) * 31) + (wz (oeV σ j 0))) * 31) + (wz (oeV σ j 1))) * 31) + (wz (oeV σ j 2))) * 31) + (wz (oeV σ j 3))))), (3, .int (iI ((j : Nat) : Int))), (0, .ref (μ (0, 0, 0)))]) hx hb dX3_digest_294 hl (k := 1) rfl (by omega) (by decide) rfl (fun ls hl => ?_)
                                  refine lv_goto (tgt := 272) hx hb dX3_digest_297 (by decide) ?_
                                  refine lv_iload hx hb dX3_digest_272 (lv_at hl 0 rfl) ?_
                                  refine lv_bipush (v := iI 9) hx hb dX3_digest_274 (by decide) ?_
                                  refine z_cgt (tgt := 300) hx hb dX3_digest_276 (by decide) (by omega) (fun c25 => ?_) (fun c25 => ?_)
                                  · omega
                                  · refine lv_lload_n hx hb dX3_digest_279 rfl (lv_at hl 1 rfl) ?_
                                    refine z_ldc2 (z := 31) hC q1943 (by decide) dX3_digest_280 ?_
                                    refine z_lmul hx hb (z := (((((((((dgM (St_ev σ j) (dgI (dgE σ) (dgI (dgA σ) (dgM (myV σ) 58236 8) (St_na σ)) j) (St_n σ (St_ea σ j))) * 31) + (wz (oeV σ j 0))) * 31) + (wz (oeV σ j 1))) * 31) + (wz (oeV σ j 2))) * 31) + (wz (oeV σ j 3))) * 31) dX3_digest_283 rfl ?_
                                    refine lv_aload_n hx hb dX3_digest_284 rfl (lv_at hl 3 rfl) ?_
                                    refine lv_iload_n hx hb dX3_digest_285 rfl (lv_at hl 2 rfl) ?_
                                    refine lv_iload hx hb dX3_digest_286 (lv_at hl 0 rfl) ?_
                                    refine z_go (((0 + 60 * w + 60 * k + 260 * j) + 2) + 70) (((0 + 700 * w + 800 * k + 4600 * j) + 32) + 1100) (z_runV (As := [.int (iI ((j : Nat) : Int)), .int (iI 4)]) (rest := [.long (lI ((((((((((dgM (St_ev σ j) (dgI (dgE σ) (dgI (dgA σ) (dgM (myV σ) 58236 8) (St_na σ)) j) (St_n σ (St_ea σ j))) * 31) + (wz (oeV σ j 0))) * 31) + (wz (oeV σ j 1))) * 31) + (wz (oeV σ j 2))) * 31) + (wz (oeV σ j 3))) * 31))]) hC hml hl.1 (m_X3_elementNow_4 hE H24 (hO.ext (zS_F hS) hMo) μ σ 0 j hH1 hj) (lw_V q1811 q1813 qs48 q67 q1814) rfl nd_X3_elementNow rfl (z_rv hC (ci := 2) rfl hH1.2.2.1.1 rfl) rfl (Nat.le_of_ble_eq_true rfl) ⟨Nat.le_of_ble_eq_true rfl, Nat.le_of_ble_eq_true rfl⟩ ⟨zfit (k := 70) (z := 3800) rfl rfl (by omega), zfit (k := 1100) (z := 57000) rfl rfl (by omega)⟩ dX3_digest_288) ⟨zad (k := 70) rfl (by omega), zad (k := 1100) rfl (by omega)⟩ hS (fun _ z => z.elim) (fun r H26 locs hp hF hS1 => ?_)
                                    obtain ⟨_, rfl, rfl⟩ := hp
                                    have hP := zpk hP hF
                                    have hP : va_P G.1 zCl ([]) H26 := hP
                                    have hD : va_D (zA (FM G μ σ) H0) ([]) := hD
                                    have hH1 : HM G s0 μ σ 0 H26 := hH1.ext0 hE hF
                                    have hS := hS1
                                    refine z_i2lW hx hb dX3_digest_291 ?_
                                    refine z_ladd hx hb (z := ((((((((((dgM (St_ev σ j) (dgI (dgE σ) (dgI (dgA σ) (dgM (myV σ) 58236 8) (St_na σ)) j) (St_n σ (St_ea σ j))) * 31) + (wz (oeV σ j 0))) * 31) + (wz (oeV σ j 1))) * 31) + (wz (oeV σ j 2))) * 31) + (wz (oeV σ j 3))) * 31) + (wz (oeV σ j 4))) dX3_digest_292 rfl ?_
                                    refine lv_lstore_n (lv' := [(1, .long (lI (((((((((((dgM (St_ev σ j) (dgI (dgE σ) (dgI (dgA σ) (dgM (myV σ) 58236 8) (St_na σ)) j) (St_n σ (St_ea σ j))) * 31) + (wz (oeV σ j 0))) * 31) + (wz (oeV σ j 1))) * 31) + (wz (oeV σ j 2))) * 31) + (wz (oeV σ j 3))) * 31) + (wz (oeV σ j 4))))), (4, .int (iI 4)), (3, .int (iI ((j : Nat) : Int))), (0, .ref (μ (0, 0, 0)))]) hx hb dX3_digest_293 rfl hl (by decide) rfl (fun ls hl => ?_)
                                    refine z_iinc (z := 5) (lv' := [(4, .int (iI 5)), (1, .long (lI (((((((((((dgM (St_ev σ j) (dgI (dgE σ) (dgI (dgA σ) (dgM (myV σ) 58236 8) (St_na σ)) j) (St_n σ (St_ea σ j))) * 31) + (wz (oeV σ j 0))) * 31) + (wz (oeV σ j 1))) * 31) + (wz (oeV σ j 2))) * 31) + (wz (oeV σ j 3))) * 31) + (wz (oeV σ j 4))))), (3, .int (iI ((j : Nat) : Int))), (0, .ref (μ (0, 0, 0)))]) hx hb dX3_digest_294 hl (k := 1) rfl (by omega) (by decide) rfl (fun ls hl => ?_)
                                    refine lv_goto (tgt := 272) hx hb dX3_digest_297 (by decide) ?_
                                    refine lv_iload hx hb dX3_digest_272 (lv_at hl 0 rfl) ?_
                                    refine lv_bipush (v := iI 9) hx hb dX3_digest_274 (by decide) ?_
                                    refine z_cgt (tgt := 300) hx hb dX3_digest_276 (by decide) (by omega) (fun c27 => ?_) (fun c27 => ?_)
                                    · omega
                                    · refine lv_lload_n hx hb dX3_digest_279 rfl (lv_at hl 1 rfl) ?_
                                      refine z_ldc2 (z := 31) hC q1943 (by decide) dX3_digest_280 ?_
                                      refine z_lmul hx hb (z := (((((((((((dgM (St_ev σ j) (dgI (dgE σ) (dgI (dgA σ) (dgM (myV σ) 58236 8) (St_na σ)) j) (St_n σ (St_ea σ j))) * 31) + (wz (oeV σ j 0))) * 31) + (wz (oeV σ j 1))) * 31) + (wz (oeV σ j 2))) * 31) + (wz (oeV σ j 3))) * 31) + (wz (oeV σ j 4))) * 31) dX3_digest_283 rfl ?_
                                      refine lv_aload_n hx hb dX3_digest_284 rfl (lv_at hl 3 rfl) ?_
                                      refine lv_iload_n hx hb dX3_digest_285 rfl (lv_at hl 2 rfl) ?_
                                      refine lv_iload hx hb dX3_digest_286 (lv_at hl 0 rfl) ?_
                                      refine z_go ((((0 + 60 * w + 60 * k + 260 * j) + 2) + 70) + 70) ((((0 + 700 * w + 800 * k + 4600 * j) + 32) + 1100) + 1100) (z_runV (As := [.int (iI ((j : Nat) : Int)), .int (iI 5)]) (rest := [.long (lI ((((((((((((dgM (St_ev σ j) (dgI (dgE σ) (dgI (dgA σ) (dgM (myV σ) 58236 8) (St_na σ)) j) (St_n σ (St_ea σ j))) * 31) + (wz (oeV σ j 0))) * 31) + (wz (oeV σ j 1))) * 31) + (wz (oeV σ j 2))) * 31) + (wz (oeV σ j 3))) * 31) + (wz (oeV σ j 4))) * 31))]) hC hml hl.1 (m_X3_elementNow_5 hE H26 (hO.ext (zS_F hS) hMo) μ σ 0 j hH1 hj) (lw_V q1811 q1813 qs48 q67 q1814) rfl nd_X3_elementNow rfl (z_rv hC (ci := 2) rfl hH1.2.2.1.1 rfl) rfl (Nat.le_of_ble_eq_true rfl) ⟨Nat.le_of_ble_eq_true rfl, Nat.le_of_ble_eq_true rfl⟩ ⟨zfit (k := 70) (z := 3800) rfl rfl (by omega), zfit (k := 1100) (z := 57000) rfl rfl (by omega)⟩ dX3_digest_288) ⟨zad (k := 70) rfl (by omega), zad (k := 1100) rfl (by omega)⟩ hS (fun _ z => z.elim) (fun r H28 locs hp hF hS1 => ?_)
                                      obtain ⟨_, rfl, rfl⟩ := hp
                                      have hP := zpk hP hF
                                      have hP : va_P G.1 zCl ([]) H28 := hP
                                      have hD : va_D (zA (FM G μ σ) H0) ([]) := hD
                                      have hH1 : HM G s0 μ σ 0 H28 := hH1.ext0 hE hF
                                      have hS := hS1
                                      refine z_i2lW hx hb dX3_digest_291 ?_
                                      refine z_ladd hx hb (z := ((((((((((((dgM (St_ev σ j) (dgI (dgE σ) (dgI (dgA σ) (dgM (myV σ) 58236 8) (St_na σ)) j) (St_n σ (St_ea σ j))) * 31) + (wz (oeV σ j 0))) * 31) + (wz (oeV σ j 1))) * 31) + (wz (oeV σ j 2))) * 31) + (wz (oeV σ j 3))) * 31) + (wz (oeV σ j 4))) * 31) + (wz (oeV σ j 5))) dX3_digest_292 rfl ?_
                                      refine lv_lstore_n (lv' := [(1, .long (lI (((((((((((((dgM (St_ev σ j) (dgI (dgE σ) (dgI (dgA σ) (dgM (myV σ) 58236 8) (St_na σ)) j) (St_n σ (St_ea σ j))) * 31) + (wz (oeV σ j 0))) * 31) + (wz (oeV σ j 1))) * 31) + (wz (oeV σ j 2))) * 31) + (wz (oeV σ j 3))) * 31) + (wz (oeV σ j 4))) * 31) + (wz (oeV σ j 5))))), (4, .int (iI 5)), (3, .int (iI ((j : Nat) : Int))), (0, .ref (μ (0, 0, 0)))]) hx hb dX3_digest_293 rfl hl (by decide) rfl (fun ls hl => ?_)
                                      refine z_iinc (z := 6) (lv' := [(4, .int (iI 6)), (1, .long (lI (((((((((((((dgM (St_ev σ j) (dgI (dgE σ) (dgI (dgA σ) (dgM (myV σ) 58236 8) (St_na σ)) j) (St_n σ (St_ea σ j))) * 31) + (wz (oeV σ j 0))) * 31) + (wz (oeV σ j 1))) * 31) + (wz (oeV σ j 2))) * 31) + (wz (oeV σ j 3))) * 31) + (wz (oeV σ j 4))) * 31) + (wz (oeV σ j 5))))), (3, .int (iI ((j : Nat) : Int))), (0, .ref (μ (0, 0, 0)))]) hx hb dX3_digest_294 hl (k := 1) rfl (by omega) (by decide) rfl (fun ls hl => ?_)
                                      refine lv_goto (tgt := 272) hx hb dX3_digest_297 (by decide) ?_
                                      refine lv_iload hx hb dX3_digest_272 (lv_at hl 0 rfl) ?_
                                      refine lv_bipush (v := iI 9) hx hb dX3_digest_274 (by decide) ?_
                                      refine z_cgt (tgt := 300) hx hb dX3_digest_276 (by decide) (by omega) (fun c29 => ?_) (fun c29 => ?_)
                                      · omega
                                      · refine lv_lload_n hx hb dX3_digest_279 rfl (lv_at hl 1 rfl) ?_
                                        refine z_ldc2 (z := 31) hC q1943 (by decide) dX3_digest_280 ?_
                                        refine z_lmul hx hb (z := (((((((((((((dgM (St_ev σ j) (dgI (dgE σ) (dgI (dgA σ) (dgM (myV σ) 58236 8) (St_na σ)) j) (St_n σ (St_ea σ j))) * 31) + (wz (oeV σ j 0))) * 31) + (wz (oeV σ j 1))) * 31) + (wz (oeV σ j 2))) * 31) + (wz (oeV σ j 3))) * 31) + (wz (oeV σ j 4))) * 31) + (wz (oeV σ j 5))) * 31) dX3_digest_283 rfl ?_
                                        refine lv_aload_n hx hb dX3_digest_284 rfl (lv_at hl 3 rfl) ?_
                                        refine lv_iload_n hx hb dX3_digest_285 rfl (lv_at hl 2 rfl) ?_
                                        refine lv_iload hx hb dX3_digest_286 (lv_at hl 0 rfl) ?_
                                        refine z_go (((((0 + 60 * w + 60 * k + 260 * j) + 2) + 70) + 70) + 1) (((((0 + 700 * w + 800 * k + 4600 * j) + 32) + 1100) + 1100) + 16) (z_runV (As := [.int (iI ((j : Nat) : Int)), .int (iI 6)]) (rest := [.long (lI ((((((((((((((dgM (St_ev σ j) (dgI (dgE σ) (dgI (dgA σ) (dgM (myV σ) 58236 8) (St_na σ)) j) (St_n σ (St_ea σ j))) * 31) + (wz (oeV σ j 0))) * 31) + (wz (oeV σ j 1))) * 31) + (wz (oeV σ j 2))) * 31) + (wz (oeV σ j 3))) * 31) + (wz (oeV σ j 4))) * 31) + (wz (oeV σ j 5))) * 31))]) hC hml hl.1 (m_X3_elementNow_6 hE H28 (hO.ext (zS_F hS) hMo) μ σ 0 j hH1 hj) (lw_V q1811 q1813 qs48 q67 q1814) rfl nd_X3_elementNow rfl (z_rv hC (ci := 2) rfl hH1.2.2.1.1 rfl) rfl (Nat.le_of_ble_eq_true rfl) ⟨Nat.le_of_ble_eq_true rfl, Nat.le_of_ble_eq_true rfl⟩ ⟨zfit (k := 1) (z := 3800) rfl rfl (by omega), zfit (k := 16) (z := 57000) rfl rfl (by omega)⟩ dX3_digest_288) ⟨zad (k := 1) rfl (by omega), zad (k := 16) rfl (by omega)⟩ hS (fun _ z => z.elim) (fun r H30 locs hp hF hS1 => ?_)
                                        obtain ⟨_, rfl, rfl⟩ := hp
                                        have hP := zpk hP hF
                                        have hP : va_P G.1 zCl ([]) H30 := hP
                                        have hD : va_D (zA (FM G μ σ) H0) ([]) := hD
                                        have hH1 : HM G s0 μ σ 0 H30 := hH1.ext0 hE hF
                                        have hS := hS1
                                        refine z_i2lW hx hb dX3_digest_291 ?_
                                        refine z_ladd hx hb (z := ((((((((((((((dgM (St_ev σ j) (dgI (dgE σ) (dgI (dgA σ) (dgM (myV σ) 58236 8) (St_na σ)) j) (St_n σ (St_ea σ j))) * 31) + (wz (oeV σ j 0))) * 31) + (wz (oeV σ j 1))) * 31) + (wz (oeV σ j 2))) * 31) + (wz (oeV σ j 3))) * 31) + (wz (oeV σ j 4))) * 31) + (wz (oeV σ j 5))) * 31) + (wz (oeV σ j 6))) dX3_digest_292 rfl ?_
                                        refine lv_lstore_n (lv' := [(1, .long (lI (((((((((((((((dgM (St_ev σ j) (dgI (dgE σ) (dgI (dgA σ) (dgM (myV σ) 58236 8) (St_na σ)) j) (St_n σ (St_ea σ j))) * 31) + (wz (oeV σ j 0))) * 31) + (wz (oeV σ j 1))) * 31) + (wz (oeV σ j 2))) * 31) + (wz (oeV σ j 3))) * 31) + (wz (oeV σ j 4))) * 31) + (wz (oeV σ j 5))) * 31) + (wz (oeV σ j 6))))), (4, .int (iI 6)), (3, .int (iI ((j : Nat) : Int))), (0, .ref (μ (0, 0, 0)))]) hx hb dX3_digest_293 rfl hl (by decide) rfl (fun ls hl => ?_)
                                        refine z_iinc (z := 7) (lv' := [(4, .int (iI 7)), (1, .long (lI (((((((((((((((dgM (St_ev σ j) (dgI (dgE σ) (dgI (dgA σ) (dgM (myV σ) 58236 8) (St_na σ)) j) (St_n σ (St_ea σ j))) * 31) + (wz (oeV σ j 0))) * 31) + (wz (oeV σ j 1))) * 31) + (wz (oeV σ j 2))) * 31) + (wz (oeV σ j 3))) * 31) + (wz (oeV σ j 4))) * 31) + (wz (oeV σ j 5))) * 31) + (wz (oeV σ j 6))))), (3, .int (iI ((j : Nat) : Int))), (0, .ref (μ (0, 0, 0)))]) hx hb dX3_digest_294 hl (k := 1) rfl (by omega) (by decide) rfl (fun ls hl => ?_)
                                        refine lv_goto (tgt := 272) hx hb dX3_digest_297 (by decide) ?_
                                        refine lv_iload hx hb dX3_digest_272 (lv_at hl 0 rfl) ?_
                                        refine lv_bipush (v := iI 9) hx hb dX3_digest_274 (by decide) ?_
                                        refine z_cgt (tgt := 300) hx hb dX3_digest_276 (by decide) (by omega) (fun c31 => ?_) (fun c31 => ?_)
                                        · omega
                                        · refine lv_lload_n hx hb dX3_digest_279 rfl (lv_at hl 1 rfl) ?_
                                          refine z_ldc2 (z := 31) hC q1943 (by decide) dX3_digest_280 ?_
                                          refine z_lmul hx hb (z := (((((((((((((((dgM (St_ev σ j) (dgI (dgE σ) (dgI (dgA σ) (dgM (myV σ) 58236 8) (St_na σ)) j) (St_n σ (St_ea σ j))) * 31) + (wz (oeV σ j 0))) * 31) + (wz (oeV σ j 1))) * 31) + (wz (oeV σ j 2))) * 31) + (wz (oeV σ j 3))) * 31) + (wz (oeV σ j 4))) * 31) + (wz (oeV σ j 5))) * 31) + (wz (oeV σ j 6))) * 31) dX3_digest_283 rfl ?_
                                          refine lv_aload_n hx hb dX3_digest_284 rfl (lv_at hl 3 rfl) ?_
                                          refine lv_iload_n hx hb dX3_digest_285 rfl (lv_at hl 2 rfl) ?_
                                          refine lv_iload hx hb dX3_digest_286 (lv_at hl 0 rfl) ?_
                                          refine z_go ((((((0 + 60 * w + 60 * k + 260 * j) + 2) + 70) + 70) + 1) + 1) ((((((0 + 700 * w + 800 * k + 4600 * j) + 32) + 1100) + 1100) + 16) + 16) (z_runV (As := [.int (iI ((j : Nat) : Int)), .int (iI 7)]) (rest := [.long (lI ((((((((((((((((dgM (St_ev σ j) (dgI (dgE σ) (dgI (dgA σ) (dgM (myV σ) 58236 8) (St_na σ)) j) (St_n σ (St_ea σ j))) * 31) + (wz (oeV σ j 0))) * 31) + (wz (oeV σ j 1))) * 31) + (wz (oeV σ j 2))) * 31) + (wz (oeV σ j 3))) * 31) + (wz (oeV σ j 4))) * 31) + (wz (oeV σ j 5))) * 31) + (wz (oeV σ j 6))) * 31))]) hC hml hl.1 (m_X3_elementNow_7 hE H30 (hO.ext (zS_F hS) hMo) μ σ 0 j hH1 hj) (lw_V q1811 q1813 qs48 q67 q1814) rfl nd_X3_elementNow rfl (z_rv hC (ci := 2) rfl hH1.2.2.1.1 rfl) rfl (Nat.le_of_ble_eq_true rfl) ⟨Nat.le_of_ble_eq_true rfl, Nat.le_of_ble_eq_true rfl⟩ ⟨zfit (k := 1) (z := 3800) rfl rfl (by omega), zfit (k := 16) (z := 57000) rfl rfl (by omega)⟩ dX3_digest_288) ⟨zad (k := 1) rfl (by omega), zad (k := 16) rfl (by omega)⟩ hS (fun _ z => z.elim) (fun r H32 locs hp hF hS1 => ?_)
                                          obtain ⟨_, rfl, rfl⟩ := hp
                                          have hP := zpk hP hF
                                          have hP : va_P G.1 zCl ([]) H32 := hP
                                          have hD : va_D (zA (FM G μ σ) H0) ([]) := hD
                                          have hH1 : HM G s0 μ σ 0 H32 := hH1.ext0 hE hF
                                          have hS := hS1
                                          refine z_i2lW hx hb dX3_digest_291 ?_
                                          refine z_ladd hx hb (z := ((((((((((((((((dgM (St_ev σ j) (dgI (dgE σ) (dgI (dgA σ) (dgM (myV σ) 58236 8) (St_na σ)) j) (St_n σ (St_ea σ j))) * 31) + (wz (oeV σ j 0))) * 31) + (wz (oeV σ j 1))) * 31) + (wz (oeV σ j 2))) * 31) + (wz (oeV σ j 3))) * 31) + (wz (oeV σ j 4))) * 31) + (wz (oeV σ j 5))) * 31) + (wz (oeV σ j 6))) * 31) + (wz (oeV σ j 7))) dX3_digest_292 rfl ?_
                                          refine lv_lstore_n (lv' := [(1, .long (lI (((((((((((((((((dgM (St_ev σ j) (dgI (dgE σ) (dgI (dgA σ) (dgM (myV σ) 58236 8) (St_na σ)) j) (St_n σ (St_ea σ j))) * 31) + (wz (oeV σ j 0))) * 31) + (wz (oeV σ j 1))) * 31) + (wz (oeV σ j 2))) * 31) + (wz (oeV σ j 3))) * 31) + (wz (oeV σ j 4))) * 31) + (wz (oeV σ j 5))) * 31) + (wz (oeV σ j 6))) * 31) + (wz (oeV σ j 7))))), (4, .int (iI 7)), (3, .int (iI ((j : Nat) : Int))), (0, .ref (μ (0, 0, 0)))]) hx hb dX3_digest_293 rfl hl (by decide) rfl (fun ls hl => ?_)
                                          refine z_iinc (z := 8) (lv' := [(4, .int (iI 8)), (1, .long (lI (((((((((((((((((dgM (St_ev σ j) (dgI (dgE σ) (dgI (dgA σ) (dgM (myV σ) 58236 8) (St_na σ)) j) (St_n σ (St_ea σ j))) * 31) + (wz (oeV σ j 0))) * 31) + (wz (oeV σ j 1))) * 31) + (wz (oeV σ j 2))) * 31) + (wz (oeV σ j 3))) * 31) + (wz (oeV σ j 4))) * 31) + (wz (oeV σ j 5))) * 31) + (wz (oeV σ j 6))) * 31) + (wz (oeV σ j 7))))), (3, .int (iI ((j : Nat) : Int))), (0, .ref (μ (0, 0, 0)))]) hx hb dX3_digest_294 hl (k := 1) rfl (by omega) (by decide) rfl (fun ls hl => ?_)
                                          refine lv_goto (tgt := 272) hx hb dX3_digest_297 (by decide) ?_
                                          refine lv_iload hx hb dX3_digest_272 (lv_at hl 0 rfl) ?_
                                          refine lv_bipush (v := iI 9) hx hb dX3_digest_274 (by decide) ?_
                                          refine z_cgt (tgt := 300) hx hb dX3_digest_276 (by decide) (by omega) (fun c33 => ?_) (fun c33 => ?_)
                                          · omega
                                          · refine lv_lload_n hx hb dX3_digest_279 rfl (lv_at hl 1 rfl) ?_
                                            refine z_ldc2 (z := 31) hC q1943 (by decide) dX3_digest_280 ?_
                                            refine z_lmul hx hb (z := (((((((((((((((((dgM (St_ev σ j) (dgI (dgE σ) (dgI (dgA σ) (dgM (myV σ) 58236 8) (St_na σ)) j) (St_n σ (St_ea σ j))) * 31) + (wz (oeV σ j 0))) * 31) + (wz (oeV σ j 1))) * 31) + (wz (oeV σ j 2))) * 31) + (wz (oeV σ j 3))) * 31) + (wz (oeV σ j 4))) * 31) + (wz (oeV σ j 5))) * 31) + (wz (oeV σ j 6))) * 31) + (wz (oeV σ j 7))) * 31) dX3_digest_283 rfl ?_
                                            refine lv_aload_n hx hb dX3_digest_284 rfl (lv_at hl 3 rfl) ?_
                                            refine lv_iload_n hx hb dX3_digest_285 rfl (lv_at hl 2 rfl) ?_
                                            refine lv_iload hx hb dX3_digest_286 (lv_at hl 0 rfl) ?_
                                            refine z_go (((((((0 + 60 * w + 60 * k + 260 * j) + 2) + 70) + 70) + 1) + 1) + 42) (((((((0 + 700 * w + 800 * k + 4600 * j) + 32) + 1100) + 1100) + 16) + 16) + 616) (z_runV (As := [.int (iI ((j : Nat) : Int)), .int (iI 8)]) (rest := [.long (lI ((((((((((((((((((dgM (St_ev σ j) (dgI (dgE σ) (dgI (dgA σ) (dgM (myV σ) 58236 8) (St_na σ)) j) (St_n σ (St_ea σ j))) * 31) + (wz (oeV σ j 0))) * 31) + (wz (oeV σ j 1))) * 31) + (wz (oeV σ j 2))) * 31) + (wz (oeV σ j 3))) * 31) + (wz (oeV σ j 4))) * 31) + (wz (oeV σ j 5))) * 31) + (wz (oeV σ j 6))) * 31) + (wz (oeV σ j 7))) * 31))]) hC hml hl.1 (m_X3_elementNow_8 hE H32 (hO.ext (zS_F hS) hMo) μ σ 0 j hH1 hj) (lw_V q1811 q1813 qs48 q67 q1814) rfl nd_X3_elementNow rfl (z_rv hC (ci := 2) rfl hH1.2.2.1.1 rfl) rfl (Nat.le_of_ble_eq_true rfl) ⟨Nat.le_of_ble_eq_true rfl, Nat.le_of_ble_eq_true rfl⟩ ⟨zfit (k := 42) (z := 3800) rfl rfl (by omega), zfit (k := 616) (z := 57000) rfl rfl (by omega)⟩ dX3_digest_288) ⟨zad (k := 42) rfl (by omega), zad (k := 616) rfl (by omega)⟩ hS (fun _ z => z.elim) (fun r H34 locs hp hF hS1 => ?_)
                                            obtain ⟨_, rfl, rfl⟩ := hp
                                            have hP := zpk hP hF
                                            have hP : va_P G.1 zCl ([]) H34 := hP
                                            have hD : va_D (zA (FM G μ σ) H0) ([]) := hD
                                            have hH1 : HM G s0 μ σ 0 H34 := hH1.ext0 hE hF
                                            have hS := hS1
                                            refine z_i2lW hx hb dX3_digest_291 ?_
                                            refine z_ladd hx hb (z := ((((((((((((((((((dgM (St_ev σ j) (dgI (dgE σ) (dgI (dgA σ) (dgM (myV σ) 58236 8) (St_na σ)) j) (St_n σ (St_ea σ j))) * 31) + (wz (oeV σ j 0))) * 31) + (wz (oeV σ j 1))) * 31) + (wz (oeV σ j 2))) * 31) + (wz (oeV σ j 3))) * 31) + (wz (oeV σ j 4))) * 31) + (wz (oeV σ j 5))) * 31) + (wz (oeV σ j 6))) * 31) + (wz (oeV σ j 7))) * 31) + (wz (oeV σ j 8))) dX3_digest_292 rfl ?_
                                            refine lv_lstore_n (lv' := [(1, .long (lI (((((((((((((((((((dgM (St_ev σ j) (dgI (dgE σ) (dgI (dgA σ) (dgM (myV σ) 58236 8) (St_na σ)) j) (St_n σ (St_ea σ j))) * 31) + (wz (oeV σ j 0))) * 31) + (wz (oeV σ j 1))) * 31) + (wz (oeV σ j 2))) * 31) + (wz (oeV σ j 3))) * 31) + (wz (oeV σ j 4))) * 31) + (wz (oeV σ j 5))) * 31) + (wz (oeV σ j 6))) * 31) + (wz (oeV σ j 7))) * 31) + (wz (oeV σ j 8))))), (4, .int (iI 8)), (3, .int (iI ((j : Nat) : Int))), (0, .ref (μ (0, 0, 0)))]) hx hb dX3_digest_293 rfl hl (by decide) rfl (fun ls hl => ?_)
                                            refine z_iinc (z := 9) (lv' := [(4, .int (iI 9)), (1, .long (lI (((((((((((((((((((dgM (St_ev σ j) (dgI (dgE σ) (dgI (dgA σ) (dgM (myV σ) 58236 8) (St_na σ)) j) (St_n σ (St_ea σ j))) * 31) + (wz (oeV σ j 0))) * 31) + (wz (oeV σ j 1))) * 31) + (wz (oeV σ j 2))) * 31) + (wz (oeV σ j 3))) * 31) + (wz (oeV σ j 4))) * 31) + (wz (oeV σ j 5))) * 31) + (wz (oeV σ j 6))) * 31) + (wz (oeV σ j 7))) * 31) + (wz (oeV σ j 8))))), (3, .int (iI ((j : Nat) : Int))), (0, .ref (μ (0, 0, 0)))]) hx hb dX3_digest_294 hl (k := 1) rfl (by omega) (by decide) rfl (fun ls hl => ?_)
                                            refine lv_goto (tgt := 272) hx hb dX3_digest_297 (by decide) ?_
                                            refine lv_iload hx hb dX3_digest_272 (lv_at hl 0 rfl) ?_
                                            refine lv_bipush (v := iI 9) hx hb dX3_digest_274 (by decide) ?_
                                            refine z_cgt (tgt := 300) hx hb dX3_digest_276 (by decide) (by omega) (fun c35 => ?_) (fun c35 => ?_)
                                            · omega
                                            · refine lv_lload_n hx hb dX3_digest_279 rfl (lv_at hl 1 rfl) ?_
                                              refine z_ldc2 (z := 31) hC q1943 (by decide) dX3_digest_280 ?_
                                              refine z_lmul hx hb (z := (((((((((((((((((((dgM (St_ev σ j) (dgI (dgE σ) (dgI (dgA σ) (dgM (myV σ) 58236 8) (St_na σ)) j) (St_n σ (St_ea σ j))) * 31) + (wz (oeV σ j 0))) * 31) + (wz (oeV σ j 1))) * 31) + (wz (oeV σ j 2))) * 31) + (wz (oeV σ j 3))) * 31) + (wz (oeV σ j 4))) * 31) + (wz (oeV σ j 5))) * 31) + (wz (oeV σ j 6))) * 31) + (wz (oeV σ j 7))) * 31) + (wz (oeV σ j 8))) * 31) dX3_digest_283 rfl ?_
                                              refine lv_aload_n hx hb dX3_digest_284 rfl (lv_at hl 3 rfl) ?_
                                              refine lv_iload_n hx hb dX3_digest_285 rfl (lv_at hl 2 rfl) ?_
                                              refine lv_iload hx hb dX3_digest_286 (lv_at hl 0 rfl) ?_
                                              refine z_go ((((((((0 + 60 * w + 60 * k + 260 * j) + 2) + 70) + 70) + 1) + 1) + 42) + 42) ((((((((0 + 700 * w + 800 * k + 4600 * j) + 32) + 1100) + 1100) + 16) + 16) + 616) + 616) (z_runV (As := [.int (iI ((j : Nat) : Int)), .int (iI 9)]) (rest := [.long (lI ((((((((((((((((((((dgM (St_ev σ j) (dgI (dgE σ) (dgI (dgA σ) (dgM (myV σ) 58236 8) (St_na σ)) j) (St_n σ (St_ea σ j))) * 31) + (wz (oeV σ j 0))) * 31) + (wz (oeV σ j 1))) * 31) + (wz (oeV σ j 2))) * 31) + (wz (oeV σ j 3))) * 31) + (wz (oeV σ j 4))) * 31) + (wz (oeV σ j 5))) * 31) + (wz (oeV σ j 6))) * 31) + (wz (oeV σ j 7))) * 31) + (wz (oeV σ j 8))) * 31))]) hC hml hl.1 (m_X3_elementNow_9 hE H34 (hO.ext (zS_F hS) hMo) μ σ 0 j hH1 hj) (lw_V q1811 q1813 qs48 q67 q1814) rfl nd_X3_elementNow rfl (z_rv hC (ci := 2) rfl hH1.2.2.1.1 rfl) rfl (Nat.le_of_ble_eq_true rfl) ⟨Nat.le_of_ble_eq_true rfl, Nat.le_of_ble_eq_true rfl⟩ ⟨zfit (k := 42) (z := 3800) rfl rfl (by omega), zfit (k := 616) (z := 57000) rfl rfl (by omega)⟩ dX3_digest_288) ⟨zad (k := 42) rfl (by omega), zad (k := 616) rfl (by omega)⟩ hS (fun _ z => z.elim) (fun r H36 locs hp hF hS1 => ?_)
                                              obtain ⟨_, rfl, rfl⟩ := hp
                                              have hP := zpk hP hF
                                              have hP : va_P G.1 zCl ([]) H36 := hP
                                              have hD : va_D (zA (FM G μ σ) H0) ([]) := hD
                                              have hH1 : HM G s0 μ σ 0 H36 := hH1.ext0 hE hF
                                              have hS := hS1
                                              refine z_i2lW hx hb dX3_digest_291 ?_
                                              refine z_ladd hx hb (z := ((((((((((((((((((((dgM (St_ev σ j) (dgI (dgE σ) (dgI (dgA σ) (dgM (myV σ) 58236 8) (St_na σ)) j) (St_n σ (St_ea σ j))) * 31) + (wz (oeV σ j 0))) * 31) + (wz (oeV σ j 1))) * 31) + (wz (oeV σ j 2))) * 31) + (wz (oeV σ j 3))) * 31) + (wz (oeV σ j 4))) * 31) + (wz (oeV σ j 5))) * 31) + (wz (oeV σ j 6))) * 31) + (wz (oeV σ j 7))) * 31) + (wz (oeV σ j 8))) * 31) + (wz (oeV σ j 9))) dX3_digest_292 rfl ?_
                                              refine lv_lstore_n (lv' := [(1, .long (lI (((((((((((((((((((((dgM (St_ev σ j) (dgI (dgE σ) (dgI (dgA σ) (dgM (myV σ) 58236 8) (St_na σ)) j) (St_n σ (St_ea σ j))) * 31) + (wz (oeV σ j 0))) * 31) + (wz (oeV σ j 1))) * 31) + (wz (oeV σ j 2))) * 31) + (wz (oeV σ j 3))) * 31) + (wz (oeV σ j 4))) * 31) + (wz (oeV σ j 5))) * 31) + (wz (oeV σ j 6))) * 31) + (wz (oeV σ j 7))) * 31) + (wz (oeV σ j 8))) * 31) + (wz (oeV σ j 9))))), (4, .int (iI 9)), (3, .int (iI ((j : Nat) : Int))), (0, .ref (μ (0, 0, 0)))]) hx hb dX3_digest_293 rfl hl (by decide) rfl (fun ls hl => ?_)
                                              refine z_iinc (z := 10) (lv' := [(4, .int (iI 10)), (1, .long (lI (((((((((((((((((((((dgM (St_ev σ j) (dgI (dgE σ) (dgI (dgA σ) (dgM (myV σ) 58236 8) (St_na σ)) j) (St_n σ (St_ea σ j))) * 31) + (wz (oeV σ j 0))) * 31) + (wz (oeV σ j 1))) * 31) + (wz (oeV σ j 2))) * 31) + (wz (oeV σ j 3))) * 31) + (wz (oeV σ j 4))) * 31) + (wz (oeV σ j 5))) * 31) + (wz (oeV σ j 6))) * 31) + (wz (oeV σ j 7))) * 31) + (wz (oeV σ j 8))) * 31) + (wz (oeV σ j 9))))), (3, .int (iI ((j : Nat) : Int))), (0, .ref (μ (0, 0, 0)))]) hx hb dX3_digest_294 hl (k := 1) rfl (by omega) (by decide) rfl (fun ls hl => ?_)
                                              refine lv_goto (tgt := 272) hx hb dX3_digest_297 (by decide) ?_
                                              refine lv_iload hx hb dX3_digest_272 (lv_at hl 0 rfl) ?_
                                              refine lv_bipush (v := iI 9) hx hb dX3_digest_274 (by decide) ?_
                                              refine z_cgt (tgt := 300) hx hb dX3_digest_276 (by decide) (by omega) (fun c37 => ?_) (fun c37 => ?_)
                                              · have hl : lv_has ls 8 [(4, .int (iI 10)), (1, .long (lI (dgM (oeV σ j) (dgM (St_ev σ j) (dgI (dgE σ) (dgI (dgA σ) (dgM (myV σ) 58236 8) (St_na σ)) j) (St_n σ (St_ea σ j))) 10))), (3, .int (iI ((j : Nat) : Int))), (0, .ref (μ (0, 0, 0)))] := hl
                                                refine lv_lload_n hx hb dX3_digest_300 rfl (lv_at hl 1 rfl) ?_
                                                refine z_ldc2 (z := 31) hC q1943 (by decide) dX3_digest_301 ?_
                                                refine z_lmul hx hb (z := (dgM (oeV σ j) (dgM (St_ev σ j) (dgI (dgE σ) (dgI (dgA σ) (dgM (myV σ) 58236 8) (St_na σ)) j) (St_n σ (St_ea σ j))) 10) * 31) dX3_digest_304 rfl ?_
                                                refine lv_aload_n hx hb dX3_digest_305 rfl (lv_at hl 3 rfl) ?_
                                                refine lv_iload_n hx hb dX3_digest_306 rfl (lv_at hl 2 rfl) ?_
                                                have htl := txF_len (St_ev σ j) (St_n σ (St_ea σ j))
                                                refine z_go (((((((((0 + 60 * w + 60 * k + 260 * j) + 2) + 70) + 70) + 1) + 1) + 42) + 42) + 12) (((((((((0 + 700 * w + 800 * k + 4600 * j) + 32) + 1100) + 1100) + 16) + 16) + 616) + 616) + 900) (z_runV (As := [.int (iI ((j : Nat) : Int))]) (rest := [.long (lI ((dgM (oeV σ j) (dgM (St_ev σ j) (dgI (dgE σ) (dgI (dgA σ) (dgM (myV σ) 58236 8) (St_na σ)) j) (St_n σ (St_ea σ j))) 10) * 31))]) hC hml hl.1 (m_X3_textNow hE H36 (hO.ext (zS_F hS) hMo) μ σ 0 j hH1 hj) (lw_V q1831 q1833 qs51 q67 q1834) rfl nd_X3_textNow rfl (z_rv hC (ci := 2) rfl hH1.2.2.1.1 rfl) rfl (Nat.le_of_ble_eq_true rfl) ⟨Nat.le_of_ble_eq_true rfl, Nat.le_of_ble_eq_true rfl⟩ ⟨zfit (k := 12) (z := 3800) rfl rfl (by omega), zfit (k := 900) (z := 57000) rfl rfl (by omega)⟩ dX3_digest_307) ⟨zad (k := 12) rfl (by omega), zad (k := 900) rfl (by omega)⟩ hS (fun _ z => z.elim) (fun r H38 locs hp hF hS1 => ?_)
                                                obtain ⟨qs, rfl, hst⟩ := hp
                                                have hP : va_P G.1 zCl [] H38 := va_nil
                                                have hD : va_D (zA (FM G μ σ) H0) [] := va_nilD
                                                have hP : va_P G.1 zCl ([]) H38 := hP
                                                have hD : va_D (zA (FM G μ σ) H0) ([]) := hD
                                                have hH1 : HM G s0 μ σ 0 H38 := hH1.ext0 hE hF
                                                have hS := hS1
                                                rcases hst with ⟨b9, hN⟩ | ⟨eq9, hL9⟩
                                                · refine z_go (((((((((0 + 60 * w + 60 * k + 260 * j) + 2) + 70) + 70) + 1) + 1) + 42) + 42) + 12) (((((((((0 + 700 * w + 800 * k + 4600 * j) + 32) + 1100) + 1100) + 16) + 16) + 616) + 616) + 900) (z_runV (As := []) (rest := [.long (lI ((dgM (oeV σ j) (dgM (St_ev σ j) (dgI (dgE σ) (dgI (dgA σ) (dgM (myV σ) 58236 8) (St_na σ)) j) (St_n σ (St_ea σ j))) 10) * 31))]) hC hml hl.1 (m_J14_length hE H38 (hO.ext (zS_F hS) hMo) qs b9 (txF (St_n σ (St_ea σ j)) (St_ev σ j)) (hN.1 0 _ rfl) (hN.1 1 _ rfl) (by omega)) (lw_V q1944 q807 q808 q85 q809) rfl nd_J14_length rfl (z_rv hC (ci := 12) rfl (hN.1 0 _ rfl) rfl) rfl (Nat.le_of_ble_eq_true rfl) ⟨Nat.le_of_ble_eq_true rfl, Nat.le_of_ble_eq_true rfl⟩ ⟨zfit (k := 0) (z := 3800) rfl rfl (by omega), zfit (k := 0) (z := 57000) rfl rfl (by omega)⟩ dX3_digest_310) ⟨zad (k := 0) rfl (by omega), zad (k := 0) rfl (by omega)⟩ hS (fun _ z => z.elim) (fun r H39 locs hp hF hS1 => ?_)
                                                  obtain ⟨_, rfl, rfl⟩ := hp
                                                  have hP := zpk hP hF
                                                  have hP : va_P G.1 zCl ([]) H39 := hP
                                                  have hD : va_D (zA (FM G μ σ) H0) ([]) := hD
                                                  have hH1 : HM G s0 μ σ 0 H39 := hH1.ext0 hE hF
                                                  have hS := hS1
                                                  refine z_i2lW hx hb dX3_digest_313 ?_
                                                  refine z_ladd hx hb (z := ((dgM (oeV σ j) (dgM (St_ev σ j) (dgI (dgE σ) (dgI (dgA σ) (dgM (myV σ) 58236 8) (St_na σ)) j) (St_n σ (St_ea σ j))) 10) * 31) + (wz (((txF (St_n σ (St_ea σ j)) (St_ev σ j)).length : Nat) : Int))) dX3_digest_314 rfl ?_
                                                  refine lv_lstore_n (lv' := [(1, .long (lI (((dgM (oeV σ j) (dgM (St_ev σ j) (dgI (dgE σ) (dgI (dgA σ) (dgM (myV σ) 58236 8) (St_na σ)) j) (St_n σ (St_ea σ j))) 10) * 31) + (wz (((txF (St_n σ (St_ea σ j)) (St_ev σ j)).length : Nat) : Int))))), (4, .int (iI 10)), (3, .int (iI ((j : Nat) : Int))), (0, .ref (μ (0, 0, 0)))]) hx hb dX3_digest_315 rfl hl (by decide) rfl (fun ls hl => ?_)
                                                  refine z_iinc (z := ((j + 1 : Nat) : Int)) (lv' := [(3, .int (iI ((j + 1 : Nat) : Int))), (1, .long (lI (((dgM (oeV σ j) (dgM (St_ev σ j) (dgI (dgE σ) (dgI (dgA σ) (dgM (myV σ) 58236 8) (St_na σ)) j) (St_n σ (St_ea σ j))) 10) * 31) + (wz (((txF (St_n σ (St_ea σ j)) (St_ev σ j)).length : Nat) : Int))))), (4, .int (iI 10)), (0, .ref (μ (0, 0, 0)))]) hx hb dX3_digest_316 hl (k := 2) rfl (by omega) (by decide) rfl (fun ls hl => ?_)
                                                  refine lv_goto (tgt := 211) hx hb dX3_digest_319 (by decide) ?_
                                                  have hl : lv_has ls 8 [(3, .int (iI ((j + 1 : Nat) : Int))), (1, .long (lI (dgI (dgE σ) (dgI (dgA σ) (dgM (myV σ) 58236 8) (St_na σ)) (j + 1)))), (4, .int (iI 10)), (0, .ref (μ (0, 0, 0)))] := hl
                                                  exact W.widen (by omega) (by omega) (ihlp9 (St_ne σ - (j + 1)) (by omega) (j + 1) rfl (by omega) _ _ _ hH1 hP hD hS (lv_sub hl [0, 1, 3] rfl))
                                                · subst eq9
                                                  refine z_go (((((((((0 + 60 * w + 60 * k + 260 * j) + 2) + 70) + 70) + 1) + 1) + 42) + 42) + 12) (((((((((0 + 700 * w + 800 * k + 4600 * j) + 32) + 1100) + 1100) + 16) + 16) + 616) + 616) + 900) (z_runV (As := []) (rest := [.long (lI ((dgM (oeV σ j) (dgM (St_ev σ j) (dgI (dgE σ) (dgI (dgA σ) (dgM (myV σ) 58236 8) (St_na σ)) j) (St_n σ (St_ea σ j))) 10) * 31))]) hC hml hl.1 (m_J14_length_k hE H38 (hO.ext (zS_F hS) hMo)  ) (lw_V q1944 q807 q808 q85 q809) rfl nd_J14_length rfl (z_rs0 hE hC.w (hO.ext (zS_F hS) hMo)) rfl (Nat.le_of_ble_eq_true rfl) ⟨Nat.le_of_ble_eq_true rfl, Nat.le_of_ble_eq_true rfl⟩ ⟨zfit (k := 0) (z := 3800) rfl rfl (by omega), zfit (k := 0) (z := 57000) rfl rfl (by omega)⟩ dX3_digest_310) ⟨zad (k := 0) rfl (by omega), zad (k := 0) rfl (by omega)⟩ hS (fun _ z => z.elim) (fun r H40 locs hp hF hS1 => ?_)
                                                  obtain ⟨_, rfl, rfl⟩ := hp
                                                  have hP := zpk hP hF
                                                  have hP : va_P G.1 zCl ([]) H40 := hP
                                                  have hD : va_D (zA (FM G μ σ) H0) ([]) := hD
                                                  have hH1 : HM G s0 μ σ 0 H40 := hH1.ext0 hE hF
                                                  have hS := hS1
                                                  refine z_top (b := (((txF (St_n σ (St_ea σ j)) (St_ev σ j)).length : Nat) : Int)) (by rw [hL9]; rfl) ?_
                                                  refine z_i2lW hx hb dX3_digest_313 ?_
                                                  refine z_ladd hx hb (z := ((dgM (oeV σ j) (dgM (St_ev σ j) (dgI (dgE σ) (dgI (dgA σ) (dgM (myV σ) 58236 8) (St_na σ)) j) (St_n σ (St_ea σ j))) 10) * 31) + (wz (((txF (St_n σ (St_ea σ j)) (St_ev σ j)).length : Nat) : Int))) dX3_digest_314 rfl ?_
                                                  refine lv_lstore_n (lv' := [(1, .long (lI (((dgM (oeV σ j) (dgM (St_ev σ j) (dgI (dgE σ) (dgI (dgA σ) (dgM (myV σ) 58236 8) (St_na σ)) j) (St_n σ (St_ea σ j))) 10) * 31) + (wz (((txF (St_n σ (St_ea σ j)) (St_ev σ j)).length : Nat) : Int))))), (4, .int (iI 10)), (3, .int (iI ((j : Nat) : Int))), (0, .ref (μ (0, 0, 0)))]) hx hb dX3_digest_315 rfl hl (by decide) rfl (fun ls hl => ?_)
                                                  refine z_iinc (z := ((j + 1 : Nat) : Int)) (lv' := [(3, .int (iI ((j + 1 : Nat) : Int))), (1, .long (lI (((dgM (oeV σ j) (dgM (St_ev σ j) (dgI (dgE σ) (dgI (dgA σ) (dgM (myV σ) 58236 8) (St_na σ)) j) (St_n σ (St_ea σ j))) 10) * 31) + (wz (((txF (St_n σ (St_ea σ j)) (St_ev σ j)).length : Nat) : Int))))), (4, .int (iI 10)), (0, .ref (μ (0, 0, 0)))]) hx hb dX3_digest_316 hl (k := 2) rfl (by omega) (by decide) rfl (fun ls hl => ?_)
                                                  refine lv_goto (tgt := 211) hx hb dX3_digest_319 (by decide) ?_
                                                  have hl : lv_has ls 8 [(3, .int (iI ((j + 1 : Nat) : Int))), (1, .long (lI (dgI (dgE σ) (dgI (dgA σ) (dgM (myV σ) 58236 8) (St_na σ)) (j + 1)))), (4, .int (iI 10)), (0, .ref (μ (0, 0, 0)))] := hl
                                                  exact W.widen (by omega) (by omega) (ihlp9 (St_ne σ - (j + 1)) (by omega) (j + 1) rfl (by omega) _ _ _ hH1 hP hD hS (lv_sub hl [0, 1, 3] rfl))
                                              · omega
                        · refine lv_aload hx hb dX3_digest_246 (lv_at hl 2 rfl) ?_
                          refine lv_iload hx hb dX3_digest_248 (lv_at hl 0 rfl) ?_
                          refine z_iald hC hRj (k := u) rfl (by omega) (y := (St_ev σ j) u) rfl dX3_digest_250 ?_
                          refine lv_istore (lv' := [(7, .int (iI ((St_ev σ j) u))), (6, .int (iI ((u : Nat) : Int))), (5, .int (iI ((St_n σ (St_ea σ j) : Nat) : Int))), (4, .ref (μ (14, j, 0))), (3, .int (iI ((j : Nat) : Int))), (1, .long (lI (dgM (St_ev σ j) (dgI (dgE σ) (dgI (dgA σ) (dgM (myV σ) 58236 8) (St_na σ)) j) u))), (0, .ref (μ (0, 0, 0)))]) hx hb dX3_digest_251 hl (by decide) rfl (fun ls hl => ?_)
                          refine lv_lload_n hx hb dX3_digest_253 rfl (lv_at hl 5 rfl) ?_
                          refine z_ldc2 (z := 31) hC q1943 (by decide) dX3_digest_254 ?_
                          refine z_lmul hx hb (z := (dgM (St_ev σ j) (dgI (dgE σ) (dgI (dgA σ) (dgM (myV σ) 58236 8) (St_na σ)) j) u) * 31) dX3_digest_257 rfl ?_
                          refine lv_iload hx hb dX3_digest_258 (lv_at hl 0 rfl) ?_
                          refine z_i2lW hx hb dX3_digest_260 ?_
                          refine z_ladd hx hb (z := ((dgM (St_ev σ j) (dgI (dgE σ) (dgI (dgA σ) (dgM (myV σ) 58236 8) (St_na σ)) j) u) * 31) + (wz ((St_ev σ j) u))) dX3_digest_261 rfl ?_
                          refine lv_lstore_n (lv' := [(1, .long (lI (((dgM (St_ev σ j) (dgI (dgE σ) (dgI (dgA σ) (dgM (myV σ) 58236 8) (St_na σ)) j) u) * 31) + (wz ((St_ev σ j) u))))), (7, .int (iI ((St_ev σ j) u))), (6, .int (iI ((u : Nat) : Int))), (5, .int (iI ((St_n σ (St_ea σ j) : Nat) : Int))), (4, .ref (μ (14, j, 0))), (3, .int (iI ((j : Nat) : Int))), (0, .ref (μ (0, 0, 0)))]) hx hb dX3_digest_262 rfl hl (by decide) rfl (fun ls hl => ?_)
                          refine z_iinc (z := ((u + 1 : Nat) : Int)) (lv' := [(6, .int (iI ((u + 1 : Nat) : Int))), (1, .long (lI (((dgM (St_ev σ j) (dgI (dgE σ) (dgI (dgA σ) (dgM (myV σ) 58236 8) (St_na σ)) j) u) * 31) + (wz ((St_ev σ j) u))))), (7, .int (iI ((St_ev σ j) u))), (5, .int (iI ((St_n σ (St_ea σ j) : Nat) : Int))), (4, .ref (μ (14, j, 0))), (3, .int (iI ((j : Nat) : Int))), (0, .ref (μ (0, 0, 0)))]) hx hb dX3_digest_263 hl (k := 2) rfl (by omega) (by decide) rfl (fun ls hl => ?_)
                          refine lv_goto (tgt := 239) hx hb dX3_digest_266 (by decide) ?_
                          exact W.widen (by omega) (by omega) (ihlp14 (St_n σ (St_ea σ j) - (u + 1)) (by omega) (u + 1) rfl (by omega) _ _ _ hH1 hP hD hS (lv_sub hl [0, 3, 4, 5, 1, 6] rfl))
                    exact W.widen (by omega) (by omega) (lp14 _ 0 rfl (Nat.zero_le _) _ _ _ hH1 hP hD hS hl)
              exact W.widen (by omega) (by omega) (lp9 _ 0 rfl (Nat.zero_le _) _ _ _ hH1 hP hD hS hl)
            · refine lv_iconst (v := iI 0) hx hb dX3_digest_51 rfl ?_
              refine lv_istore (lv' := [(4, .int (iI 0)), (3, .int (iI ((k : Nat) : Int))), (1, .long (lI (dgI (dgA σ) (dgM (myV σ) 58236 8) k))), (0, .ref (μ (0, 0, 0)))]) hx hb dX3_digest_52 hl (by decide) rfl (fun ls hl => ?_)
              have lp41 : ∀ (dlp41 : Nat) (w2 : Nat), 6 - w2 = dlp41 → (w2 ≤ 6) → ∀ (H42 : Heap) (locs : List Loc) (ls : Array Slot), (HM G s0 μ σ 0 H42) → va_P G.1 zCl ([]) H42 → va_D (zA (FM G μ σ) H0) ([]) → va_S (zA (FM G μ σ) H0) H0 H42 locs → lv_has ls 8 [(4, .int (iI ((w2 : Nat) : Int))), (3, .int (iI ((k : Nat) : Int))), (1, .long (lI (dgM (oaV σ k) (dgI (dgA σ) (dgM (myV σ) 58236 8) k) w2))), (0, .ref (μ (0, 0, 0)))] → W pp l ee rm_m_X3_digest ss mm args below meth cd H42 locs (0 + 60 * w + 60 * k + 4 * w2) (0 + 700 * w + 800 * k + 60 * w2) Q (F0 mm 54 ls []) := by
                intro dlp41
                induction dlp41 using Nat.strongRecOn with
                | ind dlp41 ihlp41 =>
                  intro w2 hdlp41 hw2 H42 locs ls hH1 hP hD hS hl
                  refine lv_iload hx hb dX3_digest_54 (lv_at hl 0 rfl) ?_
                  refine lv_iconst (v := iI 5) hx hb dX3_digest_56 rfl ?_
                  refine z_cgt (tgt := 81) hx hb dX3_digest_57 (by decide) (by omega) (fun c43 => ?_) (fun c43 => ?_)
                  · have ew2 : w2 = 6 := by omega
                    rw [ew2] at hl
                    have hl : lv_has ls 8 [(3, .int (iI ((k : Nat) : Int))), (1, .long (lI (dgM (oaV σ k) (dgI (dgA σ) (dgM (myV σ) 58236 8) k) 6))), (0, .ref (μ (0, 0, 0)))] := lv_sub hl [1, 2, 3] rfl
                    refine lv_iconst (v := iI 0) hx hb dX3_digest_81 rfl ?_
                    refine lv_istore (lv' := [(4, .int (iI 0)), (3, .int (iI ((k : Nat) : Int))), (1, .long (lI (dgM (oaV σ k) (dgI (dgA σ) (dgM (myV σ) 58236 8) k) 6))), (0, .ref (μ (0, 0, 0)))]) hx hb dX3_digest_82 hl (by decide) rfl (fun ls hl => ?_)
                    have lp44 : ∀ (dlp44 : Nat) (w3 : Nat), 4 - w3 = dlp44 → (w3 ≤ 4) → ∀ (H45 : Heap) (locs : List Loc) (ls : Array Slot), (HM G s0 μ σ 0 H45) → va_P G.1 zCl ([]) H45 → va_D (zA (FM G μ σ) H0) ([]) → va_S (zA (FM G μ σ) H0) H0 H45 locs → lv_has ls 8 [(4, .int (iI ((w3 : Nat) : Int))), (3, .int (iI ((k : Nat) : Int))), (1, .long (lI (dgM (fun w => brV (St_p σ) (St_sg σ k) (St_n σ k) w) (dgM (oaV σ k) (dgI (dgA σ) (dgM (myV σ) 58236 8) k) 6) w3))), (0, .ref (μ (0, 0, 0)))] → W pp l ee rm_m_X3_digest ss mm args below meth cd H45 locs (0 + 60 * w + 60 * k + 4 * w2 + 1 * w3) (0 + 700 * w + 800 * k + 60 * w2 + 10 * w3) Q (F0 mm 84 ls []) := by
                      intro dlp44
                      induction dlp44 using Nat.strongRecOn with
                      | ind dlp44 ihlp44 =>
                        intro w3 hdlp44 hw3 H45 locs ls hH1 hP hD hS hl
                        refine lv_iload hx hb dX3_digest_84 (lv_at hl 0 rfl) ?_
                        refine lv_iconst (v := iI 3) hx hb dX3_digest_86 rfl ?_
                        refine z_cgt (tgt := 123) hx hb dX3_digest_87 (by decide) (by omega) (fun c46 => ?_) (fun c46 => ?_)
                        · have ew3 : w3 = 4 := by omega
                          rw [ew3] at hl
                          have hl : lv_has ls 8 [(3, .int (iI ((k : Nat) : Int))), (1, .long (lI (dgM (fun w => brV (St_p σ) (St_sg σ k) (St_n σ k) w) (dgM (oaV σ k) (dgI (dgA σ) (dgM (myV σ) 58236 8) k) 6) 4))), (0, .ref (μ (0, 0, 0)))] := lv_sub hl [1, 2, 3] rfl
                          refine lv_iconst (v := iI 0) hx hb dX3_digest_123 rfl ?_
                          refine lv_istore (lv' := [(4, .int (iI 0)), (3, .int (iI ((k : Nat) : Int))), (1, .long (lI (dgM (fun w => brV (St_p σ) (St_sg σ k) (St_n σ k) w) (dgM (oaV σ k) (dgI (dgA σ) (dgM (myV σ) 58236 8) k) 6) 4))), (0, .ref (μ (0, 0, 0)))]) hx hb dX3_digest_124 hl (by decide) rfl (fun ls hl => ?_)
                          have lp47 : ∀ (dlp47 : Nat) (w4 : Nat), 2 - w4 = dlp47 → (w4 ≤ 2) → ∀ (H48 : Heap) (locs : List Loc) (ls : Array Slot), (HM G s0 μ σ 0 H48) → va_P G.1 zCl ([]) H48 → va_D (zA (FM G μ σ) H0) ([]) → va_S (zA (FM G μ σ) H0) H0 H48 locs → lv_has ls 8 [(4, .int (iI ((w4 : Nat) : Int))), (3, .int (iI ((k : Nat) : Int))), (1, .long (lI (dgM (fun z => rwV (St_p σ) (St_d σ k) (St_dv σ k) (z : Int)) (dgM (fun w => brV (St_p σ) (St_sg σ k) (St_n σ k) w) (dgM (oaV σ k) (dgI (dgA σ) (dgM (myV σ) 58236 8) k) 6) 4) w4))), (0, .ref (μ (0, 0, 0)))] → W pp l ee rm_m_X3_digest ss mm args below meth cd H48 locs (0 + 60 * w + 60 * k + 4 * w2 + 1 * w3 + 1 * w4) (0 + 700 * w + 800 * k + 60 * w2 + 10 * w3 + 10 * w4) Q (F0 mm 126 ls []) := by
                            intro dlp47
                            induction dlp47 using Nat.strongRecOn with
                            | ind dlp47 ihlp47 =>
                              intro w4 hdlp47 hw4 H48 locs ls hH1 hP hD hS hl
                              refine lv_iload hx hb dX3_digest_126 (lv_at hl 0 rfl) ?_
                              refine lv_iconst (v := iI 1) hx hb dX3_digest_128 rfl ?_
                              refine z_cgt (tgt := 165) hx hb dX3_digest_129 (by decide) (by omega) (fun c49 => ?_) (fun c49 => ?_)
                              · have ew4 : w4 = 2 := by omega
                                rw [ew4] at hl
                                have hl : lv_has ls 8 [(3, .int (iI ((k : Nat) : Int))), (1, .long (lI (dgM (fun z => rwV (St_p σ) (St_d σ k) (St_dv σ k) (z : Int)) (dgM (fun w => brV (St_p σ) (St_sg σ k) (St_n σ k) w) (dgM (oaV σ k) (dgI (dgA σ) (dgM (myV σ) 58236 8) k) 6) 4) 2))), (0, .ref (μ (0, 0, 0)))] := lv_sub hl [1, 2, 3] rfl
                                refine lv_iconst (v := iI 0) hx hb dX3_digest_165 rfl ?_
                                refine lv_istore (lv' := [(4, .int (iI 0)), (3, .int (iI ((k : Nat) : Int))), (1, .long (lI (dgM (fun z => rwV (St_p σ) (St_d σ k) (St_dv σ k) (z : Int)) (dgM (fun w => brV (St_p σ) (St_sg σ k) (St_n σ k) w) (dgM (oaV σ k) (dgI (dgA σ) (dgM (myV σ) 58236 8) k) 6) 4) 2))), (0, .ref (μ (0, 0, 0)))]) hx hb dX3_digest_166 hl (by decide) rfl (fun ls hl => ?_)
                                have lp50 : ∀ (dlp50 : Nat) (k2 : Nat), St_na σ - k2 = dlp50 → (k2 ≤ St_na σ) → ∀ (H51 : Heap) (locs : List Loc) (ls : Array Slot), (HM G s0 μ σ 0 H51) → va_P G.1 zCl ([]) H51 → va_D (zA (FM G μ σ) H0) ([]) → va_S (zA (FM G μ σ) H0) H0 H51 locs → lv_has ls 8 [(4, .int (iI ((k2 : Nat) : Int))), (3, .int (iI ((k : Nat) : Int))), (1, .long (lI (dgM (mnw σ k) (dgM (fun z => rwV (St_p σ) (St_d σ k) (St_dv σ k) (z : Int)) (dgM (fun w => brV (St_p σ) (St_sg σ k) (St_n σ k) w) (dgM (oaV σ k) (dgI (dgA σ) (dgM (myV σ) 58236 8) k) 6) 4) 2) k2))), (0, .ref (μ (0, 0, 0)))] → W pp l ee rm_m_X3_digest ss mm args below meth cd H51 locs (0 + 60 * w + 60 * k + 4 * w2 + 1 * w3 + 1 * w4 + 1 * k2) (0 + 700 * w + 800 * k + 60 * w2 + 10 * w3 + 10 * w4 + 10 * k2) Q (F0 mm 168 ls []) := by
                                  intro dlp50
                                  induction dlp50 using Nat.strongRecOn with
                                  | ind dlp50 ihlp50 =>
                                    intro k2 hdlp50 hk2 H51 locs ls hH1 hP hD hS hl
                                    have hxx := hH1.2.2.1.1
                                    refine lv_iload hx hb dX3_digest_168 (lv_at hl 0 rfl) ?_
                                    refine lv_aload_n hx hb dX3_digest_170 rfl (lv_at hl 3 rfl) ?_
                                    have hxx := hH1.2.2.1.1
                                    refine z_get hC (k := 3) rfl in_X3 hxx (by decide) q1499 (fun _ h => h) rfl dX3_digest_171 ?_
                                    obtain ⟨mda, hLa⟩ := id hH1.2.2.1.2.1
                                    refine z_go5 (0 + 60 * w + 60 * k + 4 * w2 + 1 * w3 + 1 * w4 + 1 * k2) (0 + 700 * w + 800 * k + 60 * w2 + 10 * w3 + 10 * w4 + 10 * k2) (z_runF (n := 0) (As := []) (rest := [.int (iI ((k2 : Nat) : Int))]) (ci := 8) hC hml hl.1 (m_J2_size hE H51 (hO.ext (zS_F hS) hMo) (μ (1, 0, 0)) (St_na σ) (fun k => μ (6, k, 0)) (μ (2, 0, 0)) mda hLa) q232 q1525 q1529 q230 q65 q1527 q1526 q1531 q1530 q1528 ⟨by decide +kernel, by decide +kernel, by decide +kernel⟩ rfl rfl rfl (z_rv hC (ci := 8) rfl hLa.1 rfl) rfl (Nat.le_of_ble_eq_true rfl) ⟨Nat.le_of_ble_eq_true rfl, Nat.le_of_ble_eq_true rfl⟩ ⟨zfit (k := 0) (z := 3800) rfl rfl (by omega), zfit (k := 0) (z := 57000) rfl rfl (by omega)⟩ dX3_digest_174) ⟨zad (k := 0) rfl (by omega), zad (k := 0) rfl (by omega)⟩ hS (fun _ z => z.elim) (fun r H52 locs hp hF hS1 => ?_)
                                    obtain ⟨_, rfl, rfl⟩ := hp
                                    have hP := zpk hP hF
                                    have hP : va_P G.1 zCl ([]) H52 := hP
                                    have hD : va_D (zA (FM G μ σ) H0) ([]) := hD
                                    have hH1 : HM G s0 μ σ 0 H52 := hH1.ext0 hE hF
                                    have hS := hS1
                                    refine z_cge (tgt := 203) hx hb dX3_digest_179 (by decide) (by omega) (fun c53 => ?_) (fun c53 => ?_)
                                    · have ek2 : k2 = St_na σ := by omega
                                      rw [ek2] at hl
                                      have hl : lv_has ls 8 [(3, .int (iI ((k : Nat) : Int))), (1, .long (lI (dgI (dgA σ) (dgM (myV σ) 58236 8) (k + 1)))), (0, .ref (μ (0, 0, 0)))] := lv_sub hl [1, 2, 3] rfl
                                      refine z_iinc (z := ((k + 1 : Nat) : Int)) (lv' := [(3, .int (iI ((k + 1 : Nat) : Int))), (1, .long (lI (dgI (dgA σ) (dgM (myV σ) 58236 8) (k + 1)))), (0, .ref (μ (0, 0, 0)))]) hx hb dX3_digest_203 hl (k := 0) rfl (by omega) (by decide) rfl (fun ls hl => ?_)
                                      refine lv_goto (tgt := 38) hx hb dX3_digest_206 (by decide) ?_
                                      exact W.widen (by omega) (by omega) (ihlp5 (St_na σ - (k + 1)) (by omega) (k + 1) rfl (by omega) _ _ _ hH1 hP hD hS hl)
                                    · refine lv_lload_n hx hb dX3_digest_182 rfl (lv_at hl 2 rfl) ?_
                                      refine z_ldc2 (z := 31) hC q1943 (by decide) dX3_digest_183 ?_
                                      refine z_lmul hx hb (z := (dgM (mnw σ k) (dgM (fun z => rwV (St_p σ) (St_d σ k) (St_dv σ k) (z : Int)) (dgM (fun w => brV (St_p σ) (St_sg σ k) (St_n σ k) w) (dgM (oaV σ k) (dgI (dgA σ) (dgM (myV σ) 58236 8) k) 6) 4) 2) k2) * 31) dX3_digest_186 rfl ?_
                                      refine lv_aload_n hx hb dX3_digest_187 rfl (lv_at hl 3 rfl) ?_
                                      refine lv_iload_n hx hb dX3_digest_188 rfl (lv_at hl 1 rfl) ?_
                                      refine lv_iload hx hb dX3_digest_189 (lv_at hl 0 rfl) ?_
                                      refine z_go (0 + 60 * w + 60 * k + 4 * w2 + 1 * w3 + 1 * w4 + 1 * k2) (0 + 700 * w + 800 * k + 60 * w2 + 10 * w3 + 10 * w4 + 10 * k2) (z_runV (As := [.int (iI ((k : Nat) : Int)), .int (iI ((k2 : Nat) : Int))]) (rest := [.long (lI ((dgM (mnw σ k) (dgM (fun z => rwV (St_p σ) (St_d σ k) (St_dv σ k) (z : Int)) (dgM (fun w => brV (St_p σ) (St_sg σ k) (St_n σ k) w) (dgM (oaV σ k) (dgI (dgA σ) (dgM (myV σ) 58236 8) k) 6) 4) 2) k2) * 31))]) hC hml hl.1 (m_X3_matchNow hE H52 (hO.ext (zS_F hS) hMo) μ σ 0 k k2 hH1 ⟨by omega, by omega⟩) (lw_V q1922 q1924 qs58 q67 q1925) rfl nd_X3_matchNow rfl (z_rv hC (ci := 2) rfl hH1.2.2.1.1 rfl) rfl (Nat.le_of_ble_eq_true rfl) ⟨Nat.le_of_ble_eq_true rfl, Nat.le_of_ble_eq_true rfl⟩ ⟨zfit (k := 0) (z := 3800) rfl rfl (by omega), zfit (k := 0) (z := 57000) rfl rfl (by omega)⟩ dX3_digest_191) ⟨zad (k := 0) rfl (by omega), zad (k := 0) rfl (by omega)⟩ hS (fun _ z => z.elim) (fun r H54 locs hp hF hS1 => ?_)
                                      obtain ⟨_, rfl, rfl⟩ := hp
                                      have hP := zpk hP hF
                                      have hP : va_P G.1 zCl ([]) H54 := hP
                                      have hD : va_D (zA (FM G μ σ) H0) ([]) := hD
                                      have hH1 : HM G s0 μ σ 0 H54 := hH1.ext0 hE hF
                                      have hS := hS1
                                      refine z_i2lW hx hb dX3_digest_194 ?_
                                      refine z_ladd hx hb (z := ((dgM (mnw σ k) (dgM (fun z => rwV (St_p σ) (St_d σ k) (St_dv σ k) (z : Int)) (dgM (fun w => brV (St_p σ) (St_sg σ k) (St_n σ k) w) (dgM (oaV σ k) (dgI (dgA σ) (dgM (myV σ) 58236 8) k) 6) 4) 2) k2) * 31) + (wz (mnw σ k k2))) dX3_digest_195 rfl ?_
                                      refine lv_lstore_n (lv' := [(1, .long (lI (((dgM (mnw σ k) (dgM (fun z => rwV (St_p σ) (St_d σ k) (St_dv σ k) (z : Int)) (dgM (fun w => brV (St_p σ) (St_sg σ k) (St_n σ k) w) (dgM (oaV σ k) (dgI (dgA σ) (dgM (myV σ) 58236 8) k) 6) 4) 2) k2) * 31) + (wz (mnw σ k k2))))), (4, .int (iI ((k2 : Nat) : Int))), (3, .int (iI ((k : Nat) : Int))), (0, .ref (μ (0, 0, 0)))]) hx hb dX3_digest_196 rfl hl (by decide) rfl (fun ls hl => ?_)
                                      refine z_iinc (z := ((k2 + 1 : Nat) : Int)) (lv' := [(4, .int (iI ((k2 + 1 : Nat) : Int))), (1, .long (lI (((dgM (mnw σ k) (dgM (fun z => rwV (St_p σ) (St_d σ k) (St_dv σ k) (z : Int)) (dgM (fun w => brV (St_p σ) (St_sg σ k) (St_n σ k) w) (dgM (oaV σ k) (dgI (dgA σ) (dgM (myV σ) 58236 8) k) 6) 4) 2) k2) * 31) + (wz (mnw σ k k2))))), (3, .int (iI ((k : Nat) : Int))), (0, .ref (μ (0, 0, 0)))]) hx hb dX3_digest_197 hl (k := 1) rfl (by omega) (by decide) rfl (fun ls hl => ?_)
                                      refine lv_goto (tgt := 168) hx hb dX3_digest_200 (by decide) ?_
                                      exact W.widen (by omega) (by omega) (ihlp50 (St_na σ - (k2 + 1)) (by omega) (k2 + 1) rfl (by omega) _ _ _ hH1 hP hD hS (lv_sub hl [0, 2, 1, 3] rfl))
                                exact W.widen (by omega) (by omega) (lp50 _ 0 rfl (Nat.zero_le _) _ _ _ hH1 hP hD hS hl)
                              · refine lv_lload_n hx hb dX3_digest_132 rfl (lv_at hl 2 rfl) ?_
                                refine z_ldc2 (z := 31) hC q1943 (by decide) dX3_digest_133 ?_
                                refine z_lmul hx hb (z := (dgM (fun z => rwV (St_p σ) (St_d σ k) (St_dv σ k) (z : Int)) (dgM (fun w => brV (St_p σ) (St_sg σ k) (St_n σ k) w) (dgM (oaV σ k) (dgI (dgA σ) (dgM (myV σ) 58236 8) k) 6) 4) w4) * 31) dX3_digest_136 rfl ?_
                                refine lv_aload_n hx hb dX3_digest_137 rfl (lv_at hl 3 rfl) ?_
                                refine lv_aload_n hx hb dX3_digest_138 rfl (lv_at hl 3 rfl) ?_
                                have hxx := hH1.2.2.1.1
                                refine z_get hC (k := 3) rfl in_X3 hxx (by decide) q1499 (fun _ h => h) rfl dX3_digest_139 ?_
                                refine lv_iload_n hx hb dX3_digest_142 rfl (lv_at hl 1 rfl) ?_
                                have hxx := hH1.2.2.1.1
                                obtain ⟨mda, hLa⟩ := id hH1.2.2.1.2.1
                                refine z_go5 (0 + 60 * w + 60 * k + 4 * w2 + 1 * w3 + 1 * w4) (0 + 700 * w + 800 * k + 60 * w2 + 10 * w3 + 10 * w4) (z_runF (n := 1) (As := [.int (iI ((k : Nat) : Int))]) (rest := [.ref (μ (0, 0, 0)), .long (lI ((dgM (fun z => rwV (St_p σ) (St_d σ k) (St_dv σ k) (z : Int)) (dgM (fun w => brV (St_p σ) (St_sg σ k) (St_n σ k) w) (dgM (oaV σ k) (dgI (dgA σ) (dgM (myV σ) 58236 8) k) 6) 4) w4) * 31))]) (ci := 8) hC hml hl.1 (m_J2_get hE H48 (hO.ext (zS_F hS) hMo) (μ (1, 0, 0)) (St_na σ) (fun k => μ (6, k, 0)) (μ (2, 0, 0)) mda k hLa (by omega)) q375 q1588 q1591 q373 q65 q1590 q1589 q1593 q1592 q1528 ⟨by decide +kernel, by decide +kernel, by decide +kernel⟩ rfl rfl rfl (z_rv hC (ci := 8) rfl hLa.1 rfl) rfl (Nat.le_of_ble_eq_true rfl) ⟨Nat.le_of_ble_eq_true rfl, Nat.le_of_ble_eq_true rfl⟩ ⟨zfit (k := 0) (z := 3800) rfl rfl (by omega), zfit (k := 0) (z := 57000) rfl rfl (by omega)⟩ dX3_digest_143) ⟨zad (k := 0) rfl (by omega), zad (k := 0) rfl (by omega)⟩ hS (fun _ z => z.elim) (fun r H55 locs hp hF hS1 => ?_)
                                obtain ⟨_, rfl, rfl⟩ := hp
                                have hP := zpk hP hF
                                have hP : va_P G.1 zCl ([]) H55 := hP
                                have hD : va_D (zA (FM G μ σ) H0) ([]) := hD
                                have hH1 : HM G s0 μ σ 0 H55 := hH1.ext0 hE hF
                                have hS := hS1
                                have hAk := hH1.al (k := k) (by omega)
                                have hn16k := hH1.n (k := k) (by omega)
                                refine z_cast hC (ci := 5) rfl hAk.1 rfl q1539 dX3_digest_148 ?_
                                refine lv_iload hx hb dX3_digest_151 (lv_at hl 0 rfl) ?_
                                refine z_go (0 + 60 * w + 60 * k + 4 * w2 + 1 * w3 + 1 * w4) (0 + 700 * w + 800 * k + 60 * w2 + 10 * w3 + 10 * w4) (z_runV (As := [.ref (μ (6, k, 0)), .int (iI ((w4 : Nat) : Int))]) (rest := [.long (lI ((dgM (fun z => rwV (St_p σ) (St_d σ k) (St_dv σ k) (z : Int)) (dgM (fun w => brV (St_p σ) (St_sg σ k) (St_n σ k) w) (dgM (oaV σ k) (dgI (dgA σ) (dgM (myV σ) 58236 8) k) 6) 4) w4) * 31))]) hC hml hl.1 (m_X3_rowNow hE H55 (hO.ext (zS_F hS) hMo) μ σ 0 k (w4 : Int) hH1 (by omega) ⟨by omega, by rcases hp with h | h | h <;> rw [h] <;> omega⟩) (lw_V q1910 q1912 qs57 q67 q1913) rfl nd_X3_rowNow rfl (z_rv hC (ci := 2) rfl hH1.2.2.1.1 rfl) rfl (Nat.le_of_ble_eq_true rfl) ⟨Nat.le_of_ble_eq_true rfl, Nat.le_of_ble_eq_true rfl⟩ ⟨zfit (k := 0) (z := 3800) rfl rfl (by omega), zfit (k := 0) (z := 57000) rfl rfl (by omega)⟩ dX3_digest_153) ⟨zad (k := 0) rfl (by omega), zad (k := 0) rfl (by omega)⟩ hS (fun _ z => z.elim) (fun r H56 locs hp hF hS1 => ?_)
                                obtain ⟨_, rfl, rfl⟩ := hp
                                have hP := zpk hP hF
                                have hP : va_P G.1 zCl ([]) H56 := hP
                                have hD : va_D (zA (FM G μ σ) H0) ([]) := hD
                                have hH1 : HM G s0 μ σ 0 H56 := hH1.ext0 hE hF
                                have hS := hS1
                                refine z_i2lW hx hb dX3_digest_156 ?_
                                refine z_ladd hx hb (z := ((dgM (fun z => rwV (St_p σ) (St_d σ k) (St_dv σ k) (z : Int)) (dgM (fun w => brV (St_p σ) (St_sg σ k) (St_n σ k) w) (dgM (oaV σ k) (dgI (dgA σ) (dgM (myV σ) 58236 8) k) 6) 4) w4) * 31) + (wz (rwV (St_p σ) (St_d σ k) (St_dv σ k) (w4 : Int)))) dX3_digest_157 rfl ?_
                                refine lv_lstore_n (lv' := [(1, .long (lI (((dgM (fun z => rwV (St_p σ) (St_d σ k) (St_dv σ k) (z : Int)) (dgM (fun w => brV (St_p σ) (St_sg σ k) (St_n σ k) w) (dgM (oaV σ k) (dgI (dgA σ) (dgM (myV σ) 58236 8) k) 6) 4) w4) * 31) + (wz (rwV (St_p σ) (St_d σ k) (St_dv σ k) (w4 : Int)))))), (4, .int (iI ((w4 : Nat) : Int))), (3, .int (iI ((k : Nat) : Int))), (0, .ref (μ (0, 0, 0)))]) hx hb dX3_digest_158 rfl hl (by decide) rfl (fun ls hl => ?_)
                                refine z_iinc (z := ((w4 + 1 : Nat) : Int)) (lv' := [(4, .int (iI ((w4 + 1 : Nat) : Int))), (1, .long (lI (((dgM (fun z => rwV (St_p σ) (St_d σ k) (St_dv σ k) (z : Int)) (dgM (fun w => brV (St_p σ) (St_sg σ k) (St_n σ k) w) (dgM (oaV σ k) (dgI (dgA σ) (dgM (myV σ) 58236 8) k) 6) 4) w4) * 31) + (wz (rwV (St_p σ) (St_d σ k) (St_dv σ k) (w4 : Int)))))), (3, .int (iI ((k : Nat) : Int))), (0, .ref (μ (0, 0, 0)))]) hx hb dX3_digest_159 hl (k := 1) rfl (by omega) (by decide) rfl (fun ls hl => ?_)
                                refine lv_goto (tgt := 126) hx hb dX3_digest_162 (by decide) ?_
                                exact W.widen (by omega) (by omega) (ihlp47 (2 - (w4 + 1)) (by omega) (w4 + 1) rfl (by omega) _ _ _ hH1 hP hD hS (lv_sub hl [0, 2, 1, 3] rfl))
                          exact W.widen (by omega) (by omega) (lp47 _ 0 rfl (Nat.zero_le _) _ _ _ hH1 hP hD hS hl)
                        · refine lv_lload_n hx hb dX3_digest_90 rfl (lv_at hl 2 rfl) ?_
                          refine z_ldc2 (z := 31) hC q1943 (by decide) dX3_digest_91 ?_
                          refine z_lmul hx hb (z := (dgM (fun w => brV (St_p σ) (St_sg σ k) (St_n σ k) w) (dgM (oaV σ k) (dgI (dgA σ) (dgM (myV σ) 58236 8) k) 6) w3) * 31) dX3_digest_94 rfl ?_
                          refine lv_aload_n hx hb dX3_digest_95 rfl (lv_at hl 3 rfl) ?_
                          refine lv_aload_n hx hb dX3_digest_96 rfl (lv_at hl 3 rfl) ?_
                          have hxx := hH1.2.2.1.1
                          refine z_get hC (k := 3) rfl in_X3 hxx (by decide) q1499 (fun _ h => h) rfl dX3_digest_97 ?_
                          refine lv_iload_n hx hb dX3_digest_100 rfl (lv_at hl 1 rfl) ?_
                          have hxx := hH1.2.2.1.1
                          obtain ⟨mda, hLa⟩ := id hH1.2.2.1.2.1
                          refine z_go5 (0 + 60 * w + 60 * k + 4 * w2 + 1 * w3) (0 + 700 * w + 800 * k + 60 * w2 + 10 * w3) (z_runF (n := 1) (As := [.int (iI ((k : Nat) : Int))]) (rest := [.ref (μ (0, 0, 0)), .long (lI ((dgM (fun w => brV (St_p σ) (St_sg σ k) (St_n σ k) w) (dgM (oaV σ k) (dgI (dgA σ) (dgM (myV σ) 58236 8) k) 6) w3) * 31))]) (ci := 8) hC hml hl.1 (m_J2_get hE H45 (hO.ext (zS_F hS) hMo) (μ (1, 0, 0)) (St_na σ) (fun k => μ (6, k, 0)) (μ (2, 0, 0)) mda k hLa (by omega)) q375 q1588 q1591 q373 q65 q1590 q1589 q1593 q1592 q1528 ⟨by decide +kernel, by decide +kernel, by decide +kernel⟩ rfl rfl rfl (z_rv hC (ci := 8) rfl hLa.1 rfl) rfl (Nat.le_of_ble_eq_true rfl) ⟨Nat.le_of_ble_eq_true rfl, Nat.le_of_ble_eq_true rfl⟩ ⟨zfit (k := 0) (z := 3800) rfl rfl (by omega), zfit (k := 0) (z := 57000) rfl rfl (by omega)⟩ dX3_digest_101) ⟨zad (k := 0) rfl (by omega), zad (k := 0) rfl (by omega)⟩ hS (fun _ z => z.elim) (fun r H57 locs hp hF hS1 => ?_)
                          obtain ⟨_, rfl, rfl⟩ := hp
                          have hP := zpk hP hF
                          have hP : va_P G.1 zCl ([]) H57 := hP
                          have hD : va_D (zA (FM G μ σ) H0) ([]) := hD
                          have hH1 : HM G s0 μ σ 0 H57 := hH1.ext0 hE hF
                          have hS := hS1
                          have hAk := hH1.al (k := k) (by omega)
                          have hn16k := hH1.n (k := k) (by omega)
                          refine z_cast hC (ci := 5) rfl hAk.1 rfl q1539 dX3_digest_106 ?_
                          refine lv_iload hx hb dX3_digest_109 (lv_at hl 0 rfl) ?_
                          refine z_go (0 + 60 * w + 60 * k + 4 * w2 + 1 * w3) (0 + 700 * w + 800 * k + 60 * w2 + 10 * w3) (z_runV (As := [.ref (μ (6, k, 0)), .int (iI ((w3 : Nat) : Int))]) (rest := [.long (lI ((dgM (fun w => brV (St_p σ) (St_sg σ k) (St_n σ k) w) (dgM (oaV σ k) (dgI (dgA σ) (dgM (myV σ) 58236 8) k) 6) w3) * 31))]) hC hml hl.1 (m_X3_breakNow hE H57 (hO.ext (zS_F hS) hMo) μ σ 0 k w3 hH1 (by omega) (by omega)) (lw_V q1866 q1868 qs53 q67 q1869) rfl nd_X3_breakNow rfl (z_rv hC (ci := 2) rfl hH1.2.2.1.1 rfl) rfl (Nat.le_of_ble_eq_true rfl) ⟨Nat.le_of_ble_eq_true rfl, Nat.le_of_ble_eq_true rfl⟩ ⟨zfit (k := 0) (z := 3800) rfl rfl (by omega), zfit (k := 0) (z := 57000) rfl rfl (by omega)⟩ dX3_digest_111) ⟨zad (k := 0) rfl (by omega), zad (k := 0) rfl (by omega)⟩ hS (fun _ z => z.elim) (fun r H58 locs hp hF hS1 => ?_)
                          obtain ⟨_, rfl, rfl⟩ := hp
                          have hP := zpk hP hF
                          have hP : va_P G.1 zCl ([]) H58 := hP
                          have hD : va_D (zA (FM G μ σ) H0) ([]) := hD
                          have hH1 : HM G s0 μ σ 0 H58 := hH1.ext0 hE hF
                          have hS := hS1
                          refine z_i2lW hx hb dX3_digest_114 ?_
                          refine z_ladd hx hb (z := ((dgM (fun w => brV (St_p σ) (St_sg σ k) (St_n σ k) w) (dgM (oaV σ k) (dgI (dgA σ) (dgM (myV σ) 58236 8) k) 6) w3) * 31) + (wz (brV (St_p σ) (St_sg σ k) (St_n σ k) w3))) dX3_digest_115 rfl ?_
                          refine lv_lstore_n (lv' := [(1, .long (lI (((dgM (fun w => brV (St_p σ) (St_sg σ k) (St_n σ k) w) (dgM (oaV σ k) (dgI (dgA σ) (dgM (myV σ) 58236 8) k) 6) w3) * 31) + (wz (brV (St_p σ) (St_sg σ k) (St_n σ k) w3))))), (4, .int (iI ((w3 : Nat) : Int))), (3, .int (iI ((k : Nat) : Int))), (0, .ref (μ (0, 0, 0)))]) hx hb dX3_digest_116 rfl hl (by decide) rfl (fun ls hl => ?_)
                          refine z_iinc (z := ((w3 + 1 : Nat) : Int)) (lv' := [(4, .int (iI ((w3 + 1 : Nat) : Int))), (1, .long (lI (((dgM (fun w => brV (St_p σ) (St_sg σ k) (St_n σ k) w) (dgM (oaV σ k) (dgI (dgA σ) (dgM (myV σ) 58236 8) k) 6) w3) * 31) + (wz (brV (St_p σ) (St_sg σ k) (St_n σ k) w3))))), (3, .int (iI ((k : Nat) : Int))), (0, .ref (μ (0, 0, 0)))]) hx hb dX3_digest_117 hl (k := 1) rfl (by omega) (by decide) rfl (fun ls hl => ?_)
                          refine lv_goto (tgt := 84) hx hb dX3_digest_120 (by decide) ?_
                          exact W.widen (by omega) (by omega) (ihlp44 (4 - (w3 + 1)) (by omega) (w3 + 1) rfl (by omega) _ _ _ hH1 hP hD hS (lv_sub hl [0, 2, 1, 3] rfl))
                    exact W.widen (by omega) (by omega) (lp44 _ 0 rfl (Nat.zero_le _) _ _ _ hH1 hP hD hS hl)
                  · refine lv_lload_n hx hb dX3_digest_60 rfl (lv_at hl 2 rfl) ?_
                    refine z_ldc2 (z := 31) hC q1943 (by decide) dX3_digest_61 ?_
                    refine z_lmul hx hb (z := (dgM (oaV σ k) (dgI (dgA σ) (dgM (myV σ) 58236 8) k) w2) * 31) dX3_digest_64 rfl ?_
                    refine lv_aload_n hx hb dX3_digest_65 rfl (lv_at hl 3 rfl) ?_
                    refine lv_iload_n hx hb dX3_digest_66 rfl (lv_at hl 1 rfl) ?_
                    refine lv_iload hx hb dX3_digest_67 (lv_at hl 0 rfl) ?_
                    refine z_go ((0 + 60 * w + 60 * k + 4 * w2) + 1) ((0 + 700 * w + 800 * k + 60 * w2) + 6) (z_runV (As := [.int (iI ((k : Nat) : Int)), .int (iI ((w2 : Nat) : Int))]) (rest := [.long (lI ((dgM (oaV σ k) (dgI (dgA σ) (dgM (myV σ) 58236 8) k) w2) * 31))]) hC hml hl.1 (m_X3_algebraNow hE H42 (hO.ext (zS_F hS) hMo) μ σ 0 k w2 hH1 (by omega) (by omega)) (lw_V q1846 q1848 qs52 q67 q1849) rfl nd_X3_algebraNow rfl (z_rv hC (ci := 2) rfl hH1.2.2.1.1 rfl) rfl (Nat.le_of_ble_eq_true rfl) ⟨Nat.le_of_ble_eq_true rfl, Nat.le_of_ble_eq_true rfl⟩ ⟨zfit (k := 1) (z := 3800) rfl rfl (by omega), zfit (k := 6) (z := 57000) rfl rfl (by omega)⟩ dX3_digest_69) ⟨zad (k := 1) rfl (by omega), zad (k := 6) rfl (by omega)⟩ hS (fun _ z => z.elim) (fun r H59 locs hp hF hS1 => ?_)
                    obtain ⟨_, rfl, rfl⟩ := hp
                    have hP := zpk hP hF
                    have hP : va_P G.1 zCl ([]) H59 := hP
                    have hD : va_D (zA (FM G μ σ) H0) ([]) := hD
                    have hH1 : HM G s0 μ σ 0 H59 := hH1.ext0 hE hF
                    have hS := hS1
                    refine z_i2lW hx hb dX3_digest_72 ?_
                    refine z_ladd hx hb (z := ((dgM (oaV σ k) (dgI (dgA σ) (dgM (myV σ) 58236 8) k) w2) * 31) + (wz (oaV σ k w2))) dX3_digest_73 rfl ?_
                    refine lv_lstore_n (lv' := [(1, .long (lI (((dgM (oaV σ k) (dgI (dgA σ) (dgM (myV σ) 58236 8) k) w2) * 31) + (wz (oaV σ k w2))))), (4, .int (iI ((w2 : Nat) : Int))), (3, .int (iI ((k : Nat) : Int))), (0, .ref (μ (0, 0, 0)))]) hx hb dX3_digest_74 rfl hl (by decide) rfl (fun ls hl => ?_)
                    refine z_iinc (z := ((w2 + 1 : Nat) : Int)) (lv' := [(4, .int (iI ((w2 + 1 : Nat) : Int))), (1, .long (lI (((dgM (oaV σ k) (dgI (dgA σ) (dgM (myV σ) 58236 8) k) w2) * 31) + (wz (oaV σ k w2))))), (3, .int (iI ((k : Nat) : Int))), (0, .ref (μ (0, 0, 0)))]) hx hb dX3_digest_75 hl (k := 1) rfl (by omega) (by decide) rfl (fun ls hl => ?_)
                    refine lv_goto (tgt := 54) hx hb dX3_digest_78 (by decide) ?_
                    exact W.widen (by omega) (by omega) (ihlp41 (6 - (w2 + 1)) (by omega) (w2 + 1) rfl (by omega) _ _ _ hH1 hP hD hS (lv_sub hl [0, 2, 1, 3] rfl))
              exact W.widen (by omega) (by omega) (lp41 _ 0 rfl (Nat.zero_le _) _ _ _ hH1 hP hD hS hl)
        exact W.widen (by omega) (by omega) (lp5 _ 0 rfl (Nat.zero_le _) _ _ _ hH1 hP hD hS hl)
      · refine lv_lload_n hx hb dX3_digest_17 rfl (lv_at hl 1 rfl) ?_
        refine z_ldc2 (z := 31) hC q1943 (by decide) dX3_digest_18 ?_
        refine z_lmul hx hb (z := (dgM (myV σ) 58236 w) * 31) dX3_digest_21 rfl ?_
        refine lv_aload_n hx hb dX3_digest_22 rfl (lv_at hl 2 rfl) ?_
        refine lv_iload_n hx hb dX3_digest_23 rfl (lv_at hl 0 rfl) ?_
        refine z_go ((0 + 60 * w) + 60) ((0 + 700 * w) + 700) (z_runV (As := [.int (iI ((w : Nat) : Int))]) (rest := [.long (lI ((dgM (myV σ) 58236 w) * 31))]) hC hml hl.1 (m_X3_manyNow hE H3 (hO.ext (zS_F hS) hMo) μ σ 0 w hH1 (by omega)) (lw_V q1898 q1900 qs56 q67 q1901) rfl nd_X3_manyNow rfl (z_rv hC (ci := 2) rfl hH1.2.2.1.1 rfl) rfl (Nat.le_of_ble_eq_true rfl) ⟨Nat.le_of_ble_eq_true rfl, Nat.le_of_ble_eq_true rfl⟩ ⟨zfit (k := 60) (z := 3800) rfl rfl (by omega), zfit (k := 700) (z := 57000) rfl rfl (by omega)⟩ dX3_digest_24) ⟨zad (k := 60) rfl (by omega), zad (k := 700) rfl (by omega)⟩ hS (fun _ z => z.elim) (fun r H60 locs hp hF hS1 => ?_)
        obtain ⟨_, rfl, rfl⟩ := hp
        have hP := zpk hP hF
        have hP : va_P G.1 zCl ([]) H60 := hP
        have hD : va_D (zA (FM G μ σ) H0) ([]) := hD
        have hH1 : HM G s0 μ σ 0 H60 := hH1.ext0 hE hF
        have hS := hS1
        refine z_i2lW hx hb dX3_digest_27 ?_
        refine z_ladd hx hb (z := ((dgM (myV σ) 58236 w) * 31) + (wz (myV σ w))) dX3_digest_28 rfl ?_
        refine lv_lstore_n (lv' := [(1, .long (lI (((dgM (myV σ) 58236 w) * 31) + (wz (myV σ w))))), (3, .int (iI ((w : Nat) : Int))), (0, .ref (μ (0, 0, 0)))]) hx hb dX3_digest_29 rfl hl (by decide) rfl (fun ls hl => ?_)
        refine z_iinc (z := ((w + 1 : Nat) : Int)) (lv' := [(3, .int (iI ((w + 1 : Nat) : Int))), (1, .long (lI (((dgM (myV σ) 58236 w) * 31) + (wz (myV σ w))))), (0, .ref (μ (0, 0, 0)))]) hx hb dX3_digest_30 hl (k := 1) rfl (by omega) (by decide) rfl (fun ls hl => ?_)
        refine lv_goto (tgt := 11) hx hb dX3_digest_33 (by decide) ?_
        exact W.widen (by omega) (by omega) (ihlp2 (8 - (w + 1)) (by omega) (w + 1) rfl (by omega) _ _ _ hH1 hP hD hS hl)
  exact W.widen (by omega) (by omega) (lp2 _ 0 rfl (Nat.zero_le _) _ _ _ hH1 hP hD hS hl)

