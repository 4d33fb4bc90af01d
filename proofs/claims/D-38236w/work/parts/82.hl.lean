/-! THE MODEL: what one asks of an algebra -/
set_option maxRecDepth 100000
theorem b2i_in (b : Bool) : 0 ≤ b2i b ∧ b2i b ≤ 1 := by cases b <;> decide
theorem b2i_and (a b : Bool) : b2i (a && b) = (((if a then 1 else 0) &&& (if b then 1 else 0) : Nat) : Int) := by cases a <;> cases b <;> rfl
theorem b2i_n (b : Bool) : b2i b = (((if b then 1 else 0) : Nat) : Int) := by cases b <;> rfl
abbrev rm_m_X3_breakNow : Room := { frames := 3, cells := 0, slots := 0, locals := 69 }
set_option maxHeartbeats 4000000 in
theorem m_X3_breakNow {l : Launch} {s0 : State} {G : zG} (hE : zE l s0 G) (H0 : Heap) (hO : zO s0 H0) (μ : Ro → Nat) (σ : St) (th : Int) (k : Nat) (law : Nat) (hh : HM G s0 μ σ th H0) (hk : k < St_na σ) (hl0 : law < 4) : zM l s0 yX3_breakNow cX3_breakNow 7 (some FieldType.int) rm_m_X3_breakNow [.ref (μ (0, 0, 0)), .ref (μ (6, k, 0)), .int (iI ((law : Nat) : Int))] H0 M0 (ri (fun y _ => y = brV (St_p σ) (St_sg σ k) (St_n σ k) law)) := by
  refine z_met hE (by decide +kernel) (Nat.le_of_ble_eq_true rfl) ?_
  intro pp ee ss mm args below meth cd Q ls hC hml hrt hlk hnm hH hQ hS hl
  have hx := hC.x
  have hb := hC.b
  have hl : lv_has ls 7 [(0, .ref (μ (0, 0, 0))), (1, .ref (μ (6, k, 0))), (2, .int (iI ((law : Nat) : Int)))] := hl
  have hP : va_P G.1 zCl [] H0 := va_nil
  have hD : va_D (zA M0 H0) [] := va_nilD
  have hH1 := hh
  obtain ⟨hp, hna, hal, hne9, hel9, hmr9⟩ := id hh.ok
  have hp7 : 0 < St_p σ ∧ St_p σ ≤ 7 := by rcases hp with h | h | h <;> rw [h] <;> decide
  have hnn := hh.n hk
  have hdk := hal k hk
  obtain ⟨mm9, hmm⟩ : ∃ a : Nat, a = if law = 0 then 1 else (St_n σ k) := ⟨_, rfl⟩
  obtain ⟨T9, hT9⟩ : ∃ a : Int, a = brV (St_p σ) (St_sg σ k) (St_n σ k) law := ⟨_, rfl⟩
  have hT0 : biV (kpV (St_p σ) (St_sg σ k) law) mm9 (St_n σ k) (St_n σ k) 0 = T9 := by rw [hT9, hmm]; rfl
  rw [← hT9] at hQ
  have hmb : mm9 ≤ (St_n σ k) := by rw [hmm]; split <;> omega
  refine lv_aload_n hx hb dX3_breakNow_0 rfl (lv_at hl 1 rfl) ?_
  have hH1 : HM G s0 μ σ th H0 := hh.ext0 hE (zS_F hS)
  have hUk := hH1.al (k := k) hk
  refine z_go 0 0 (z_runV (As := []) (rest := []) hC hml hl.1 (m_X6_units hE H0 (hO.ext0 (zS_F hS)) (μ (6, k, 0)) (μ (7, k, 0)) (μ (11, k, 0)) (μ (9, k, 0)) (μ (0, 0, 0)) (St_kd σ k) (St_d σ k) hUk.1 (hal k hk).2.1) (lw_V q1627 q1604 q1605 q82 q1606) rfl nd_X6_units rfl (z_rv hC (ci := 5) rfl hUk.1 rfl) rfl (Nat.le_of_ble_eq_true rfl) ⟨Nat.le_of_ble_eq_true rfl, Nat.le_of_ble_eq_true rfl⟩ ⟨zfit (k := 0) (z := 0) rfl rfl (by omega), zfit (k := 0) (z := 0) rfl rfl (by omega)⟩ dX3_breakNow_1) ⟨zad (k := 0) rfl (by omega), zad (k := 0) rfl (by omega)⟩ hS (fun _ z => z.elim) (fun r H1 locs hp hF hS1 => ?_)
  obtain ⟨_, rfl, rfl⟩ := hp
  have hP := zpk hP hF
  have hP : va_P G.1 zCl ([]) H1 := hP
  have hD : va_D (zA M0 H0) ([]) := hD
  have hS := hS1
  refine lv_istore_n (lv' := [(3, .int (iI ((St_n σ k : Nat) : Int))), (0, .ref (μ (0, 0, 0))), (1, .ref (μ (6, k, 0))), (2, .int (iI ((law : Nat) : Int)))]) hx hb dX3_breakNow_4 rfl hl (by decide) rfl (fun ls hl => ?_)
  refine lv_iconst (v := iI 0) hx hb dX3_breakNow_5 rfl ?_
  refine lv_istore (lv' := [(4, .int (iI 0)), (3, .int (iI ((St_n σ k : Nat) : Int))), (0, .ref (μ (0, 0, 0))), (1, .ref (μ (6, k, 0))), (2, .int (iI ((law : Nat) : Int)))]) hx hb dX3_breakNow_6 hl (by decide) rfl (fun ls hl => ?_)
  have lp2 : ∀ (dlp2 : Nat) (i : Nat), (St_n σ k) - i = dlp2 → (i ≤ (St_n σ k)) → (biV (kpV (St_p σ) (St_sg σ k) law) mm9 (St_n σ k) ((St_n σ k) - i) i = T9) → ∀ (H3 : Heap) (locs : List Loc) (ls : Array Slot), va_P G.1 zCl ([]) H3 → va_D (zA M0 H0) ([]) → va_S (zA M0 H0) H0 H3 locs → lv_has ls 7 [(3, .int (iI ((St_n σ k : Nat) : Int))), (0, .ref (μ (0, 0, 0))), (1, .ref (μ (6, k, 0))), (2, .int (iI ((law : Nat) : Int))), (4, .int (iI ((i : Nat) : Int)))] → W pp l ee rm_m_X3_breakNow ss mm args below meth cd H3 locs 0 0 Q (F0 mm 8 ls []) := by
    intro dlp2
    induction dlp2 using Nat.strongRecOn with
    | ind dlp2 ihlp2 =>
      intro i hdlp2 hi hi2 H3 locs ls  hP hD hS hl
      refine lv_iload hx hb dX3_breakNow_8 (lv_at hl 4 rfl) ?_
      refine lv_iload_n hx hb dX3_breakNow_10 rfl (lv_at hl 0 rfl) ?_
      refine z_cge (tgt := 88) hx hb dX3_breakNow_11 (by decide) (by omega) (fun c4 => ?_) (fun c4 => ?_)
      · have e0 : (St_n σ k) - i = 0 := by omega
        refine lv_iconst (v := iI (-1)) hx hb dX3_breakNow_88 rfl ?_
        exact z_iret hC hrt hlk hQ hS ⟨zle (z := 0) rfl (by omega), zle (z := 0) rfl (by omega)⟩ ⟨_, rfl, by rw [← hi2, e0]; rfl⟩ dX3_breakNow_89
      · rw [biV_s (by omega)] at hi2
        refine lv_iconst (v := iI 0) hx hb dX3_breakNow_14 rfl ?_
        refine lv_istore (lv' := [(5, .int (iI 0)), (3, .int (iI ((St_n σ k : Nat) : Int))), (0, .ref (μ (0, 0, 0))), (1, .ref (μ (6, k, 0))), (2, .int (iI ((law : Nat) : Int))), (4, .int (iI ((i : Nat) : Int)))]) hx hb dX3_breakNow_15 hl (by decide) rfl (fun ls hl => ?_)
        have lp5 : ∀ (dlp5 : Nat) (j : Nat), (St_n σ k) - j = dlp5 → (j ≤ (St_n σ k)) → (orE (bjV (kpV (St_p σ) (St_sg σ k) law) mm9 i ((St_n σ k) - j) j) (biV (kpV (St_p σ) (St_sg σ k) law) mm9 (St_n σ k) ((St_n σ k) - (i + 1)) (i + 1)) = T9) → ∀ (H6 : Heap) (locs : List Loc) (ls : Array Slot), va_P G.1 zCl ([]) H6 → va_D (zA M0 H0) ([]) → va_S (zA M0 H0) H0 H6 locs → lv_has ls 7 [(3, .int (iI ((St_n σ k : Nat) : Int))), (0, .ref (μ (0, 0, 0))), (1, .ref (μ (6, k, 0))), (2, .int (iI ((law : Nat) : Int))), (4, .int (iI ((i : Nat) : Int))), (5, .int (iI ((j : Nat) : Int)))] → W pp l ee rm_m_X3_breakNow ss mm args below meth cd H6 locs 0 0 Q (F0 mm 17 ls []) := by
          intro dlp5
          induction dlp5 using Nat.strongRecOn with
          | ind dlp5 ihlp5 =>
            intro j hdlp5 hj hj2 H6 locs ls  hP hD hS hl
            refine lv_iload hx hb dX3_breakNow_17 (lv_at hl 5 rfl) ?_
            refine lv_iload_n hx hb dX3_breakNow_19 rfl (lv_at hl 0 rfl) ?_
            refine z_cge (tgt := 82) hx hb dX3_breakNow_20 (by decide) (by omega) (fun c7 => ?_) (fun c7 => ?_)
            · have e0 : (St_n σ k) - j = 0 := by omega
              rw [e0, show bjV (kpV (St_p σ) (St_sg σ k) law) mm9 i 0 j = -1 from rfl, orE_n] at hj2
              refine z_iinc (z := ((i + 1 : Nat) : Int)) (lv' := [(4, .int (iI ((i + 1 : Nat) : Int))), (3, .int (iI ((St_n σ k : Nat) : Int))), (0, .ref (μ (0, 0, 0))), (1, .ref (μ (6, k, 0))), (2, .int (iI ((law : Nat) : Int))), (5, .int (iI ((j : Nat) : Int)))]) hx hb dX3_breakNow_82 hl (k := 4) rfl (by omega) (by decide) rfl (fun ls hl => ?_)
              refine lv_goto (tgt := 8) hx hb dX3_breakNow_85 (by decide) ?_
              exact W.widen (by omega) (by omega) (ihlp2 ((St_n σ k) - (i + 1)) (by omega) (i + 1) rfl (by omega) hj2 _ _ _  hP hD hS (lv_sub hl [1, 2, 3, 4, 0] rfl))
            · rw [bjV_s (by omega), orE_a] at hj2
              refine lv_iconst (v := iI 0) hx hb dX3_breakNow_23 rfl ?_
              refine lv_istore (lv' := [(6, .int (iI 0)), (3, .int (iI ((St_n σ k : Nat) : Int))), (0, .ref (μ (0, 0, 0))), (1, .ref (μ (6, k, 0))), (2, .int (iI ((law : Nat) : Int))), (4, .int (iI ((i : Nat) : Int))), (5, .int (iI ((j : Nat) : Int)))]) hx hb dX3_breakNow_24 hl (by decide) rfl (fun ls hl => ?_)
              have lp8 : ∀ (dlp8 : Nat) (c : Nat), mm9 - c = dlp8 → (c ≤ mm9) → (orE (bkV (kpV (St_p σ) (St_sg σ k) law) i j (mm9 - c) c) (orE (bjV (kpV (St_p σ) (St_sg σ k) law) mm9 i ((St_n σ k) - (j + 1)) (j + 1)) (biV (kpV (St_p σ) (St_sg σ k) law) mm9 (St_n σ k) ((St_n σ k) - (i + 1)) (i + 1))) = T9) → ∀ (H9 : Heap) (locs : List Loc) (ls : Array Slot), va_P G.1 zCl ([]) H9 → va_D (zA M0 H0) ([]) → va_S (zA M0 H0) H0 H9 locs → lv_has ls 7 [(3, .int (iI ((St_n σ k : Nat) : Int))), (0, .ref (μ (0, 0, 0))), (1, .ref (μ (6, k, 0))), (2, .int (iI ((law : Nat) : Int))), (4, .int (iI ((i : Nat) : Int))), (5, .int (iI ((j : Nat) : Int))), (6, .int (iI ((c : Nat) : Int)))] → W pp l ee rm_m_X3_breakNow ss mm args below meth cd H9 locs 0 0 Q (F0 mm 26 ls []) := by
                intro dlp8
                induction dlp8 using Nat.strongRecOn with
                | ind dlp8 ihlp8 =>
                  intro c hdlp8 hc hk2 H9 locs ls  hP hD hS hl
                  refine lv_iload hx hb dX3_breakNow_26 (lv_at hl 6 rfl) ?_
                  refine lv_iload_n hx hb dX3_breakNow_28 rfl (lv_at hl 3 rfl) ?_
                  refine z_zne (tgt := 36) hx hb dX3_breakNow_29 (by decide) (by omega) (fun c10 => ?_) (fun c10 => ?_)
                  · have em : mm9 = (St_n σ k) := by rw [hmm, if_neg (by omega)]
                    refine lv_iload_n hx hb dX3_breakNow_36 rfl (lv_at hl 0 rfl) ?_
                    refine z_cge (tgt := 76) hx hb dX3_breakNow_37 (by decide) (by omega) (fun c11 => ?_) (fun c11 => ?_)
                    · have e0 : mm9 - c = 0 := by omega
                      rw [e0, show bkV (kpV (St_p σ) (St_sg σ k) law) i j 0 c = -1 from rfl, orE_n] at hk2
                      refine z_iinc (z := ((j + 1 : Nat) : Int)) (lv' := [(5, .int (iI ((j + 1 : Nat) : Int))), (3, .int (iI ((St_n σ k : Nat) : Int))), (0, .ref (μ (0, 0, 0))), (1, .ref (μ (6, k, 0))), (2, .int (iI ((law : Nat) : Int))), (4, .int (iI ((i : Nat) : Int))), (6, .int (iI ((c : Nat) : Int)))]) hx hb dX3_breakNow_76 hl (k := 5) rfl (by omega) (by decide) rfl (fun ls hl => ?_)
                      refine lv_goto (tgt := 17) hx hb dX3_breakNow_79 (by decide) ?_
                      exact W.widen (by omega) (by omega) (ihlp5 ((St_n σ k) - (j + 1)) (by omega) (j + 1) rfl (by omega) hk2 _ _ _  hP hD hS (lv_sub hl [1, 2, 3, 4, 5, 0] rfl))
                    · refine lv_aload_n hx hb dX3_breakNow_40 rfl (lv_at hl 2 rfl) ?_
                      refine lv_iload_n hx hb dX3_breakNow_41 rfl (lv_at hl 3 rfl) ?_
                      refine lv_iload hx hb dX3_breakNow_42 (lv_at hl 4 rfl) ?_
                      refine lv_iload hx hb dX3_breakNow_44 (lv_at hl 5 rfl) ?_
                      refine lv_iload hx hb dX3_breakNow_46 (lv_at hl 6 rfl) ?_
                      have hH1 : HM G s0 μ σ th H9 := hh.ext0 hE (zS_F hS)
                      have hAk := hH1.al (k := k) hk
                      have hn16k := hH1.n (k := k) hk
                      have hH1 : HM G s0 μ σ th H9 := hh.ext0 hE (zS_F hS)
                      refine z_go 0 0 (z_runV (As := [.int (iI ((law : Nat) : Int)), .int (iI ((i : Nat) : Int)), .int (iI ((j : Nat) : Int)), .int (iI ((c : Nat) : Int))]) (rest := []) hC hml hl.1 (m_X6_keeps hE H9 (hO.ext0 (zS_F hS)) μ σ th k law i j c hH1 hk (by omega) ⟨by omega, by omega, by omega⟩) (lw_V q1850 q1851 q1852 q82 q1853) rfl nd_X6_keeps rfl (z_rv hC (ci := 5) rfl hAk.1 rfl) rfl (Nat.le_of_ble_eq_true rfl) ⟨Nat.le_of_ble_eq_true rfl, Nat.le_of_ble_eq_true rfl⟩ ⟨zfit (k := 0) (z := 0) rfl rfl (by omega), zfit (k := 0) (z := 0) rfl rfl (by omega)⟩ dX3_breakNow_48) ⟨zad (k := 0) rfl (by omega), zad (k := 0) rfl (by omega)⟩ hS (fun _ z => z.elim) (fun r H12 locs hp hF hS1 => ?_)
                      obtain ⟨_, rfl, rfl⟩ := hp
                      have hP := zpk hP hF
                      have hP : va_P G.1 zCl ([]) H12 := hP
                      have hD : va_D (zA M0 H0) ([]) := hD
                      have hS := hS1
                      refine z_zne (tgt := 70) hx hb dX3_breakNow_51 (by decide) (by unfold b2i; split <;> omega) (fun cz => ?_) (fun cz => ?_)
                      · rw [bkV_s (by omega) (b2i_nz cz)] at hk2
                        refine z_iinc (z := ((c + 1 : Nat) : Int)) (lv' := [(6, .int (iI ((c + 1 : Nat) : Int))), (3, .int (iI ((St_n σ k : Nat) : Int))), (0, .ref (μ (0, 0, 0))), (1, .ref (μ (6, k, 0))), (2, .int (iI ((law : Nat) : Int))), (4, .int (iI ((i : Nat) : Int))), (5, .int (iI ((j : Nat) : Int)))]) hx hb dX3_breakNow_70 hl (k := 6) rfl (by omega) (by decide) rfl (fun ls hl => ?_)
                        refine lv_goto (tgt := 26) hx hb dX3_breakNow_73 (by decide) ?_
                        exact W.widen (by omega) (by omega) (ihlp8 (mm9 - (c + 1)) (by omega) (c + 1) rfl (by omega) hk2 _ _ _  hP hD hS (lv_sub hl [1, 2, 3, 4, 5, 6, 0] rfl))
                      · refine lv_sipush (v := iI 256) hx hb dX3_breakNow_54 (by decide) ?_
                        refine lv_iload hx hb dX3_breakNow_57 (lv_at hl 4 rfl) ?_
                        refine z_mul hx hb (z := 256 * ((i : Nat) : Int)) dX3_breakNow_59 rfl ?_
                        refine lv_bipush (v := iI 16) hx hb dX3_breakNow_60 (by decide) ?_
                        refine lv_iload hx hb dX3_breakNow_62 (lv_at hl 5 rfl) ?_
                        refine z_mul hx hb (z := 16 * ((j : Nat) : Int)) dX3_breakNow_64 rfl ?_
                        refine z_add hx hb (z := (256 * ((i : Nat) : Int)) + (16 * ((j : Nat) : Int))) dX3_breakNow_65 rfl ?_
                        refine lv_iload hx hb dX3_breakNow_66 (lv_at hl 6 rfl) ?_
                        refine z_add hx hb (z := ((256 * ((i : Nat) : Int)) + (16 * ((j : Nat) : Int))) + ((c : Nat) : Int)) dX3_breakNow_68 rfl ?_
                        exact z_iret hC hrt hlk hQ hS ⟨zle (z := 0) rfl (by omega), zle (z := 0) rfl (by omega)⟩ ⟨_, rfl, by rw [← hk2, bkV_f (by omega) (b2i_z cz), orE_y (by omega)]⟩ dX3_breakNow_69
                  · have em : mm9 = 1 := by rw [hmm, if_pos (by omega)]
                    refine lv_iconst (v := iI 1) hx hb dX3_breakNow_32 rfl ?_
                    refine lv_goto (tgt := 37) hx hb dX3_breakNow_33 (by decide) ?_
                    refine z_cge (tgt := 76) hx hb dX3_breakNow_37 (by decide) (by omega) (fun c13 => ?_) (fun c13 => ?_)
                    · have e0 : mm9 - c = 0 := by omega
                      rw [e0, show bkV (kpV (St_p σ) (St_sg σ k) law) i j 0 c = -1 from rfl, orE_n] at hk2
                      refine z_iinc (z := ((j + 1 : Nat) : Int)) (lv' := [(5, .int (iI ((j + 1 : Nat) : Int))), (3, .int (iI ((St_n σ k : Nat) : Int))), (0, .ref (μ (0, 0, 0))), (1, .ref (μ (6, k, 0))), (2, .int (iI ((law : Nat) : Int))), (4, .int (iI ((i : Nat) : Int))), (6, .int (iI ((c : Nat) : Int)))]) hx hb dX3_breakNow_76 hl (k := 5) rfl (by omega) (by decide) rfl (fun ls hl => ?_)
                      refine lv_goto (tgt := 17) hx hb dX3_breakNow_79 (by decide) ?_
                      exact W.widen (by omega) (by omega) (ihlp5 ((St_n σ k) - (j + 1)) (by omega) (j + 1) rfl (by omega) hk2 _ _ _  hP hD hS (lv_sub hl [1, 2, 3, 4, 5, 0] rfl))
                    · refine lv_aload_n hx hb dX3_breakNow_40 rfl (lv_at hl 2 rfl) ?_
                      refine lv_iload_n hx hb dX3_breakNow_41 rfl (lv_at hl 3 rfl) ?_
                      refine lv_iload hx hb dX3_breakNow_42 (lv_at hl 4 rfl) ?_
                      refine lv_iload hx hb dX3_breakNow_44 (lv_at hl 5 rfl) ?_
                      refine lv_iload hx hb dX3_breakNow_46 (lv_at hl 6 rfl) ?_
                      have hH1 : HM G s0 μ σ th H9 := hh.ext0 hE (zS_F hS)
                      have hAk := hH1.al (k := k) hk
                      have hn16k := hH1.n (k := k) hk
                      have hH1 : HM G s0 μ σ th H9 := hh.ext0 hE (zS_F hS)
                      refine z_go 0 0 (z_runV (As := [.int (iI ((law : Nat) : Int)), .int (iI ((i : Nat) : Int)), .int (iI ((j : Nat) : Int)), .int (iI ((c : Nat) : Int))]) (rest := []) hC hml hl.1 (m_X6_keeps hE H9 (hO.ext0 (zS_F hS)) μ σ th k law i j c hH1 hk (by omega) ⟨by omega, by omega, by omega⟩) (lw_V q1850 q1851 q1852 q82 q1853) rfl nd_X6_keeps rfl (z_rv hC (ci := 5) rfl hAk.1 rfl) rfl (Nat.le_of_ble_eq_true rfl) ⟨Nat.le_of_ble_eq_true rfl, Nat.le_of_ble_eq_true rfl⟩ ⟨zfit (k := 0) (z := 0) rfl rfl (by omega), zfit (k := 0) (z := 0) rfl rfl (by omega)⟩ dX3_breakNow_48) ⟨zad (k := 0) rfl (by omega), zad (k := 0) rfl (by omega)⟩ hS (fun _ z => z.elim) (fun r H14 locs hp hF hS1 => ?_)
                      obtain ⟨_, rfl, rfl⟩ := hp
                      have hP := zpk hP hF
                      have hP : va_P G.1 zCl ([]) H14 := hP
                      have hD : va_D (zA M0 H0) ([]) := hD
                      have hS := hS1
                      refine z_zne (tgt := 70) hx hb dX3_breakNow_51 (by decide) (by unfold b2i; split <;> omega) (fun cz => ?_) (fun cz => ?_)
                      · rw [bkV_s (by omega) (b2i_nz cz)] at hk2
                        refine z_iinc (z := ((c + 1 : Nat) : Int)) (lv' := [(6, .int (iI ((c + 1 : Nat) : Int))), (3, .int (iI ((St_n σ k : Nat) : Int))), (0, .ref (μ (0, 0, 0))), (1, .ref (μ (6, k, 0))), (2, .int (iI ((law : Nat) : Int))), (4, .int (iI ((i : Nat) : Int))), (5, .int (iI ((j : Nat) : Int)))]) hx hb dX3_breakNow_70 hl (k := 6) rfl (by omega) (by decide) rfl (fun ls hl => ?_)
                        refine lv_goto (tgt := 26) hx hb dX3_breakNow_73 (by decide) ?_
                        exact W.widen (by omega) (by omega) (ihlp8 (mm9 - (c + 1)) (by omega) (c + 1) rfl (by omega) hk2 _ _ _  hP hD hS (lv_sub hl [1, 2, 3, 4, 5, 6, 0] rfl))
                      · refine lv_sipush (v := iI 256) hx hb dX3_breakNow_54 (by decide) ?_
                        refine lv_iload hx hb dX3_breakNow_57 (lv_at hl 4 rfl) ?_
                        refine z_mul hx hb (z := 256 * ((i : Nat) : Int)) dX3_breakNow_59 rfl ?_
                        refine lv_bipush (v := iI 16) hx hb dX3_breakNow_60 (by decide) ?_
                        refine lv_iload hx hb dX3_breakNow_62 (lv_at hl 5 rfl) ?_
                        refine z_mul hx hb (z := 16 * ((j : Nat) : Int)) dX3_breakNow_64 rfl ?_
                        refine z_add hx hb (z := (256 * ((i : Nat) : Int)) + (16 * ((j : Nat) : Int))) dX3_breakNow_65 rfl ?_
                        refine lv_iload hx hb dX3_breakNow_66 (lv_at hl 6 rfl) ?_
                        refine z_add hx hb (z := ((256 * ((i : Nat) : Int)) + (16 * ((j : Nat) : Int))) + ((c : Nat) : Int)) dX3_breakNow_68 rfl ?_
                        exact z_iret hC hrt hlk hQ hS ⟨zle (z := 0) rfl (by omega), zle (z := 0) rfl (by omega)⟩ ⟨_, rfl, by rw [← hk2, bkV_f (by omega) (b2i_z cz), orE_y (by omega)]⟩ dX3_breakNow_69
              exact W.widen (by omega) (by omega) (lp8 _ 0 rfl (Nat.zero_le _) hj2 _ _ _  hP hD hS (lv_sub hl [1, 2, 3, 4, 5, 6, 0] rfl))
        exact W.widen (by omega) (by omega) (lp5 _ 0 rfl (Nat.zero_le _) hi2 _ _ _  hP hD hS (lv_sub hl [1, 2, 3, 4, 5, 0] rfl))
  exact W.widen (by omega) (by omega) (lp2 _ 0 rfl (Nat.zero_le _) hT0 _ _ _  hP hD hS (lv_sub hl [1, 2, 3, 4, 0] rfl))

abbrev rm_m_X3_breaks : Room := { frames := 4, cells := 0, slots := 0, locals := 95 }
set_option maxHeartbeats 4000000 in
theorem m_X3_breaks {l : Launch} {s0 : State} {G : zG} (hE : zE l s0 G) (H0 : Heap) (hO : zO s0 H0) (μ : Ro → Nat) (σ : St) (th : Int) (i u : Int) (hh : HM G s0 μ σ th H0) (hi : zi i ∧ zi u) : zM l s0 yX3_breaks cX3_breaks 3 (some FieldType.int) rm_m_X3_breaks [.ref (μ (0, 0, 0)), .int (iI i), .int (iI u)] H0 (FM G μ σ) (HPM G s0 H0 μ σ [IOB] ((fun y σ' => σ' = σ ∧ (∃ k a : Nat, (i = k ∧ k < St_na σ) ∧ (u = a ∧ a < 4) ∧ y = brV (St_p σ) (St_sg σ k) (St_n σ k) a))) ((fun E => X1a σ i (0 ≤ u ∧ u < 4) E))) := by
  refine z_met hE (by decide +kernel) (Nat.le_of_ble_eq_true rfl) ?_
  intro pp ee ss mm args below meth cd Q ls hC hml hrt hlk hnm hH hQ hS hl
  have hx := hC.x
  have hb := hC.b
  have hl : lv_has ls 3 [(0, .ref (μ (0, 0, 0))), (1, .int (iI i)), (2, .int (iI u))] := hl
  have hP : va_P G.1 zCl [] H0 := va_nil
  have hD : va_D (zA (FM G μ σ) H0) [] := va_nilD
  have hMo : ∀ z, (FM G μ σ) z → s0.heap.size ≤ z := fun z hz => FM.ge hh.sep hz
  have hH1 := hh
  obtain ⟨hp, hna, hal, hne9, hel9, hmr9⟩ := id hh.ok
  have hp7 : 0 < St_p σ ∧ St_p σ ≤ 7 := by rcases hp with h | h | h <;> rw [h] <;> decide
  have hP : va_P G.1 zCl [((μ (0, 0, 0)), zOb 2 [.int (iI th), .int (iI (St_p σ)), .int (iI ((St_kn σ : Nat) : Int)), .ref (μ (1, 0, 0)), .ref (μ (3, 0, 0))])] H0 := zP1 hh.2.2.1.1
  have hD : va_D (zA (FM G μ σ) H0) [((μ (0, 0, 0)), zOb 2 [.int (iI th), .int (iI (St_p σ)), .int (iI ((St_kn σ : Nat) : Int)), .ref (μ (1, 0, 0)), .ref (μ (3, 0, 0))])] := zD1 (Or.inl (FM.in hE hh.sep (domM0 0 (by omega)) (by simp [rAm])))
  refine lv_aload_n hx hb dX3_breaks_0 rfl (lv_at hl 0 rfl) ?_
  refine lv_iconst (v := iI 0) hx hb dX3_breaks_1 rfl ?_
  refine z_putO hC hP hD hS 0 (k := 0) rfl rfl in_X3 tyX3_ok nmX3 (by decide) q1495 (fun _ h => h) rfl rfl rfl rfl (Nat.le_of_ble_eq_true rfl) (ws' := [((μ (0, 0, 0)), zOb 2 [.int (iI 0), .int (iI (St_p σ)), .int (iI ((St_kn σ : Nat) : Int)), .ref (μ (1, 0, 0)), .ref (μ (3, 0, 0))])]) rfl dX3_breaks_2 (fun H1 locs hP hD hS hZ1 hZ2 => ?_)
  have hH1 : HM G s0 μ σ 0 H1 := HM.thr hE hH1 (zF.one hZ1 hZ2) (hP 0 _ rfl)
  have hP : va_P G.1 zCl [] H1 := va_nil
  have hD : va_D (zA (FM G μ σ) H0) [] := va_nilD
  refine lv_aload_n hx hb dX3_breaks_5 rfl (lv_at hl 0 rfl) ?_
  refine lv_iload_n hx hb dX3_breaks_6 rfl (lv_at hl 1 rfl) ?_
  refine z_go 0 0 (z_runV (As := [.int (iI i)]) (rest := []) hC hml hl.1 (m_X3_isAlgebra hE H1 (hO.ext (zS_F hS) hMo) μ σ 0 i hH1 hi.1) (lw_V q1583 q1585 qs30 q67 q1586) rfl nd_X3_isAlgebra rfl (z_rv hC (ci := 2) rfl hH1.2.2.1.1 rfl) rfl (Nat.le_of_ble_eq_true rfl) ⟨Nat.le_of_ble_eq_true rfl, Nat.le_of_ble_eq_true rfl⟩ ⟨zfit (k := 0) (z := 0) rfl rfl (by omega), zfit (k := 0) (z := 0) rfl rfl (by omega)⟩ dX3_breaks_7) ⟨zad (k := 0) rfl (by omega), zad (k := 0) rfl (by omega)⟩ hS (fun _ z => z.elim) (fun r H2 locs hp hF hS1 => ?_)
  obtain ⟨_, rfl, rfl⟩ := hp
  have hP := zpk hP hF
  have hP : va_P G.1 zCl ([]) H2 := hP
  have hD : va_D (zA (FM G μ σ) H0) ([]) := hD
  have hH1 : HM G s0 μ σ 0 H2 := hH1.ext0 hE hF
  have hS := hS1
  obtain ⟨fl, hfl, hfl2⟩ : ∃ fl : Nat, fl ≤ 1 ∧ (if 0 ≤ i ∧ i < (((St_na σ) : Nat) : Int) then (1 : Int) else 0) = fl ∧ (fl = 1 ↔ 0 ≤ i ∧ i < (((St_na σ) : Nat) : Int)) := by by_cases h : 0 ≤ i ∧ i < (((St_na σ) : Nat) : Int); exact ⟨1, by decide, by rw [if_pos h]; rfl, ⟨fun _ => h, fun _ => rfl⟩⟩; exact ⟨0, by decide, by rw [if_neg h]; rfl, ⟨fun z => absurd z (by decide), fun z => absurd z h⟩⟩
  refine z_top (b := ((fl : Nat) : Int)) (hfl2.1) ?_
  refine z_zeq (tgt := 22) hx hb dX3_breaks_10 (by decide) (by omega) (fun c3 => ?_) (fun c3 => ?_)
  · refine lv_aload_n hx hb dX3_breaks_22 rfl (lv_at hl 0 rfl) ?_
    refine lv_iconst (v := iI 1) hx hb dX3_breaks_23 rfl ?_
    have hHb := hH1
    refine z_go 0 0 (z_runV (As := [.int (iI 1)]) (rest := []) hC hml hl.1 (m_X3_no hE H2 (hO.ext (zS_F hS) hMo) μ σ 0 1 hHb) (lw_V q1520 q1522 qs29 q67 q1523) rfl nd_X3_no rfl (z_rv hC (ci := 2) rfl hHb.2.2.1.1 rfl) rfl (Nat.le_of_ble_eq_true rfl) ⟨Nat.le_of_ble_eq_true rfl, Nat.le_of_ble_eq_true rfl⟩ ⟨zfit (k := 0) (z := 0) rfl rfl (by omega), zfit (k := 0) (z := 0) rfl rfl (by omega)⟩ dX3_breaks_24) ⟨zad (k := 0) rfl (by omega), zad (k := 0) rfl (by omega)⟩ hS (fun z hz => Or.inl (hz ▸ FM.in hE hh.sep (domM0 0 (by omega)) (by simp [rAm]))) (fun r H4 locs hp hF hS1 => ?_)
    obtain ⟨_, rfl, rfl, hx9⟩ := hp
    have hP : va_P G.1 zCl [] H4 := va_nil
    have hD : va_D (zA (FM G μ σ) H0) [] := va_nilD
    have hP : va_P G.1 zCl ([]) H4 := hP
    have hD : va_D (zA (FM G μ σ) H0) ([]) := hD
    have hS := hS1
    have hH9 : HM G s0 μ σ ((1 : Nat) : Int) H4 := HM.thr hE hHb hF hx9
    exact z_iret hC hrt hlk hQ hS ⟨zle (z := 0) rfl (by omega), zle (z := 0) rfl (by omega)⟩ ⟨_, rfl, 1, σ, PoM.same hH9, Or.inr ⟨by decide, rfl, by decide, Or.inl ⟨rfl, fun z9 => by have h9 := hfl2.2.mpr z9; omega⟩⟩⟩ dX3_breaks_27
  · have hok9 := hfl2.2.mp (by omega)
    obtain ⟨k, rfl⟩ : ∃ k : Nat, i = k := ⟨i.toNat, by omega⟩
    have hk9 : k < St_na σ := by omega
    refine lv_iload_n hx hb dX3_breaks_13 rfl (lv_at hl 2 rfl) ?_
    refine lv_iconst (v := iI 0) hx hb dX3_breaks_14 rfl ?_
    refine lv_iconst (v := iI 3) hx hb dX3_breaks_15 rfl ?_
    refine z_go 0 0 (z_runS (As := [.int (iI u), .int (iI 0), .int (iI 3)]) (rest := []) hC hml hl.1 (m_X3_in hE H2 (hO.ext (zS_F hS) hMo) (0) (3) (u) ⟨by omega, by omega, by omega⟩) (lw_S q1536 q1537 q67 q1538) nd_X3_in rfl rfl (Nat.le_of_ble_eq_true rfl) ⟨Nat.le_of_ble_eq_true rfl, Nat.le_of_ble_eq_true rfl⟩ ⟨zfit (k := 0) (z := 0) rfl rfl (by omega), zfit (k := 0) (z := 0) rfl rfl (by omega)⟩ dX3_breaks_16) ⟨zad (k := 0) rfl (by omega), zad (k := 0) rfl (by omega)⟩ hS (fun _ z => z.elim) (fun r H5 locs hp hF hS1 => ?_)
    obtain ⟨_, rfl, rfl⟩ := hp
    have hP := zpk hP hF
    have hP : va_P G.1 zCl ([]) H5 := hP
    have hD : va_D (zA (FM G μ σ) H0) ([]) := hD
    have hH1 : HM G s0 μ σ 0 H5 := hH1.ext0 hE hF
    have hS := hS1
    obtain ⟨fl, hfl, hfl2⟩ : ∃ fl : Nat, fl ≤ 1 ∧ (if 0 ≤ u ∧ u ≤ 3 then (1 : Int) else 0) = fl ∧ (fl = 1 ↔ 0 ≤ u ∧ u ≤ 3) := by by_cases h : 0 ≤ u ∧ u ≤ 3; exact ⟨1, by decide, by rw [if_pos h]; rfl, ⟨fun _ => h, fun _ => rfl⟩⟩; exact ⟨0, by decide, by rw [if_neg h]; rfl, ⟨fun z => absurd z (by decide), fun z => absurd z h⟩⟩
    refine z_top (b := ((fl : Nat) : Int)) (hfl2.1) ?_
    refine z_zne (tgt := 28) hx hb dX3_breaks_19 (by decide) (by omega) (fun c6 => ?_) (fun c6 => ?_)
    · have hrg : 0 ≤ u ∧ u ≤ 3 := hfl2.2.mp (by omega)
      obtain ⟨c, rfl⟩ : ∃ c : Nat, u = c := ⟨u.toNat, by omega⟩
      have hxx := hH1.2.2.1.1
      refine lv_aload_n hx hb dX3_breaks_28 rfl (lv_at hl 0 rfl) ?_
      refine lv_aload_n hx hb dX3_breaks_29 rfl (lv_at hl 0 rfl) ?_
      refine z_get hC (k := 3) rfl in_X3 hxx (by decide) q1499 (fun _ h => h) rfl dX3_breaks_30 ?_
      refine lv_iload_n hx hb dX3_breaks_33 rfl (lv_at hl 1 rfl) ?_
      obtain ⟨mda, hLa⟩ := id hH1.2.2.1.2.1
      refine z_go5 0 0 (z_runF (n := 1) (As := [.int (iI ((k : Nat) : Int))]) (rest := [.ref (μ (0, 0, 0))]) (ci := 8) hC hml hl.1 (m_J2_get hE H5 (hO.ext (zS_F hS) hMo) (μ (1, 0, 0)) (St_na σ) (fun k => μ (6, k, 0)) (μ (2, 0, 0)) mda k hLa (by omega)) q375 q1588 q1591 q373 q65 q1590 q1589 q1593 q1592 q1528 ⟨by decide +kernel, by decide +kernel, by decide +kernel⟩ rfl rfl rfl (z_rv hC (ci := 8) rfl hLa.1 rfl) rfl (Nat.le_of_ble_eq_true rfl) ⟨Nat.le_of_ble_eq_true rfl, Nat.le_of_ble_eq_true rfl⟩ ⟨zfit (k := 0) (z := 0) rfl rfl (by omega), zfit (k := 0) (z := 0) rfl rfl (by omega)⟩ dX3_breaks_34) ⟨zad (k := 0) rfl (by omega), zad (k := 0) rfl (by omega)⟩ hS (fun _ z => z.elim) (fun r H7 locs hp hF hS1 => ?_)
      obtain ⟨_, rfl, rfl⟩ := hp
      have hP := zpk hP hF
      have hP : va_P G.1 zCl ([]) H7 := hP
      have hD : va_D (zA (FM G μ σ) H0) ([]) := hD
      have hH1 : HM G s0 μ σ 0 H7 := hH1.ext0 hE hF
      have hS := hS1
      have hAk := hH1.al (k := k) (by omega)
      have hn16k := hH1.n (k := k) (by omega)
      refine z_cast hC (ci := 5) rfl hAk.1 rfl q1539 dX3_breaks_39 ?_
      refine lv_iload_n hx hb dX3_breaks_42 rfl (lv_at hl 2 rfl) ?_
      refine z_go 0 0 (z_runV (As := [.ref (μ (6, k, 0)), .int (iI ((c : Nat) : Int))]) (rest := []) hC hml hl.1 (m_X3_breakNow hE H7 (hO.ext (zS_F hS) hMo) μ σ 0 k c hH1 (by omega) (by omega)) (lw_V q1866 q1868 qs53 q67 q1869) rfl nd_X3_breakNow rfl (z_rv hC (ci := 2) rfl hH1.2.2.1.1 rfl) rfl (Nat.le_of_ble_eq_true rfl) ⟨Nat.le_of_ble_eq_true rfl, Nat.le_of_ble_eq_true rfl⟩ ⟨zfit (k := 0) (z := 0) rfl rfl (by omega), zfit (k := 0) (z := 0) rfl rfl (by omega)⟩ dX3_breaks_43) ⟨zad (k := 0) rfl (by omega), zad (k := 0) rfl (by omega)⟩ hS (fun _ z => z.elim) (fun r H8 locs hp hF hS1 => ?_)
      obtain ⟨_, rfl, rfl⟩ := hp
      have hP := zpk hP hF
      have hP : va_P G.1 zCl ([]) H8 := hP
      have hD : va_D (zA (FM G μ σ) H0) ([]) := hD
      have hH1 : HM G s0 μ σ 0 H8 := hH1.ext0 hE hF
      have hS := hS1
      exact z_iret hC hrt hlk hQ hS ⟨zle (z := 0) rfl (by omega), zle (z := 0) rfl (by omega)⟩ ⟨_, rfl, 0, σ, PoM.same hH1, Or.inl ⟨rfl, rfl, k, c, ⟨by omega, by omega⟩, ⟨by omega, by omega⟩, rfl⟩⟩ dX3_breaks_46
    · refine lv_aload_n hx hb dX3_breaks_22 rfl (lv_at hl 0 rfl) ?_
      refine lv_iconst (v := iI 1) hx hb dX3_breaks_23 rfl ?_
      have hHb := hH1
      refine z_go 0 0 (z_runV (As := [.int (iI 1)]) (rest := []) hC hml hl.1 (m_X3_no hE H5 (hO.ext (zS_F hS) hMo) μ σ 0 1 hHb) (lw_V q1520 q1522 qs29 q67 q1523) rfl nd_X3_no rfl (z_rv hC (ci := 2) rfl hHb.2.2.1.1 rfl) rfl (Nat.le_of_ble_eq_true rfl) ⟨Nat.le_of_ble_eq_true rfl, Nat.le_of_ble_eq_true rfl⟩ ⟨zfit (k := 0) (z := 0) rfl rfl (by omega), zfit (k := 0) (z := 0) rfl rfl (by omega)⟩ dX3_breaks_24) ⟨zad (k := 0) rfl (by omega), zad (k := 0) rfl (by omega)⟩ hS (fun z hz => Or.inl (hz ▸ FM.in hE hh.sep (domM0 0 (by omega)) (by simp [rAm]))) (fun r H9 locs hp hF hS1 => ?_)
      obtain ⟨_, rfl, rfl, hx9⟩ := hp
      have hP : va_P G.1 zCl [] H9 := va_nil
      have hD : va_D (zA (FM G μ σ) H0) [] := va_nilD
      have hP : va_P G.1 zCl ([]) H9 := hP
      have hD : va_D (zA (FM G μ σ) H0) ([]) := hD
      have hS := hS1
      have hH9 : HM G s0 μ σ ((1 : Nat) : Int) H9 := HM.thr hE hHb hF hx9
      exact z_iret hC hrt hlk hQ hS ⟨zle (z := 0) rfl (by omega), zle (z := 0) rfl (by omega)⟩ ⟨_, rfl, 1, σ, PoM.same hH9, Or.inr ⟨by decide, rfl, by decide, Or.inr ⟨rfl, ⟨by omega, by omega⟩, fun z9 => by have z9 : 0 ≤ u ∧ u < 4 := z9; have h9 := hfl2.2.mpr ⟨z9.1, by omega⟩; omega⟩⟩⟩ dX3_breaks_27

abbrev rm_m_X3_sign : Room := { frames := 3, cells := 0, slots := 0, locals := 64 }
set_option maxHeartbeats 4000000 in
theorem m_X3_sign {l : Launch} {s0 : State} {G : zG} (hE : zE l s0 G) (H0 : Heap) (hO : zO s0 H0) (μ : Ro → Nat) (σ : St) (th : Int) (i u v : Int) (hh : HM G s0 μ σ th H0) (hi : zi i ∧ zi u ∧ zi v) : zM l s0 yX3_sign cX3_sign 4 (some FieldType.int) rm_m_X3_sign [.ref (μ (0, 0, 0)), .int (iI i), .int (iI u), .int (iI v)] H0 (FM G μ σ) (HPM G s0 H0 μ σ [IOB] ((fun y σ' => σ' = σ ∧ (∃ k a b : Nat, (i = k ∧ k < St_na σ) ∧ (u = a ∧ a < St_n σ k) ∧ (v = b ∧ b < St_n σ k) ∧ y = St_sg σ k a b))) ((fun E => X1a σ i ((0 ≤ u ∧ u < (St_n σ i.toNat : Nat)) ∧ (0 ≤ v ∧ v < (St_n σ i.toNat : Nat))) E))) := by
  refine z_met hE (by decide +kernel) (Nat.le_of_ble_eq_true rfl) ?_
  intro pp ee ss mm args below meth cd Q ls hC hml hrt hlk hnm hH hQ hS hl
  have hx := hC.x
  have hb := hC.b
  have hl : lv_has ls 4 [(0, .ref (μ (0, 0, 0))), (1, .int (iI i)), (2, .int (iI u)), (3, .int (iI v))] := hl
  have hP : va_P G.1 zCl [] H0 := va_nil
  have hD : va_D (zA (FM G μ σ) H0) [] := va_nilD
  have hMo : ∀ z, (FM G μ σ) z → s0.heap.size ≤ z := fun z hz => FM.ge hh.sep hz
  have hH1 := hh
  obtain ⟨hp, hna, hal, hne9, hel9, hmr9⟩ := id hh.ok
  have hp7 : 0 < St_p σ ∧ St_p σ ≤ 7 := by rcases hp with h | h | h <;> rw [h] <;> decide
  have hP : va_P G.1 zCl [((μ (0, 0, 0)), zOb 2 [.int (iI th), .int (iI (St_p σ)), .int (iI ((St_kn σ : Nat) : Int)), .ref (μ (1, 0, 0)), .ref (μ (3, 0, 0))])] H0 := zP1 hh.2.2.1.1
  have hD : va_D (zA (FM G μ σ) H0) [((μ (0, 0, 0)), zOb 2 [.int (iI th), .int (iI (St_p σ)), .int (iI ((St_kn σ : Nat) : Int)), .ref (μ (1, 0, 0)), .ref (μ (3, 0, 0))])] := zD1 (Or.inl (FM.in hE hh.sep (domM0 0 (by omega)) (by simp [rAm])))
  refine lv_aload_n hx hb dX3_sign_0 rfl (lv_at hl 0 rfl) ?_
  refine lv_iconst (v := iI 0) hx hb dX3_sign_1 rfl ?_
  refine z_putO hC hP hD hS 0 (k := 0) rfl rfl in_X3 tyX3_ok nmX3 (by decide) q1495 (fun _ h => h) rfl rfl rfl rfl (Nat.le_of_ble_eq_true rfl) (ws' := [((μ (0, 0, 0)), zOb 2 [.int (iI 0), .int (iI (St_p σ)), .int (iI ((St_kn σ : Nat) : Int)), .ref (μ (1, 0, 0)), .ref (μ (3, 0, 0))])]) rfl dX3_sign_2 (fun H1 locs hP hD hS hZ1 hZ2 => ?_)
  have hH1 : HM G s0 μ σ 0 H1 := HM.thr hE hH1 (zF.one hZ1 hZ2) (hP 0 _ rfl)
  have hP : va_P G.1 zCl [] H1 := va_nil
  have hD : va_D (zA (FM G μ σ) H0) [] := va_nilD
  refine lv_aload_n hx hb dX3_sign_5 rfl (lv_at hl 0 rfl) ?_
  refine lv_iload_n hx hb dX3_sign_6 rfl (lv_at hl 1 rfl) ?_
  refine z_go 0 0 (z_runV (As := [.int (iI i)]) (rest := []) hC hml hl.1 (m_X3_isAlgebra hE H1 (hO.ext (zS_F hS) hMo) μ σ 0 i hH1 hi.1) (lw_V q1583 q1585 qs30 q67 q1586) rfl nd_X3_isAlgebra rfl (z_rv hC (ci := 2) rfl hH1.2.2.1.1 rfl) rfl (Nat.le_of_ble_eq_true rfl) ⟨Nat.le_of_ble_eq_true rfl, Nat.le_of_ble_eq_true rfl⟩ ⟨zfit (k := 0) (z := 0) rfl rfl (by omega), zfit (k := 0) (z := 0) rfl rfl (by omega)⟩ dX3_sign_7) ⟨zad (k := 0) rfl (by omega), zad (k := 0) rfl (by omega)⟩ hS (fun _ z => z.elim) (fun r H2 locs hp hF hS1 => ?_)
  obtain ⟨_, rfl, rfl⟩ := hp
  have hP := zpk hP hF
  have hP : va_P G.1 zCl ([]) H2 := hP
  have hD : va_D (zA (FM G μ σ) H0) ([]) := hD
  have hH1 : HM G s0 μ σ 0 H2 := hH1.ext0 hE hF
  have hS := hS1
  obtain ⟨fl, hfl, hfl2⟩ : ∃ fl : Nat, fl ≤ 1 ∧ (if 0 ≤ i ∧ i < (((St_na σ) : Nat) : Int) then (1 : Int) else 0) = fl ∧ (fl = 1 ↔ 0 ≤ i ∧ i < (((St_na σ) : Nat) : Int)) := by by_cases h : 0 ≤ i ∧ i < (((St_na σ) : Nat) : Int); exact ⟨1, by decide, by rw [if_pos h]; rfl, ⟨fun _ => h, fun _ => rfl⟩⟩; exact ⟨0, by decide, by rw [if_neg h]; rfl, ⟨fun z => absurd z (by decide), fun z => absurd z h⟩⟩
  refine z_top (b := ((fl : Nat) : Int)) (hfl2.1) ?_
  refine z_zeq (tgt := 65) hx hb dX3_sign_10 (by decide) (by omega) (fun c3 => ?_) (fun c3 => ?_)
  · refine lv_aload_n hx hb dX3_sign_65 rfl (lv_at hl 0 rfl) ?_
    refine lv_iconst (v := iI 1) hx hb dX3_sign_66 rfl ?_
    have hHb := hH1
    refine z_go 0 0 (z_runV (As := [.int (iI 1)]) (rest := []) hC hml hl.1 (m_X3_no hE H2 (hO.ext (zS_F hS) hMo) μ σ 0 1 hHb) (lw_V q1520 q1522 qs29 q67 q1523) rfl nd_X3_no rfl (z_rv hC (ci := 2) rfl hHb.2.2.1.1 rfl) rfl (Nat.le_of_ble_eq_true rfl) ⟨Nat.le_of_ble_eq_true rfl, Nat.le_of_ble_eq_true rfl⟩ ⟨zfit (k := 0) (z := 0) rfl rfl (by omega), zfit (k := 0) (z := 0) rfl rfl (by omega)⟩ dX3_sign_67) ⟨zad (k := 0) rfl (by omega), zad (k := 0) rfl (by omega)⟩ hS (fun z hz => Or.inl (hz ▸ FM.in hE hh.sep (domM0 0 (by omega)) (by simp [rAm]))) (fun r H4 locs hp hF hS1 => ?_)
    obtain ⟨_, rfl, rfl, hx9⟩ := hp
    have hP : va_P G.1 zCl [] H4 := va_nil
    have hD : va_D (zA (FM G μ σ) H0) [] := va_nilD
    have hP : va_P G.1 zCl ([]) H4 := hP
    have hD : va_D (zA (FM G μ σ) H0) ([]) := hD
    have hS := hS1
    have hH9 : HM G s0 μ σ ((1 : Nat) : Int) H4 := HM.thr hE hHb hF hx9
    exact z_iret hC hrt hlk hQ hS ⟨zle (z := 0) rfl (by omega), zle (z := 0) rfl (by omega)⟩ ⟨_, rfl, 1, σ, PoM.same hH9, Or.inr ⟨by decide, rfl, by decide, Or.inl ⟨rfl, fun z9 => by have h9 := hfl2.2.mpr z9; omega⟩⟩⟩ dX3_sign_70
  · have hok9 := hfl2.2.mp (by omega)
    obtain ⟨k, rfl⟩ : ∃ k : Nat, i = k := ⟨i.toNat, by omega⟩
    have hk9 : k < St_na σ := by omega
    have hxx := hH1.2.2.1.1
    refine lv_iload_n hx hb dX3_sign_13 rfl (lv_at hl 2 rfl) ?_
    refine lv_iconst (v := iI 0) hx hb dX3_sign_14 rfl ?_
    refine lv_aload_n hx hb dX3_sign_15 rfl (lv_at hl 0 rfl) ?_
    refine z_get hC (k := 3) rfl in_X3 hxx (by decide) q1499 (fun _ h => h) rfl dX3_sign_16 ?_
    refine lv_iload_n hx hb dX3_sign_19 rfl (lv_at hl 1 rfl) ?_
    obtain ⟨mda, hLa⟩ := id hH1.2.2.1.2.1
    refine z_go5 0 0 (z_runF (n := 1) (As := [.int (iI ((k : Nat) : Int))]) (rest := [.int (iI 0), .int (iI u)]) (ci := 8) hC hml hl.1 (m_J2_get hE H2 (hO.ext (zS_F hS) hMo) (μ (1, 0, 0)) (St_na σ) (fun k => μ (6, k, 0)) (μ (2, 0, 0)) mda k hLa (by omega)) q375 q1588 q1591 q373 q65 q1590 q1589 q1593 q1592 q1528 ⟨by decide +kernel, by decide +kernel, by decide +kernel⟩ rfl rfl rfl (z_rv hC (ci := 8) rfl hLa.1 rfl) rfl (Nat.le_of_ble_eq_true rfl) ⟨Nat.le_of_ble_eq_true rfl, Nat.le_of_ble_eq_true rfl⟩ ⟨zfit (k := 0) (z := 0) rfl rfl (by omega), zfit (k := 0) (z := 0) rfl rfl (by omega)⟩ dX3_sign_20) ⟨zad (k := 0) rfl (by omega), zad (k := 0) rfl (by omega)⟩ hS (fun _ z => z.elim) (fun r H5 locs hp hF hS1 => ?_)
    obtain ⟨_, rfl, rfl⟩ := hp
    have hP := zpk hP hF
    have hP : va_P G.1 zCl ([]) H5 := hP
    have hD : va_D (zA (FM G μ σ) H0) ([]) := hD
    have hH1 : HM G s0 μ σ 0 H5 := hH1.ext0 hE hF
    have hS := hS1
    have hAk := hH1.al (k := k) (by omega)
    have hn16k := hH1.n (k := k) (by omega)
    refine z_cast hC (ci := 5) rfl hAk.1 rfl q1539 dX3_sign_25 ?_
    have hUk := hH1.al (k := k) (by omega)
    refine z_go 0 0 (z_runV (As := []) (rest := [.int (iI 0), .int (iI u)]) hC hml hl.1 (m_X6_units hE H5 (hO.ext (zS_F hS) hMo) (μ (6, k, 0)) (μ (7, k, 0)) (μ (11, k, 0)) (μ (9, k, 0)) (μ (0, 0, 0)) (St_kd σ k) (St_d σ k) hUk.1 (hal k (by omega)).2.1) (lw_V q1627 q1604 q1605 q82 q1606) rfl nd_X6_units rfl (z_rv hC (ci := 5) rfl hUk.1 rfl) rfl (Nat.le_of_ble_eq_true rfl) ⟨Nat.le_of_ble_eq_true rfl, Nat.le_of_ble_eq_true rfl⟩ ⟨zfit (k := 0) (z := 0) rfl rfl (by omega), zfit (k := 0) (z := 0) rfl rfl (by omega)⟩ dX3_sign_28) ⟨zad (k := 0) rfl (by omega), zad (k := 0) rfl (by omega)⟩ hS (fun _ z => z.elim) (fun r H6 locs hp hF hS1 => ?_)
    obtain ⟨_, rfl, rfl⟩ := hp
    have hP := zpk hP hF
    have hP : va_P G.1 zCl ([]) H6 := hP
    have hD : va_D (zA (FM G μ σ) H0) ([]) := hD
    have hH1 : HM G s0 μ σ 0 H6 := hH1.ext0 hE hF
    have hS := hS1
    refine lv_iconst (v := iI 1) hx hb dX3_sign_31 rfl ?_
    refine z_sub hx hb (z := ((St_n σ k : Nat) : Int) - 1) dX3_sign_32 rfl ?_
    refine z_go 0 0 (z_runS (As := [.int (iI u), .int (iI 0), .int (iI (((St_n σ k : Nat) : Int) - 1))]) (rest := []) hC hml hl.1 (m_X3_in hE H6 (hO.ext (zS_F hS) hMo) (0) ((((St_n σ k : Nat) : Int) - 1)) (u) ⟨by omega, by omega, by omega⟩) (lw_S q1536 q1537 q67 q1538) nd_X3_in rfl rfl (Nat.le_of_ble_eq_true rfl) ⟨Nat.le_of_ble_eq_true rfl, Nat.le_of_ble_eq_true rfl⟩ ⟨zfit (k := 0) (z := 0) rfl rfl (by omega), zfit (k := 0) (z := 0) rfl rfl (by omega)⟩ dX3_sign_33) ⟨zad (k := 0) rfl (by omega), zad (k := 0) rfl (by omega)⟩ hS (fun _ z => z.elim) (fun r H7 locs hp hF hS1 => ?_)
    obtain ⟨_, rfl, rfl⟩ := hp
    have hP := zpk hP hF
    have hP : va_P G.1 zCl ([]) H7 := hP
    have hD : va_D (zA (FM G μ σ) H0) ([]) := hD
    have hH1 : HM G s0 μ σ 0 H7 := hH1.ext0 hE hF
    have hS := hS1
    obtain ⟨fl, hfl, hfl2⟩ : ∃ fl : Nat, fl ≤ 1 ∧ (if 0 ≤ u ∧ u ≤ (((St_n σ k : Nat) : Int) - 1) then (1 : Int) else 0) = fl ∧ (fl = 1 ↔ 0 ≤ u ∧ u ≤ (((St_n σ k : Nat) : Int) - 1)) := by by_cases h : 0 ≤ u ∧ u ≤ (((St_n σ k : Nat) : Int) - 1); exact ⟨1, by decide, by rw [if_pos h]; rfl, ⟨fun _ => h, fun _ => rfl⟩⟩; exact ⟨0, by decide, by rw [if_neg h]; rfl, ⟨fun z => absurd z (by decide), fun z => absurd z h⟩⟩
    refine z_top (b := ((fl : Nat) : Int)) (hfl2.1) ?_
    refine z_zeq (tgt := 65) hx hb dX3_sign_36 (by decide) (by omega) (fun c8 => ?_) (fun c8 => ?_)
    · refine lv_aload_n hx hb dX3_sign_65 rfl (lv_at hl 0 rfl) ?_
      refine lv_iconst (v := iI 1) hx hb dX3_sign_66 rfl ?_
      have hHb := hH1
      refine z_go 0 0 (z_runV (As := [.int (iI 1)]) (rest := []) hC hml hl.1 (m_X3_no hE H7 (hO.ext (zS_F hS) hMo) μ σ 0 1 hHb) (lw_V q1520 q1522 qs29 q67 q1523) rfl nd_X3_no rfl (z_rv hC (ci := 2) rfl hHb.2.2.1.1 rfl) rfl (Nat.le_of_ble_eq_true rfl) ⟨Nat.le_of_ble_eq_true rfl, Nat.le_of_ble_eq_true rfl⟩ ⟨zfit (k := 0) (z := 0) rfl rfl (by omega), zfit (k := 0) (z := 0) rfl rfl (by omega)⟩ dX3_sign_67) ⟨zad (k := 0) rfl (by omega), zad (k := 0) rfl (by omega)⟩ hS (fun z hz => Or.inl (hz ▸ FM.in hE hh.sep (domM0 0 (by omega)) (by simp [rAm]))) (fun r H9 locs hp hF hS1 => ?_)
      obtain ⟨_, rfl, rfl, hx9⟩ := hp
      have hP : va_P G.1 zCl [] H9 := va_nil
      have hD : va_D (zA (FM G μ σ) H0) [] := va_nilD
      have hP : va_P G.1 zCl ([]) H9 := hP
      have hD : va_D (zA (FM G μ σ) H0) ([]) := hD
      have hS := hS1
      have hH9 : HM G s0 μ σ ((1 : Nat) : Int) H9 := HM.thr hE hHb hF hx9
      exact z_iret hC hrt hlk hQ hS ⟨zle (z := 0) rfl (by omega), zle (z := 0) rfl (by omega)⟩ ⟨_, rfl, 1, σ, PoM.same hH9, Or.inr ⟨by decide, rfl, by decide, Or.inr ⟨rfl, ⟨by omega, by omega⟩, fun z9 => by have z9 : (0 ≤ u ∧ u < (St_n σ k : Nat)) ∧ (0 ≤ v ∧ v < (St_n σ k : Nat)) := z9; have h9 := hfl2.2.mpr ⟨z9.1.1, by have := z9.1.2; omega⟩; omega⟩⟩⟩ dX3_sign_70
    · have hrg : 0 ≤ u ∧ u ≤ (((St_n σ k : Nat) : Int) - 1) := hfl2.2.mp (by omega)
      have hrg1 := hrg
      have hxx := hH1.2.2.1.1
      refine lv_iload_n hx hb dX3_sign_39 rfl (lv_at hl 3 rfl) ?_
      refine lv_iconst (v := iI 0) hx hb dX3_sign_40 rfl ?_
      refine lv_aload_n hx hb dX3_sign_41 rfl (lv_at hl 0 rfl) ?_
      refine z_get hC (k := 3) rfl in_X3 hxx (by decide) q1499 (fun _ h => h) rfl dX3_sign_42 ?_
      refine lv_iload_n hx hb dX3_sign_45 rfl (lv_at hl 1 rfl) ?_
      obtain ⟨mda, hLa⟩ := id hH1.2.2.1.2.1
      refine z_go5 0 0 (z_runF (n := 1) (As := [.int (iI ((k : Nat) : Int))]) (rest := [.int (iI 0), .int (iI v)]) (ci := 8) hC hml hl.1 (m_J2_get hE H7 (hO.ext (zS_F hS) hMo) (μ (1, 0, 0)) (St_na σ) (fun k => μ (6, k, 0)) (μ (2, 0, 0)) mda k hLa (by omega)) q375 q1588 q1591 q373 q65 q1590 q1589 q1593 q1592 q1528 ⟨by decide +kernel, by decide +kernel, by decide +kernel⟩ rfl rfl rfl (z_rv hC (ci := 8) rfl hLa.1 rfl) rfl (Nat.le_of_ble_eq_true rfl) ⟨Nat.le_of_ble_eq_true rfl, Nat.le_of_ble_eq_true rfl⟩ ⟨zfit (k := 0) (z := 0) rfl rfl (by omega), zfit (k := 0) (z := 0) rfl rfl (by omega)⟩ dX3_sign_46) ⟨zad (k := 0) rfl (by omega), zad (k := 0) rfl (by omega)⟩ hS (fun _ z => z.elim) (fun r H10 locs hp hF hS1 => ?_)
      obtain ⟨_, rfl, rfl⟩ := hp
      have hP := zpk hP hF
      have hP : va_P G.1 zCl ([]) H10 := hP
      have hD : va_D (zA (FM G μ σ) H0) ([]) := hD
      have hH1 : HM G s0 μ σ 0 H10 := hH1.ext0 hE hF
      have hS := hS1
      have hAk := hH1.al (k := k) (by omega)
      have hn16k := hH1.n (k := k) (by omega)
      refine z_cast hC (ci := 5) rfl hAk.1 rfl q1539 dX3_sign_51 ?_
      have hUk := hH1.al (k := k) (by omega)
      refine z_go 0 0 (z_runV (As := []) (rest := [.int (iI 0), .int (iI v)]) hC hml hl.1 (m_X6_units hE H10 (hO.ext (zS_F hS) hMo) (μ (6, k, 0)) (μ (7, k, 0)) (μ (11, k, 0)) (μ (9, k, 0)) (μ (0, 0, 0)) (St_kd σ k) (St_d σ k) hUk.1 (hal k (by omega)).2.1) (lw_V q1627 q1604 q1605 q82 q1606) rfl nd_X6_units rfl (z_rv hC (ci := 5) rfl hUk.1 rfl) rfl (Nat.le_of_ble_eq_true rfl) ⟨Nat.le_of_ble_eq_true rfl, Nat.le_of_ble_eq_true rfl⟩ ⟨zfit (k := 0) (z := 0) rfl rfl (by omega), zfit (k := 0) (z := 0) rfl rfl (by omega)⟩ dX3_sign_54) ⟨zad (k := 0) rfl (by omega), zad (k := 0) rfl (by omega)⟩ hS (fun _ z => z.elim) (fun r H11 locs hp hF hS1 => ?_)
      obtain ⟨_, rfl, rfl⟩ := hp
      have hP := zpk hP hF
      have hP : va_P G.1 zCl ([]) H11 := hP
      have hD : va_D (zA (FM G μ σ) H0) ([]) := hD
      have hH1 : HM G s0 μ σ 0 H11 := hH1.ext0 hE hF
      have hS := hS1
      refine lv_iconst (v := iI 1) hx hb dX3_sign_57 rfl ?_
      refine z_sub hx hb (z := ((St_n σ k : Nat) : Int) - 1) dX3_sign_58 rfl ?_
      refine z_go 0 0 (z_runS (As := [.int (iI v), .int (iI 0), .int (iI (((St_n σ k : Nat) : Int) - 1))]) (rest := []) hC hml hl.1 (m_X3_in hE H11 (hO.ext (zS_F hS) hMo) (0) ((((St_n σ k : Nat) : Int) - 1)) (v) ⟨by omega, by omega, by omega⟩) (lw_S q1536 q1537 q67 q1538) nd_X3_in rfl rfl (Nat.le_of_ble_eq_true rfl) ⟨Nat.le_of_ble_eq_true rfl, Nat.le_of_ble_eq_true rfl⟩ ⟨zfit (k := 0) (z := 0) rfl rfl (by omega), zfit (k := 0) (z := 0) rfl rfl (by omega)⟩ dX3_sign_59) ⟨zad (k := 0) rfl (by omega), zad (k := 0) rfl (by omega)⟩ hS (fun _ z => z.elim) (fun r H12 locs hp hF hS1 => ?_)
      obtain ⟨_, rfl, rfl⟩ := hp
      have hP := zpk hP hF
      have hP : va_P G.1 zCl ([]) H12 := hP
      have hD : va_D (zA (FM G μ σ) H0) ([]) := hD
      have hH1 : HM G s0 μ σ 0 H12 := hH1.ext0 hE hF
      have hS := hS1
      obtain ⟨fl, hfl, hfl2⟩ : ∃ fl : Nat, fl ≤ 1 ∧ (if 0 ≤ v ∧ v ≤ (((St_n σ k : Nat) : Int) - 1) then (1 : Int) else 0) = fl ∧ (fl = 1 ↔ 0 ≤ v ∧ v ≤ (((St_n σ k : Nat) : Int) - 1)) := by by_cases h : 0 ≤ v ∧ v ≤ (((St_n σ k : Nat) : Int) - 1); exact ⟨1, by decide, by rw [if_pos h]; rfl, ⟨fun _ => h, fun _ => rfl⟩⟩; exact ⟨0, by decide, by rw [if_neg h]; rfl, ⟨fun z => absurd z (by decide), fun z => absurd z h⟩⟩
      refine z_top (b := ((fl : Nat) : Int)) (hfl2.1) ?_
      refine z_zne (tgt := 71) hx hb dX3_sign_62 (by decide) (by omega) (fun c13 => ?_) (fun c13 => ?_)
      · have hrg : 0 ≤ v ∧ v ≤ (((St_n σ k : Nat) : Int) - 1) := hfl2.2.mp (by omega)
        obtain ⟨a, rfl⟩ : ∃ a : Nat, u = a := ⟨u.toNat, by omega⟩
        obtain ⟨b, rfl⟩ : ∃ b : Nat, v = b := ⟨v.toNat, by omega⟩
        have hxx := hH1.2.2.1.1
        refine lv_aload_n hx hb dX3_sign_71 rfl (lv_at hl 0 rfl) ?_
        refine z_get hC (k := 3) rfl in_X3 hxx (by decide) q1499 (fun _ h => h) rfl dX3_sign_72 ?_
        refine lv_iload_n hx hb dX3_sign_75 rfl (lv_at hl 1 rfl) ?_
        obtain ⟨mda, hLa⟩ := id hH1.2.2.1.2.1
        refine z_go5 0 0 (z_runF (n := 1) (As := [.int (iI ((k : Nat) : Int))]) (rest := []) (ci := 8) hC hml hl.1 (m_J2_get hE H12 (hO.ext (zS_F hS) hMo) (μ (1, 0, 0)) (St_na σ) (fun k => μ (6, k, 0)) (μ (2, 0, 0)) mda k hLa (by omega)) q375 q1588 q1591 q373 q65 q1590 q1589 q1593 q1592 q1528 ⟨by decide +kernel, by decide +kernel, by decide +kernel⟩ rfl rfl rfl (z_rv hC (ci := 8) rfl hLa.1 rfl) rfl (Nat.le_of_ble_eq_true rfl) ⟨Nat.le_of_ble_eq_true rfl, Nat.le_of_ble_eq_true rfl⟩ ⟨zfit (k := 0) (z := 0) rfl rfl (by omega), zfit (k := 0) (z := 0) rfl rfl (by omega)⟩ dX3_sign_76) ⟨zad (k := 0) rfl (by omega), zad (k := 0) rfl (by omega)⟩ hS (fun _ z => z.elim) (fun r H14 locs hp hF hS1 => ?_)
        obtain ⟨_, rfl, rfl⟩ := hp
        have hP := zpk hP hF
        have hP : va_P G.1 zCl ([]) H14 := hP
        have hD : va_D (zA (FM G μ σ) H0) ([]) := hD
        have hH1 : HM G s0 μ σ 0 H14 := hH1.ext0 hE hF
        have hS := hS1
        have hAk := hH1.al (k := k) (by omega)
        have hn16k := hH1.n (k := k) (by omega)
        have haa : a < St_n σ k := by omega
        refine z_cast hC (ci := 5) rfl hAk.1 rfl q1539 dX3_sign_81 ?_
        refine z_get hC (k := 2) rfl in_X6 hAk.1 (by decide) q1553 (fun _ h => h) rfl dX3_sign_84 ?_
        refine lv_iload_n hx hb dX3_sign_87 rfl (lv_at hl 2 rfl) ?_
        refine z_aald hC hAk.2.2.2.1 (k := a) rfl (by omega) (q := (μ (12, k, a))) rfl dX3_sign_88 ?_
        refine lv_iload_n hx hb dX3_sign_89 rfl (lv_at hl 3 rfl) ?_
        refine z_iald hC (hAk.2.2.2.2.1 a (by first | assumption | omega)) (k := b) rfl (by omega) (y := (St_sg σ k a) b) rfl dX3_sign_90 ?_
        exact z_iret hC hrt hlk hQ hS ⟨zle (z := 0) rfl (by omega), zle (z := 0) rfl (by omega)⟩ ⟨_, rfl, 0, σ, PoM.same hH1, Or.inl ⟨rfl, rfl, k, a, b, ⟨by omega, by omega⟩, ⟨by omega, by omega⟩, ⟨by omega, by omega⟩, rfl⟩⟩ dX3_sign_91
      · refine lv_aload_n hx hb dX3_sign_65 rfl (lv_at hl 0 rfl) ?_
        refine lv_iconst (v := iI 1) hx hb dX3_sign_66 rfl ?_
        have hHb := hH1
        refine z_go 0 0 (z_runV (As := [.int (iI 1)]) (rest := []) hC hml hl.1 (m_X3_no hE H12 (hO.ext (zS_F hS) hMo) μ σ 0 1 hHb) (lw_V q1520 q1522 qs29 q67 q1523) rfl nd_X3_no rfl (z_rv hC (ci := 2) rfl hHb.2.2.1.1 rfl) rfl (Nat.le_of_ble_eq_true rfl) ⟨Nat.le_of_ble_eq_true rfl, Nat.le_of_ble_eq_true rfl⟩ ⟨zfit (k := 0) (z := 0) rfl rfl (by omega), zfit (k := 0) (z := 0) rfl rfl (by omega)⟩ dX3_sign_67) ⟨zad (k := 0) rfl (by omega), zad (k := 0) rfl (by omega)⟩ hS (fun z hz => Or.inl (hz ▸ FM.in hE hh.sep (domM0 0 (by omega)) (by simp [rAm]))) (fun r H15 locs hp hF hS1 => ?_)
        obtain ⟨_, rfl, rfl, hx9⟩ := hp
        have hP : va_P G.1 zCl [] H15 := va_nil
        have hD : va_D (zA (FM G μ σ) H0) [] := va_nilD
        have hP : va_P G.1 zCl ([]) H15 := hP
        have hD : va_D (zA (FM G μ σ) H0) ([]) := hD
        have hS := hS1
        have hH9 : HM G s0 μ σ ((1 : Nat) : Int) H15 := HM.thr hE hHb hF hx9
        exact z_iret hC hrt hlk hQ hS ⟨zle (z := 0) rfl (by omega), zle (z := 0) rfl (by omega)⟩ ⟨_, rfl, 1, σ, PoM.same hH9, Or.inr ⟨by decide, rfl, by decide, Or.inr ⟨rfl, ⟨by omega, by omega⟩, fun z9 => by have z9 : (0 ≤ u ∧ u < (St_n σ k : Nat)) ∧ (0 ≤ v ∧ v < (St_n σ k : Nat)) := z9; have h9 := hfl2.2.mpr ⟨z9.2.1, by have := z9.2.2; omega⟩; omega⟩⟩⟩ dX3_sign_70

theorem rw_hit {P : Nat → Bool} {f k : Nat} (h : P k = true) (hf : 0 < f) : fst P f k = k := fst_hit h hf
abbrev rm_m_X3_rowNow : Room := { frames := 2, cells := 0, slots := 0, locals := 45 }
set_option maxHeartbeats 4000000 in
theorem m_X3_rowNow {l : Launch} {s0 : State} {G : zG} (hE : zE l s0 G) (H0 : Heap) (hO : zO s0 H0) (μ : Ro → Nat) (σ : St) (th : Int) (k : Nat) (z : Int) (hh : HM G s0 μ σ th H0) (hk : k < St_na σ) (hz : 0 ≤ z ∧ z < St_p σ) : zM l s0 yX3_rowNow cX3_rowNow 5 (some FieldType.int) rm_m_X3_rowNow [.ref (μ (0, 0, 0)), .ref (μ (6, k, 0)), .int (iI z)] H0 M0 (ri (fun y _ => y = rwV (St_p σ) (St_d σ k) (St_dv σ k) z)) := by
  refine z_met hE (by decide +kernel) (Nat.le_of_ble_eq_true rfl) ?_
  intro pp ee ss mm args below meth cd Q ls hC hml hrt hlk hnm hH hQ hS hl
  have hx := hC.x
  have hb := hC.b
  have hl : lv_has ls 5 [(0, .ref (μ (0, 0, 0))), (1, .ref (μ (6, k, 0))), (2, .int (iI z))] := hl
  have hP : va_P G.1 zCl [] H0 := va_nil
  have hD : va_D (zA M0 H0) [] := va_nilD
  have hH1 := hh
  obtain ⟨hp, hna, hal, hne9, hel9, hmr9⟩ := id hh.ok
  have hp7 : 0 < St_p σ ∧ St_p σ ≤ 7 := by rcases hp with h | h | h <;> rw [h] <;> decide
  have hnn := hh.n hk
  have hdk := hal k hk
  have hpd := fun c hc => pw_in hp c hc
  refine lv_iconst (v := iI 1) hx hb dX3_rowNow_0 rfl ?_
  refine lv_istore_n (lv' := [(3, .int (iI 1)), (0, .ref (μ (0, 0, 0))), (1, .ref (μ (6, k, 0))), (2, .int (iI z))]) hx hb dX3_rowNow_1 rfl hl (by decide) rfl (fun ls hl => ?_)
  refine lv_iconst (v := iI 0) hx hb dX3_rowNow_2 rfl ?_
  refine lv_istore (lv' := [(4, .int (iI 0)), (3, .int (iI 1)), (0, .ref (μ (0, 0, 0))), (1, .ref (μ (6, k, 0))), (2, .int (iI z))]) hx hb dX3_rowNow_3 hl (by decide) rfl (fun ls hl => ?_)
  rw [show iI 1 = iI (St_p σ ^ 0) by rw [Int.pow_zero]] at hl
  have lp1 : ∀ (dlp1 : Nat) (c : Nat), St_d σ k - c = dlp1 → (c ≤ St_d σ k) → ∀ (H2 : Heap) (locs : List Loc) (ls : Array Slot), va_P G.1 zCl ([]) H2 → va_D (zA M0 H0) ([]) → va_S (zA M0 H0) H0 H2 locs → lv_has ls 5 [(4, .int (iI ((c : Nat) : Int))), (3, .int (iI (St_p σ ^ c))), (0, .ref (μ (0, 0, 0))), (1, .ref (μ (6, k, 0))), (2, .int (iI z))] → W pp l ee rm_m_X3_rowNow ss mm args below meth cd H2 locs 0 0 Q (F0 mm 5 ls []) := by
    intro dlp1
    induction dlp1 using Nat.strongRecOn with
    | ind dlp1 ihlp1 =>
      intro c hdlp1 hc H2 locs ls  hP hD hS hl
      have hH1 : HM G s0 μ σ th H2 := hh.ext0 hE (zS_F hS)
      have hAk := hH1.al (k := k) hk
      have hn16k := hH1.n (k := k) hk
      refine lv_iload hx hb dX3_rowNow_5 (lv_at hl 0 rfl) ?_
      refine lv_aload_n hx hb dX3_rowNow_7 rfl (lv_at hl 3 rfl) ?_
      refine z_get hC (k := 3) rfl in_X6 hAk.1 (by decide) q1555 (fun _ h => h) rfl dX3_rowNow_8 ?_
      refine z_cge (tgt := 27) hx hb dX3_rowNow_11 (by decide) (by omega) (fun c3 => ?_) (fun c3 => ?_)
      · have ec : c = St_d σ k := by omega
        obtain ⟨all9, hall⟩ : ∃ all9 : Nat, St_p σ ^ c = (all9 : Int) := ⟨(St_p σ ^ c).toNat, by have := hpd c (by omega); omega⟩
        have hpc := hpd c (by omega)
        rw [hall] at hl hpc
        obtain ⟨T9, hT9⟩ : ∃ a : Int, a = rwV (St_p σ) (St_d σ k) (St_dv σ k) z := ⟨_, rfl⟩
        have hT0 : fst (fun row => fmV (St_p σ) (St_dv σ k) (St_d σ k) row % St_p σ == z) (all9 - 1) 1 = T9 := by rw [hT9]; unfold rwV; rw [← ec, hall]; rfl
        rw [← hT9] at hQ
        refine lv_iconst (v := iI 1) hx hb dX3_rowNow_27 rfl ?_
        refine lv_istore (lv' := [(4, .int (iI 1)), (3, .int (iI ((all9 : Nat) : Int))), (0, .ref (μ (0, 0, 0))), (1, .ref (μ (6, k, 0))), (2, .int (iI z))]) hx hb dX3_rowNow_28 hl (by decide) rfl (fun ls hl => ?_)
        have lp4 : ∀ (dlp4 : Nat) (r9 : Nat), all9 - r9 = dlp4 → (1 ≤ r9 ∧ r9 ≤ all9) → (fst (fun row => fmV (St_p σ) (St_dv σ k) (St_d σ k) row % St_p σ == z) (all9 - r9) r9 = T9) → ∀ (H5 : Heap) (locs : List Loc) (ls : Array Slot), va_P G.1 zCl ([]) H5 → va_D (zA M0 H0) ([]) → va_S (zA M0 H0) H0 H5 locs → lv_has ls 5 [(4, .int (iI ((r9 : Nat) : Int))), (3, .int (iI ((all9 : Nat) : Int))), (0, .ref (μ (0, 0, 0))), (1, .ref (μ (6, k, 0))), (2, .int (iI z))] → W pp l ee rm_m_X3_rowNow ss mm args below meth cd H5 locs 0 0 Q (F0 mm 30 ls []) := by
          intro dlp4
          induction dlp4 using Nat.strongRecOn with
          | ind dlp4 ihlp4 =>
            intro r9 hdlp4 hr9 hf H5 locs ls  hP hD hS hl
            refine lv_iload hx hb dX3_rowNow_30 (lv_at hl 0 rfl) ?_
            refine lv_iload_n hx hb dX3_rowNow_32 rfl (lv_at hl 1 rfl) ?_
            refine z_cge (tgt := 55) hx hb dX3_rowNow_33 (by decide) (by omega) (fun c6 => ?_) (fun c6 => ?_)
            · have e0 : all9 - r9 = 0 := by omega
              refine lv_iconst (v := iI (-1)) hx hb dX3_rowNow_55 rfl ?_
              exact z_iret hC hrt hlk hQ hS ⟨zle (z := 0) rfl (by omega), zle (z := 0) rfl (by omega)⟩ ⟨_, rfl, by rw [← hf, e0]; rfl⟩ dX3_rowNow_56
            · refine lv_aload_n hx hb dX3_rowNow_36 rfl (lv_at hl 3 rfl) ?_
              refine lv_iload hx hb dX3_rowNow_37 (lv_at hl 0 rfl) ?_
              have hH1 : HM G s0 μ σ th H5 := hh.ext0 hE (zS_F hS)
              have hAk := hH1.al (k := k) hk
              have hn16k := hH1.n (k := k) hk
              have hH1 : HM G s0 μ σ th H5 := hh.ext0 hE (zS_F hS)
              refine z_go 0 0 (z_runV (As := [.int (iI ((r9 : Nat) : Int))]) (rest := []) hC hml hl.1 (m_X6_form hE H5 (hO.ext0 (zS_F hS)) μ σ th k (r9 : Int) hH1 hk ⟨by omega, by omega⟩) (lw_V q1914 q1915 q1916 q82 q1917) rfl nd_X6_form rfl (z_rv hC (ci := 5) rfl hAk.1 rfl) rfl (Nat.le_of_ble_eq_true rfl) ⟨Nat.le_of_ble_eq_true rfl, Nat.le_of_ble_eq_true rfl⟩ ⟨zfit (k := 0) (z := 0) rfl rfl (by omega), zfit (k := 0) (z := 0) rfl rfl (by omega)⟩ dX3_rowNow_39) ⟨zad (k := 0) rfl (by omega), zad (k := 0) rfl (by omega)⟩ hS (fun _ z => z.elim) (fun r H7 locs hp hF hS1 => ?_)
              obtain ⟨_, rfl, rfl⟩ := hp
              have hP := zpk hP hF
              have hP : va_P G.1 zCl ([]) H7 := hP
              have hD : va_D (zA M0 H0) ([]) := hD
              have hS := hS1
              have hfm := md_in hp (fmV (St_p σ) (St_dv σ k) (St_d σ k) (r9 : Int))
              refine lv_iload_n hx hb dX3_rowNow_42 rfl (lv_at hl 4 rfl) ?_
              refine z_cne (tgt := 49) hx hb dX3_rowNow_43 (by decide) (by omega) (fun c8 => ?_) (fun c8 => ?_)
              · refine z_iinc (z := ((r9 + 1 : Nat) : Int)) (lv' := [(4, .int (iI ((r9 + 1 : Nat) : Int))), (3, .int (iI ((all9 : Nat) : Int))), (0, .ref (μ (0, 0, 0))), (1, .ref (μ (6, k, 0))), (2, .int (iI z))]) hx hb dX3_rowNow_49 hl (k := 0) rfl (by omega) (by decide) rfl (fun ls hl => ?_)
                refine lv_goto (tgt := 30) hx hb dX3_rowNow_52 (by decide) ?_
                exact W.widen (by omega) (by omega) (ihlp4 (all9 - (r9 + 1)) (by omega) (r9 + 1) rfl (by omega) (by rw [← hf, fst_miss (k := r9) (by simp; omega) (by omega), show all9 - (r9 + 1) = all9 - r9 - 1 by omega]) _ _ _  hP hD hS hl)
              · refine lv_iload hx hb dX3_rowNow_46 (lv_at hl 0 rfl) ?_
                exact z_iret hC hrt hlk hQ hS ⟨zle (z := 0) rfl (by omega), zle (z := 0) rfl (by omega)⟩ ⟨_, rfl, by rw [← hf]; exact (fst_hit (by simp; omega) (by omega)).symm⟩ dX3_rowNow_48
        exact W.widen (by omega) (by omega) (lp4 _ 1 rfl (⟨by omega, by omega⟩) hT0 _ _ _  hP hD hS hl)
      · have hp1 := hpd c (by omega)
        have hp2 := hpd (c + 1) (by omega)
        rw [Int.pow_succ] at hp2
        have hH1 : HM G s0 μ σ th H2 := hh.ext0 hE (zS_F hS)
        have hxx := hH1.2.2.1.1
        refine lv_iload_n hx hb dX3_rowNow_14 rfl (lv_at hl 1 rfl) ?_
        refine lv_aload_n hx hb dX3_rowNow_15 rfl (lv_at hl 2 rfl) ?_
        refine z_get hC (k := 1) rfl in_X3 hxx (by decide) q1496 (fun _ h => h) rfl dX3_rowNow_16 ?_
        refine z_mul hx hb (z := (St_p σ ^ c) * (St_p σ)) dX3_rowNow_19 rfl ?_
        refine z_top (b := St_p σ ^ (c + 1)) ((Int.pow_succ _ _).symm) ?_
        refine lv_istore_n (lv' := [(3, .int (iI (St_p σ ^ (c + 1)))), (4, .int (iI ((c : Nat) : Int))), (0, .ref (μ (0, 0, 0))), (1, .ref (μ (6, k, 0))), (2, .int (iI z))]) hx hb dX3_rowNow_20 rfl hl (by decide) rfl (fun ls hl => ?_)
        refine z_iinc (z := ((c + 1 : Nat) : Int)) (lv' := [(4, .int (iI ((c + 1 : Nat) : Int))), (3, .int (iI (St_p σ ^ (c + 1)))), (0, .ref (μ (0, 0, 0))), (1, .ref (μ (6, k, 0))), (2, .int (iI z))]) hx hb dX3_rowNow_21 hl (k := 1) rfl (by omega) (by decide) rfl (fun ls hl => ?_)
        refine lv_goto (tgt := 5) hx hb dX3_rowNow_24 (by decide) ?_
        exact W.widen (by omega) (by omega) (ihlp1 (St_d σ k - (c + 1)) (by omega) (c + 1) rfl (by omega) _ _ _  hP hD hS hl)
  exact W.widen (by omega) (by omega) (lp1 _ 0 rfl (Nat.zero_le _) _ _ _  hP hD hS hl)

abbrev rm_m_X3_row_2 : Room := { frames := 3, cells := 0, slots := 0, locals := 69 }
set_option maxHeartbeats 4000000 in
theorem m_X3_row_2 {l : Launch} {s0 : State} {G : zG} (hE : zE l s0 G) (H0 : Heap) (hO : zO s0 H0) (μ : Ro → Nat) (σ : St) (th : Int) (i z : Int) (hh : HM G s0 μ σ th H0) (hi : zi i ∧ zi z) : zM l s0 yX3_row_2 cX3_row_2 3 (some FieldType.int) rm_m_X3_row_2 [.ref (μ (0, 0, 0)), .int (iI i), .int (iI z)] H0 (FM G μ σ) (HPM G s0 H0 μ σ [IOB, IAE] ((fun y σ' => σ' = σ ∧ (∃ k : Nat, (i = k ∧ k < St_na σ) ∧ (0 ≤ z ∧ z < St_p σ) ∧ y = rwV (St_p σ) (St_d σ k) (St_dv σ k) z))) ((fun E => X1aa σ i (0 ≤ z ∧ z < St_p σ) E))) := by
  refine z_met hE (by decide +kernel) (Nat.le_of_ble_eq_true rfl) ?_
  intro pp ee ss mm args below meth cd Q ls hC hml hrt hlk hnm hH hQ hS hl
  have hx := hC.x
  have hb := hC.b
  have hl : lv_has ls 3 [(0, .ref (μ (0, 0, 0))), (1, .int (iI i)), (2, .int (iI z))] := hl
  have hP : va_P G.1 zCl [] H0 := va_nil
  have hD : va_D (zA (FM G μ σ) H0) [] := va_nilD
  have hMo : ∀ z, (FM G μ σ) z → s0.heap.size ≤ z := fun z hz => FM.ge hh.sep hz
  have hH1 := hh
  obtain ⟨hp, hna, hal, hne9, hel9, hmr9⟩ := id hh.ok
  have hp7 : 0 < St_p σ ∧ St_p σ ≤ 7 := by rcases hp with h | h | h <;> rw [h] <;> decide
  have hP : va_P G.1 zCl [((μ (0, 0, 0)), zOb 2 [.int (iI th), .int (iI (St_p σ)), .int (iI ((St_kn σ : Nat) : Int)), .ref (μ (1, 0, 0)), .ref (μ (3, 0, 0))])] H0 := zP1 hh.2.2.1.1
  have hD : va_D (zA (FM G μ σ) H0) [((μ (0, 0, 0)), zOb 2 [.int (iI th), .int (iI (St_p σ)), .int (iI ((St_kn σ : Nat) : Int)), .ref (μ (1, 0, 0)), .ref (μ (3, 0, 0))])] := zD1 (Or.inl (FM.in hE hh.sep (domM0 0 (by omega)) (by simp [rAm])))
  refine lv_aload_n hx hb dX3_row_2_0 rfl (lv_at hl 0 rfl) ?_
  refine lv_iconst (v := iI 0) hx hb dX3_row_2_1 rfl ?_
  refine z_putO hC hP hD hS 0 (k := 0) rfl rfl in_X3 tyX3_ok nmX3 (by decide) q1495 (fun _ h => h) rfl rfl rfl rfl (Nat.le_of_ble_eq_true rfl) (ws' := [((μ (0, 0, 0)), zOb 2 [.int (iI 0), .int (iI (St_p σ)), .int (iI ((St_kn σ : Nat) : Int)), .ref (μ (1, 0, 0)), .ref (μ (3, 0, 0))])]) rfl dX3_row_2_2 (fun H1 locs hP hD hS hZ1 hZ2 => ?_)
  have hH1 : HM G s0 μ σ 0 H1 := HM.thr hE hH1 (zF.one hZ1 hZ2) (hP 0 _ rfl)
  have hP : va_P G.1 zCl [] H1 := va_nil
  have hD : va_D (zA (FM G μ σ) H0) [] := va_nilD
  refine lv_aload_n hx hb dX3_row_2_5 rfl (lv_at hl 0 rfl) ?_
  refine lv_iload_n hx hb dX3_row_2_6 rfl (lv_at hl 1 rfl) ?_
  refine z_go 0 0 (z_runV (As := [.int (iI i)]) (rest := []) hC hml hl.1 (m_X3_isAlgebra hE H1 (hO.ext (zS_F hS) hMo) μ σ 0 i hH1 hi.1) (lw_V q1583 q1585 qs30 q67 q1586) rfl nd_X3_isAlgebra rfl (z_rv hC (ci := 2) rfl hH1.2.2.1.1 rfl) rfl (Nat.le_of_ble_eq_true rfl) ⟨Nat.le_of_ble_eq_true rfl, Nat.le_of_ble_eq_true rfl⟩ ⟨zfit (k := 0) (z := 0) rfl rfl (by omega), zfit (k := 0) (z := 0) rfl rfl (by omega)⟩ dX3_row_2_7) ⟨zad (k := 0) rfl (by omega), zad (k := 0) rfl (by omega)⟩ hS (fun _ z => z.elim) (fun r H2 locs hp hF hS1 => ?_)
  obtain ⟨_, rfl, rfl⟩ := hp
  have hP := zpk hP hF
  have hP : va_P G.1 zCl ([]) H2 := hP
  have hD : va_D (zA (FM G μ σ) H0) ([]) := hD
  have hH1 : HM G s0 μ σ 0 H2 := hH1.ext0 hE hF
  have hS := hS1
  obtain ⟨fl, hfl, hfl2⟩ : ∃ fl : Nat, fl ≤ 1 ∧ (if 0 ≤ i ∧ i < (((St_na σ) : Nat) : Int) then (1 : Int) else 0) = fl ∧ (fl = 1 ↔ 0 ≤ i ∧ i < (((St_na σ) : Nat) : Int)) := by by_cases h : 0 ≤ i ∧ i < (((St_na σ) : Nat) : Int); exact ⟨1, by decide, by rw [if_pos h]; rfl, ⟨fun _ => h, fun _ => rfl⟩⟩; exact ⟨0, by decide, by rw [if_neg h]; rfl, ⟨fun z => absurd z (by decide), fun z => absurd z h⟩⟩
  refine z_top (b := ((fl : Nat) : Int)) (hfl2.1) ?_
  refine z_zne (tgt := 19) hx hb dX3_row_2_10 (by decide) (by omega) (fun c3 => ?_) (fun c3 => ?_)
  · have hok9 := hfl2.2.mp (by omega)
    obtain ⟨k, rfl⟩ : ∃ k : Nat, i = k := ⟨i.toNat, by omega⟩
    have hk9 : k < St_na σ := by omega
    have hxx := hH1.2.2.1.1
    refine lv_iload_n hx hb dX3_row_2_19 rfl (lv_at hl 2 rfl) ?_
    refine lv_iconst (v := iI 0) hx hb dX3_row_2_20 rfl ?_
    refine lv_aload_n hx hb dX3_row_2_21 rfl (lv_at hl 0 rfl) ?_
    refine z_get hC (k := 1) rfl in_X3 hxx (by decide) q1496 (fun _ h => h) rfl dX3_row_2_22 ?_
    refine lv_iconst (v := iI 1) hx hb dX3_row_2_25 rfl ?_
    refine z_sub hx hb (z := (St_p σ) - 1) dX3_row_2_26 rfl ?_
    refine z_go 0 0 (z_runS (As := [.int (iI z), .int (iI 0), .int (iI ((St_p σ) - 1))]) (rest := []) hC hml hl.1 (m_X3_in hE H2 (hO.ext (zS_F hS) hMo) (0) ((St_p σ - 1)) (z) ⟨by omega, by omega, by omega⟩) (lw_S q1536 q1537 q67 q1538) nd_X3_in rfl rfl (Nat.le_of_ble_eq_true rfl) ⟨Nat.le_of_ble_eq_true rfl, Nat.le_of_ble_eq_true rfl⟩ ⟨zfit (k := 0) (z := 0) rfl rfl (by omega), zfit (k := 0) (z := 0) rfl rfl (by omega)⟩ dX3_row_2_27) ⟨zad (k := 0) rfl (by omega), zad (k := 0) rfl (by omega)⟩ hS (fun _ z => z.elim) (fun r H4 locs hp hF hS1 => ?_)
    obtain ⟨_, rfl, rfl⟩ := hp
    have hP := zpk hP hF
    have hP : va_P G.1 zCl ([]) H4 := hP
    have hD : va_D (zA (FM G μ σ) H0) ([]) := hD
    have hH1 : HM G s0 μ σ 0 H4 := hH1.ext0 hE hF
    have hS := hS1
    obtain ⟨fl, hfl, hfl2⟩ : ∃ fl : Nat, fl ≤ 1 ∧ (if 0 ≤ z ∧ z ≤ (St_p σ - 1) then (1 : Int) else 0) = fl ∧ (fl = 1 ↔ 0 ≤ z ∧ z ≤ (St_p σ - 1)) := by by_cases h : 0 ≤ z ∧ z ≤ (St_p σ - 1); exact ⟨1, by decide, by rw [if_pos h]; rfl, ⟨fun _ => h, fun _ => rfl⟩⟩; exact ⟨0, by decide, by rw [if_neg h]; rfl, ⟨fun z => absurd z (by decide), fun z => absurd z h⟩⟩
    refine z_top (b := ((fl : Nat) : Int)) (hfl2.1) ?_
    refine z_zne (tgt := 39) hx hb dX3_row_2_30 (by decide) (by omega) (fun c5 => ?_) (fun c5 => ?_)
    · have hrg : 0 ≤ z ∧ z ≤ (St_p σ - 1) := hfl2.2.mp (by omega)
      have hxx := hH1.2.2.1.1
      refine lv_aload_n hx hb dX3_row_2_39 rfl (lv_at hl 0 rfl) ?_
      refine lv_aload_n hx hb dX3_row_2_40 rfl (lv_at hl 0 rfl) ?_
      refine z_get hC (k := 3) rfl in_X3 hxx (by decide) q1499 (fun _ h => h) rfl dX3_row_2_41 ?_
      refine lv_iload_n hx hb dX3_row_2_44 rfl (lv_at hl 1 rfl) ?_
      obtain ⟨mda, hLa⟩ := id hH1.2.2.1.2.1
      refine z_go5 0 0 (z_runF (n := 1) (As := [.int (iI ((k : Nat) : Int))]) (rest := [.ref (μ (0, 0, 0))]) (ci := 8) hC hml hl.1 (m_J2_get hE H4 (hO.ext (zS_F hS) hMo) (μ (1, 0, 0)) (St_na σ) (fun k => μ (6, k, 0)) (μ (2, 0, 0)) mda k hLa (by omega)) q375 q1588 q1591 q373 q65 q1590 q1589 q1593 q1592 q1528 ⟨by decide +kernel, by decide +kernel, by decide +kernel⟩ rfl rfl rfl (z_rv hC (ci := 8) rfl hLa.1 rfl) rfl (Nat.le_of_ble_eq_true rfl) ⟨Nat.le_of_ble_eq_true rfl, Nat.le_of_ble_eq_true rfl⟩ ⟨zfit (k := 0) (z := 0) rfl rfl (by omega), zfit (k := 0) (z := 0) rfl rfl (by omega)⟩ dX3_row_2_45) ⟨zad (k := 0) rfl (by omega), zad (k := 0) rfl (by omega)⟩ hS (fun _ z => z.elim) (fun r H6 locs hp hF hS1 => ?_)
      obtain ⟨_, rfl, rfl⟩ := hp
      have hP := zpk hP hF
      have hP : va_P G.1 zCl ([]) H6 := hP
      have hD : va_D (zA (FM G μ σ) H0) ([]) := hD
      have hH1 : HM G s0 μ σ 0 H6 := hH1.ext0 hE hF
      have hS := hS1
      have hAk := hH1.al (k := k) (by omega)
      have hn16k := hH1.n (k := k) (by omega)
      refine z_cast hC (ci := 5) rfl hAk.1 rfl q1539 dX3_row_2_50 ?_
      refine lv_iload_n hx hb dX3_row_2_53 rfl (lv_at hl 2 rfl) ?_
      refine z_go 0 0 (z_runV (As := [.ref (μ (6, k, 0)), .int (iI z)]) (rest := []) hC hml hl.1 (m_X3_rowNow hE H6 (hO.ext (zS_F hS) hMo) μ σ 0 k z hH1 (by omega) ⟨hrg.1, by omega⟩) (lw_V q1910 q1912 qs57 q67 q1913) rfl nd_X3_rowNow rfl (z_rv hC (ci := 2) rfl hH1.2.2.1.1 rfl) rfl (Nat.le_of_ble_eq_true rfl) ⟨Nat.le_of_ble_eq_true rfl, Nat.le_of_ble_eq_true rfl⟩ ⟨zfit (k := 0) (z := 0) rfl rfl (by omega), zfit (k := 0) (z := 0) rfl rfl (by omega)⟩ dX3_row_2_54) ⟨zad (k := 0) rfl (by omega), zad (k := 0) rfl (by omega)⟩ hS (fun _ z => z.elim) (fun r H7 locs hp hF hS1 => ?_)
      obtain ⟨_, rfl, rfl⟩ := hp
      have hP := zpk hP hF
      have hP : va_P G.1 zCl ([]) H7 := hP
      have hD : va_D (zA (FM G μ σ) H0) ([]) := hD
      have hH1 : HM G s0 μ σ 0 H7 := hH1.ext0 hE hF
      have hS := hS1
      exact z_iret hC hrt hlk hQ hS ⟨zle (z := 0) rfl (by omega), zle (z := 0) rfl (by omega)⟩ ⟨_, rfl, 0, σ, PoM.same hH1, Or.inl ⟨rfl, rfl, k, ⟨by omega, by omega⟩, ⟨hrg.1, by omega⟩, rfl⟩⟩ dX3_row_2_57
    · refine lv_aload_n hx hb dX3_row_2_33 rfl (lv_at hl 0 rfl) ?_
      refine lv_iconst (v := iI 2) hx hb dX3_row_2_34 rfl ?_
      have hHb := hH1
      refine z_go 0 0 (z_runV (As := [.int (iI 2)]) (rest := []) hC hml hl.1 (m_X3_no hE H4 (hO.ext (zS_F hS) hMo) μ σ 0 2 hHb) (lw_V q1520 q1522 qs29 q67 q1523) rfl nd_X3_no rfl (z_rv hC (ci := 2) rfl hHb.2.2.1.1 rfl) rfl (Nat.le_of_ble_eq_true rfl) ⟨Nat.le_of_ble_eq_true rfl, Nat.le_of_ble_eq_true rfl⟩ ⟨zfit (k := 0) (z := 0) rfl rfl (by omega), zfit (k := 0) (z := 0) rfl rfl (by omega)⟩ dX3_row_2_35) ⟨zad (k := 0) rfl (by omega), zad (k := 0) rfl (by omega)⟩ hS (fun z hz => Or.inl (hz ▸ FM.in hE hh.sep (domM0 0 (by omega)) (by simp [rAm]))) (fun r H8 locs hp hF hS1 => ?_)
      obtain ⟨_, rfl, rfl, hx9⟩ := hp
      have hP : va_P G.1 zCl [] H8 := va_nil
      have hD : va_D (zA (FM G μ σ) H0) [] := va_nilD
      have hP : va_P G.1 zCl ([]) H8 := hP
      have hD : va_D (zA (FM G μ σ) H0) ([]) := hD
      have hS := hS1
      have hH9 : HM G s0 μ σ ((2 : Nat) : Int) H8 := HM.thr hE hHb hF hx9
      exact z_iret hC hrt hlk hQ hS ⟨zle (z := 0) rfl (by omega), zle (z := 0) rfl (by omega)⟩ ⟨_, rfl, 2, σ, PoM.same hH9, Or.inr ⟨by decide, rfl, by decide, Or.inr ⟨rfl, ⟨by omega, by omega⟩, fun z9 => by have z9 : 0 ≤ z ∧ z < St_p σ := z9; have h9 := hfl2.2.mpr ⟨z9.1, by omega⟩; omega⟩⟩⟩ dX3_row_2_38
  · refine lv_aload_n hx hb dX3_row_2_13 rfl (lv_at hl 0 rfl) ?_
    refine lv_iconst (v := iI 1) hx hb dX3_row_2_14 rfl ?_
    have hHb := hH1
    refine z_go 0 0 (z_runV (As := [.int (iI 1)]) (rest := []) hC hml hl.1 (m_X3_no hE H2 (hO.ext (zS_F hS) hMo) μ σ 0 1 hHb) (lw_V q1520 q1522 qs29 q67 q1523) rfl nd_X3_no rfl (z_rv hC (ci := 2) rfl hHb.2.2.1.1 rfl) rfl (Nat.le_of_ble_eq_true rfl) ⟨Nat.le_of_ble_eq_true rfl, Nat.le_of_ble_eq_true rfl⟩ ⟨zfit (k := 0) (z := 0) rfl rfl (by omega), zfit (k := 0) (z := 0) rfl rfl (by omega)⟩ dX3_row_2_15) ⟨zad (k := 0) rfl (by omega), zad (k := 0) rfl (by omega)⟩ hS (fun z hz => Or.inl (hz ▸ FM.in hE hh.sep (domM0 0 (by omega)) (by simp [rAm]))) (fun r H9 locs hp hF hS1 => ?_)
    obtain ⟨_, rfl, rfl, hx9⟩ := hp
    have hP : va_P G.1 zCl [] H9 := va_nil
    have hD : va_D (zA (FM G μ σ) H0) [] := va_nilD
    have hP : va_P G.1 zCl ([]) H9 := hP
    have hD : va_D (zA (FM G μ σ) H0) ([]) := hD
    have hS := hS1
    have hH9 : HM G s0 μ σ ((1 : Nat) : Int) H9 := HM.thr hE hHb hF hx9
    exact z_iret hC hrt hlk hQ hS ⟨zle (z := 0) rfl (by omega), zle (z := 0) rfl (by omega)⟩ ⟨_, rfl, 1, σ, PoM.same hH9, Or.inr ⟨by decide, rfl, by decide, Or.inl ⟨rfl, fun z9 => by have h9 := hfl2.2.mpr z9; omega⟩⟩⟩ dX3_row_2_18

abbrev rm_m_X3_scaleNow : Room := { frames := 1, cells := 0, slots := 0, locals := 21 }
set_option maxHeartbeats 4000000 in
theorem m_X3_scaleNow {l : Launch} {s0 : State} {G : zG} (hE : zE l s0 G) (H0 : Heap) (hO : zO s0 H0) (μ : Ro → Nat) (σ : St) (th : Int) (u w : Int) (hh : HM G s0 μ σ th H0) (hu : (0 ≤ u ∧ u < 7) ∧ 0 ≤ w ∧ w < 7) : zM l s0 yX3_scaleNow cX3_scaleNow 4 (some FieldType.int) rm_m_X3_scaleNow [.ref (μ (0, 0, 0)), .int (iI u), .int (iI w)] H0 M0 (ri (fun y _ => y = scN (St_p σ) u w)) := by
  refine z_met hE (by decide +kernel) (Nat.le_of_ble_eq_true rfl) ?_
  intro pp ee ss mm args below meth cd Q ls hC hml hrt hlk hnm hH hQ hS hl
  have hx := hC.x
  have hb := hC.b
  have hl : lv_has ls 4 [(0, .ref (μ (0, 0, 0))), (1, .int (iI u)), (2, .int (iI w))] := hl
  have hP : va_P G.1 zCl [] H0 := va_nil
  have hD : va_D (zA M0 H0) [] := va_nilD
  have hH1 := hh
  obtain ⟨hp, hna, hal, hne9, hel9, hmr9⟩ := id hh.ok
  have hp7 : 0 < St_p σ ∧ St_p σ ≤ 7 := by rcases hp with h | h | h <;> rw [h] <;> decide
  obtain ⟨pn, hpn⟩ : ∃ pn : Nat, St_p σ = pn := ⟨(St_p σ).toNat, by omega⟩
  have hT0 : fst (fun s => (w * (s : Int) * (s : Int)) % St_p σ == u) (pn - 1) 1 = scN (St_p σ) u w := by unfold scN; rw [show (St_p σ).toNat = pn by omega]
  refine lv_iconst (v := iI 1) hx hb dX3_scaleNow_0 rfl ?_
  refine lv_istore_n (lv' := [(3, .int (iI 1)), (0, .ref (μ (0, 0, 0))), (1, .int (iI u)), (2, .int (iI w))]) hx hb dX3_scaleNow_1 rfl hl (by decide) rfl (fun ls hl => ?_)
  have lp1 : ∀ (dlp1 : Nat) (s9 : Nat), pn - s9 = dlp1 → (1 ≤ s9 ∧ s9 ≤ pn) → (fst (fun s => (w * (s : Int) * (s : Int)) % St_p σ == u) (pn - s9) s9 = scN (St_p σ) u w) → ∀ (H2 : Heap) (locs : List Loc) (ls : Array Slot), va_P G.1 zCl ([]) H2 → va_D (zA M0 H0) ([]) → va_S (zA M0 H0) H0 H2 locs → lv_has ls 4 [(3, .int (iI ((s9 : Nat) : Int))), (0, .ref (μ (0, 0, 0))), (1, .int (iI u)), (2, .int (iI w))] → W pp l ee rm_m_X3_scaleNow ss mm args below meth cd H2 locs 0 0 Q (F0 mm 2 ls []) := by
    intro dlp1
    induction dlp1 using Nat.strongRecOn with
    | ind dlp1 ihlp1 =>
      intro s9 hdlp1 hs9 hf H2 locs ls  hP hD hS hl
      have hH1 : HM G s0 μ σ th H2 := hh.ext0 hE (zS_F hS)
      have hxx := hH1.2.2.1.1
      refine lv_iload_n hx hb dX3_scaleNow_2 rfl (lv_at hl 0 rfl) ?_
      refine lv_aload_n hx hb dX3_scaleNow_3 rfl (lv_at hl 1 rfl) ?_
      refine z_get hC (k := 1) rfl in_X3 hxx (by decide) q1496 (fun _ h => h) rfl dX3_scaleNow_4 ?_
      refine z_cge (tgt := 31) hx hb dX3_scaleNow_7 (by decide) (by omega) (fun c3 => ?_) (fun c3 => ?_)
      · have e0 : pn - s9 = 0 := by omega
        refine lv_iconst (v := iI (-1)) hx hb dX3_scaleNow_31 rfl ?_
        exact z_iret hC hrt hlk hQ hS ⟨zle (z := 0) rfl (by omega), zle (z := 0) rfl (by omega)⟩ ⟨_, rfl, by rw [← hf, e0]; rfl⟩ dX3_scaleNow_32
      · have hb1 := zmul3 (p := 7) (a := w) (b := (s9 : Int)) (c := (s9 : Int)) (by omega) (by omega) (by omega) (by omega)
        refine lv_aload_n hx hb dX3_scaleNow_10 rfl (lv_at hl 1 rfl) ?_
        refine lv_iload_n hx hb dX3_scaleNow_11 rfl (lv_at hl 3 rfl) ?_
        refine lv_iload_n hx hb dX3_scaleNow_12 rfl (lv_at hl 0 rfl) ?_
        refine z_mul hx hb (z := w * ((s9 : Nat) : Int)) dX3_scaleNow_13 rfl ?_
        refine lv_iload_n hx hb dX3_scaleNow_14 rfl (lv_at hl 0 rfl) ?_
        refine z_mul hx hb (z := (w * ((s9 : Nat) : Int)) * ((s9 : Nat) : Int)) dX3_scaleNow_15 rfl ?_
        have hH1 : HM G s0 μ σ th H2 := hh.ext0 hE (zS_F hS)
        refine z_go 0 0 (z_runV (As := [.int (iI ((w * ((s9 : Nat) : Int)) * ((s9 : Nat) : Int)))]) (rest := []) hC hml hl.1 (m_X3_mod hE H2 (hO.ext0 (zS_F hS)) (μ (0, 0, 0)) (μ (1, 0, 0)) (μ (3, 0, 0)) th (St_p σ) (St_kn σ) (w * (s9 : Int) * (s9 : Int)) hH1.2.2.1.1 hp (by omega)) (lw_V q1670 q1621 qs33 q67 q1622) rfl nd_X3_mod rfl (z_rv hC (ci := 2) rfl hH1.2.2.1.1 rfl) rfl (Nat.le_of_ble_eq_true rfl) ⟨Nat.le_of_ble_eq_true rfl, Nat.le_of_ble_eq_true rfl⟩ ⟨zfit (k := 0) (z := 0) rfl rfl (by omega), zfit (k := 0) (z := 0) rfl rfl (by omega)⟩ dX3_scaleNow_16) ⟨zad (k := 0) rfl (by omega), zad (k := 0) rfl (by omega)⟩ hS (fun _ z => z.elim) (fun r H4 locs hp hF hS1 => ?_)
        obtain ⟨_, rfl, rfl⟩ := hp
        have hP := zpk hP hF
        have hP : va_P G.1 zCl ([]) H4 := hP
        have hD : va_D (zA M0 H0) ([]) := hD
        have hS := hS1
        have hmd := md_in hp (w * (s9 : Int) * (s9 : Int))
        refine lv_iload_n hx hb dX3_scaleNow_19 rfl (lv_at hl 2 rfl) ?_
        refine z_cne (tgt := 25) hx hb dX3_scaleNow_20 (by decide) (by omega) (fun c5 => ?_) (fun c5 => ?_)
        · refine z_iinc (z := ((s9 + 1 : Nat) : Int)) (lv' := [(3, .int (iI ((s9 + 1 : Nat) : Int))), (0, .ref (μ (0, 0, 0))), (1, .int (iI u)), (2, .int (iI w))]) hx hb dX3_scaleNow_25 hl (k := 0) rfl (by omega) (by decide) rfl (fun ls hl => ?_)
          refine lv_goto (tgt := 2) hx hb dX3_scaleNow_28 (by decide) ?_
          exact W.widen (by omega) (by omega) (ihlp1 (pn - (s9 + 1)) (by omega) (s9 + 1) rfl (by omega) (by rw [← hf, fst_miss (k := s9) (by simp; omega) (by omega), show pn - (s9 + 1) = pn - s9 - 1 by omega]) _ _ _  hP hD hS hl)
        · refine lv_iload_n hx hb dX3_scaleNow_23 rfl (lv_at hl 0 rfl) ?_
          exact z_iret hC hrt hlk hQ hS ⟨zle (z := 0) rfl (by omega), zle (z := 0) rfl (by omega)⟩ ⟨_, rfl, by rw [← hf]; exact (fst_hit (by simp; omega) (by omega)).symm⟩ dX3_scaleNow_24
  exact W.widen (by omega) (by omega) (lp1 _ 1 rfl (⟨by omega, by omega⟩) hT0 _ _ _  hP hD hS hl)

