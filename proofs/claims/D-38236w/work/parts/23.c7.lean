/-! THE CLASS: breaks, rows of a form, an algebra's making -/
set_option maxRecDepth 100000
theorem kp_0 {p : Int} {sg : Nat → Nat → Int} {i j k : Nat} : kpV p sg 0 i j k = (sg i j == sg j i) := rfl
theorem bkV_in (P : Nat → Nat → Nat → Bool) (i j : Nat) : ∀ f k, bkV P i j f k = -1 ∨ 0 ≤ bkV P i j f k
  | 0, _ => Or.inl rfl
  | f + 1, k => by
    have := bkV_in P i j f (k + 1)
    simp only [bkV]
    split
    · exact this
    · right; omega
abbrev rm_m_X5_breaks : Room := { frames := 3, cells := 0, slots := 0, locals := 67 }
set_option maxHeartbeats 4000000 in
theorem m_X5_breaks {l : Launch} {s0 : State} {G : zG} (hE : zE l s0 G) (H0 : Heap) (hO : zO s0 H0) (x g : Nat) (p : Int) (d n kd : Nat) (dv : Nat → Int) (sg : Nat → Nat → Int) (law : Nat) (hA : zAg G x g p d n kd dv sg H0) (hl0 : law < 4) : zM l s0 yX5_breaks cX5_breaks 5 (some FieldType.int) rm_m_X5_breaks [.ref g, .int (iI ((law : Nat) : Int))] H0 M0 (ri (fun y _ => y = brV p sg n law)) := by
  refine z_met hE (by decide +kernel) (Nat.le_of_ble_eq_true rfl) ?_
  intro pp ee ss mm args below meth cd Q ls hC hml hrt hlk hnm hH hQ hS hl
  have hx := hC.x
  have hb := hC.b
  have hl : lv_has ls 5 [(0, .ref g), (1, .int (iI ((law : Nat) : Int)))] := hl
  have hP : va_P G.1 zCl [] H0 := va_nil
  have hD : va_D (zA M0 H0) [] := va_nilD
  obtain ⟨la, le, dr, kn, sm, dl, da, ml, so, dm, ro, hx0, hg0, hL0, hso, hro, hfa⟩ := id hA
  obtain ⟨hp, hd4, hn2, hkd, hdv, hsg⟩ := hfa
  obtain ⟨hn16, hp7⟩ := hA.n
  obtain ⟨mm9, hmm⟩ : ∃ a : Nat, a = if law = 0 then 1 else n := ⟨_, rfl⟩
  obtain ⟨T9, hT9⟩ : ∃ a : Int, a = brV p sg n law := ⟨_, rfl⟩
  have hT0 : biV (kpV p sg law) mm9 n n 0 = T9 := by rw [hT9, hmm]; rfl
  rw [← hT9] at hQ
  refine lv_iconst (v := iI 0) hx hb dX5_breaks_0 rfl ?_
  refine lv_istore_n (lv' := [(2, .int (iI 0)), (0, .ref g), (1, .int (iI ((law : Nat) : Int)))]) hx hb dX5_breaks_1 rfl hl (by decide) rfl (fun ls hl => ?_)
  have lp1 : ∀ (dlp1 : Nat) (i : Nat), n - i = dlp1 → (i ≤ n) → (biV (kpV p sg law) mm9 n (n - i) i = T9) → ∀ (H2 : Heap) (locs : List Loc) (ls : Array Slot), va_P G.1 zCl ([]) H2 → va_D (zA M0 H0) ([]) → va_S (zA M0 H0) H0 H2 locs → lv_has ls 5 [(2, .int (iI ((i : Nat) : Int))), (0, .ref g), (1, .int (iI ((law : Nat) : Int)))] → W pp l ee rm_m_X5_breaks ss mm args below meth cd H2 locs 0 0 Q (F0 mm 2 ls []) := by
    intro dlp1
    induction dlp1 using Nat.strongRecOn with
    | ind dlp1 ihlp1 =>
      intro i hdlp1 hi hi2 H2 locs ls  hP hD hS hl
      refine lv_iload_n hx hb dX5_breaks_2 rfl (lv_at hl 0 rfl) ?_
      refine lv_aload_n hx hb dX5_breaks_3 rfl (lv_at hl 1 rfl) ?_
      refine z_go 0 0 (z_runV (As := []) (rest := [.int (iI ((i : Nat) : Int))]) hC hml hl.1 (m_X5_units hE H2 (hO.ext0 (zS_F hS)) x g p d n kd dv sg (hA.ext0 (zS_F hS))) (lw_V q401 q298 q299 q74 q300) rfl nd_X5_units rfl (z_rv hC (ci := 4) rfl (zo hS hg0 id) rfl) rfl (Nat.le_of_ble_eq_true rfl) ⟨Nat.le_of_ble_eq_true rfl, Nat.le_of_ble_eq_true rfl⟩ ⟨zfit (k := 0) (z := 0) rfl rfl (by omega), zfit (k := 0) (z := 0) rfl rfl (by omega)⟩ dX5_breaks_4) ⟨zad (k := 0) rfl (by omega), zad (k := 0) rfl (by omega)⟩ hS (fun _ z => z.elim) (fun r H3 locs hp hF hS1 => ?_)
      obtain ⟨_, rfl, rfl⟩ := hp
      have hP := zpk hP hF
      have hP : va_P G.1 zCl ([]) H3 := hP
      have hD : va_D (zA M0 H0) ([]) := hD
      have hS := hS1
      refine z_cge (tgt := 104) hx hb dX5_breaks_7 (by decide) (by omega) (fun c4 => ?_) (fun c4 => ?_)
      · have e0 : n - i = 0 := by omega
        refine lv_iconst (v := iI (-1)) hx hb dX5_breaks_104 rfl ?_
        exact z_iret hC hrt hlk hQ hS ⟨zle (z := 0) rfl (by omega), zle (z := 0) rfl (by omega)⟩ ⟨_, rfl, by rw [← hi2, e0]; rfl⟩ dX5_breaks_105
      · rw [biV_s (by omega)] at hi2
        refine lv_iconst (v := iI 0) hx hb dX5_breaks_10 rfl ?_
        refine lv_istore_n (lv' := [(3, .int (iI 0)), (2, .int (iI ((i : Nat) : Int))), (0, .ref g), (1, .int (iI ((law : Nat) : Int)))]) hx hb dX5_breaks_11 rfl hl (by decide) rfl (fun ls hl => ?_)
        have lp5 : ∀ (dlp5 : Nat) (j : Nat), n - j = dlp5 → (j ≤ n) → (orE (bjV (kpV p sg law) mm9 i (n - j) j) (biV (kpV p sg law) mm9 n (n - (i + 1)) (i + 1)) = T9) → ∀ (H6 : Heap) (locs : List Loc) (ls : Array Slot), va_P G.1 zCl ([]) H6 → va_D (zA M0 H0) ([]) → va_S (zA M0 H0) H0 H6 locs → lv_has ls 5 [(3, .int (iI ((j : Nat) : Int))), (2, .int (iI ((i : Nat) : Int))), (0, .ref g), (1, .int (iI ((law : Nat) : Int)))] → W pp l ee rm_m_X5_breaks ss mm args below meth cd H6 locs 0 0 Q (F0 mm 12 ls []) := by
          intro dlp5
          induction dlp5 using Nat.strongRecOn with
          | ind dlp5 ihlp5 =>
            intro j hdlp5 hj hj2 H6 locs ls  hP hD hS hl
            refine lv_iload_n hx hb dX5_breaks_12 rfl (lv_at hl 0 rfl) ?_
            refine lv_aload_n hx hb dX5_breaks_13 rfl (lv_at hl 2 rfl) ?_
            refine z_go 0 0 (z_runV (As := []) (rest := [.int (iI ((j : Nat) : Int))]) hC hml hl.1 (m_X5_units hE H6 (hO.ext0 (zS_F hS)) x g p d n kd dv sg (hA.ext0 (zS_F hS))) (lw_V q401 q298 q299 q74 q300) rfl nd_X5_units rfl (z_rv hC (ci := 4) rfl (zo hS hg0 id) rfl) rfl (Nat.le_of_ble_eq_true rfl) ⟨Nat.le_of_ble_eq_true rfl, Nat.le_of_ble_eq_true rfl⟩ ⟨zfit (k := 0) (z := 0) rfl rfl (by omega), zfit (k := 0) (z := 0) rfl rfl (by omega)⟩ dX5_breaks_14) ⟨zad (k := 0) rfl (by omega), zad (k := 0) rfl (by omega)⟩ hS (fun _ z => z.elim) (fun r H7 locs hp hF hS1 => ?_)
            obtain ⟨_, rfl, rfl⟩ := hp
            have hP := zpk hP hF
            have hP : va_P G.1 zCl ([]) H7 := hP
            have hD : va_D (zA M0 H0) ([]) := hD
            have hS := hS1
            refine z_cge (tgt := 98) hx hb dX5_breaks_17 (by decide) (by omega) (fun c8 => ?_) (fun c8 => ?_)
            · have e0 : n - j = 0 := by omega
              rw [e0, show bjV (kpV p sg law) mm9 i 0 j = -1 from rfl, orE_n] at hj2
              refine z_iinc (z := ((i + 1 : Nat) : Int)) (lv' := [(2, .int (iI ((i + 1 : Nat) : Int))), (3, .int (iI ((j : Nat) : Int))), (0, .ref g), (1, .int (iI ((law : Nat) : Int)))]) hx hb dX5_breaks_98 hl (k := 1) rfl (by omega) (by decide) rfl (fun ls hl => ?_)
              refine lv_goto (tgt := 2) hx hb dX5_breaks_101 (by decide) ?_
              exact W.widen (by omega) (by omega) (ihlp1 (n - (i + 1)) (by omega) (i + 1) rfl (by omega) hj2 _ _ _  hP hD hS (lv_sub hl [0, 2, 3] rfl))
            · rw [bjV_s (by omega), orE_a] at hj2
              refine lv_iload_n hx hb dX5_breaks_20 rfl (lv_at hl 3 rfl) ?_
              refine z_zne (tgt := 44) hx hb dX5_breaks_21 (by decide) (by omega) (fun c9 => ?_) (fun c9 => ?_)
              · have el : law ≠ 0 := by omega
                have em : mm9 = n := by rw [hmm, if_neg el]
                refine lv_iconst (v := iI 0) hx hb dX5_breaks_44 rfl ?_
                refine lv_istore (lv' := [(4, .int (iI 0)), (3, .int (iI ((j : Nat) : Int))), (2, .int (iI ((i : Nat) : Int))), (0, .ref g), (1, .int (iI ((law : Nat) : Int)))]) hx hb dX5_breaks_45 hl (by decide) rfl (fun ls hl => ?_)
                have lp10 : ∀ (dlp10 : Nat) (k : Nat), mm9 - k = dlp10 → (k ≤ mm9) → (orE (bkV (kpV p sg law) i j (mm9 - k) k) (orE (bjV (kpV p sg law) mm9 i (n - (j + 1)) (j + 1)) (biV (kpV p sg law) mm9 n (n - (i + 1)) (i + 1))) = T9) → ∀ (H11 : Heap) (locs : List Loc) (ls : Array Slot), va_P G.1 zCl ([]) H11 → va_D (zA M0 H0) ([]) → va_S (zA M0 H0) H0 H11 locs → lv_has ls 5 [(4, .int (iI ((k : Nat) : Int))), (3, .int (iI ((j : Nat) : Int))), (2, .int (iI ((i : Nat) : Int))), (0, .ref g), (1, .int (iI ((law : Nat) : Int)))] → W pp l ee rm_m_X5_breaks ss mm args below meth cd H11 locs 0 0 Q (F0 mm 47 ls []) := by
                  intro dlp10
                  induction dlp10 using Nat.strongRecOn with
                  | ind dlp10 ihlp10 =>
                    intro k hdlp10 hk hk2 H11 locs ls  hP hD hS hl
                    refine lv_iload hx hb dX5_breaks_47 (lv_at hl 0 rfl) ?_
                    refine lv_aload_n hx hb dX5_breaks_49 rfl (lv_at hl 3 rfl) ?_
                    refine z_go 0 0 (z_runV (As := []) (rest := [.int (iI ((k : Nat) : Int))]) hC hml hl.1 (m_X5_units hE H11 (hO.ext0 (zS_F hS)) x g p d n kd dv sg (hA.ext0 (zS_F hS))) (lw_V q401 q298 q299 q74 q300) rfl nd_X5_units rfl (z_rv hC (ci := 4) rfl (zo hS hg0 id) rfl) rfl (Nat.le_of_ble_eq_true rfl) ⟨Nat.le_of_ble_eq_true rfl, Nat.le_of_ble_eq_true rfl⟩ ⟨zfit (k := 0) (z := 0) rfl rfl (by omega), zfit (k := 0) (z := 0) rfl rfl (by omega)⟩ dX5_breaks_50) ⟨zad (k := 0) rfl (by omega), zad (k := 0) rfl (by omega)⟩ hS (fun _ z => z.elim) (fun r H12 locs hp hF hS1 => ?_)
                    obtain ⟨_, rfl, rfl⟩ := hp
                    have hP := zpk hP hF
                    have hP : va_P G.1 zCl ([]) H12 := hP
                    have hD : va_D (zA M0 H0) ([]) := hD
                    have hS := hS1
                    refine z_cge (tgt := 92) hx hb dX5_breaks_53 (by decide) (by omega) (fun c13 => ?_) (fun c13 => ?_)
                    · have e0 : mm9 - k = 0 := by omega
                      rw [e0, show bkV (kpV p sg law) i j 0 k = -1 from rfl, orE_n] at hk2
                      refine z_iinc (z := ((j + 1 : Nat) : Int)) (lv' := [(3, .int (iI ((j + 1 : Nat) : Int))), (4, .int (iI ((k : Nat) : Int))), (2, .int (iI ((i : Nat) : Int))), (0, .ref g), (1, .int (iI ((law : Nat) : Int)))]) hx hb dX5_breaks_92 hl (k := 1) rfl (by omega) (by decide) rfl (fun ls hl => ?_)
                      refine lv_goto (tgt := 12) hx hb dX5_breaks_95 (by decide) ?_
                      exact W.widen (by omega) (by omega) (ihlp5 (n - (j + 1)) (by omega) (j + 1) rfl (by omega) hk2 _ _ _  hP hD hS (lv_sub hl [0, 2, 3, 4] rfl))
                    · refine lv_iload_n hx hb dX5_breaks_56 rfl (lv_at hl 4 rfl) ?_
                      refine z_zle (tgt := 92) hx hb dX5_breaks_57 (by decide) (by omega) (fun c14 => ?_) (fun c14 => ?_)
                      · omega
                      · refine lv_aload_n hx hb dX5_breaks_60 rfl (lv_at hl 3 rfl) ?_
                        refine lv_iload_n hx hb dX5_breaks_61 rfl (lv_at hl 4 rfl) ?_
                        refine lv_iload_n hx hb dX5_breaks_62 rfl (lv_at hl 2 rfl) ?_
                        refine lv_iload_n hx hb dX5_breaks_63 rfl (lv_at hl 1 rfl) ?_
                        refine lv_iload hx hb dX5_breaks_64 (lv_at hl 0 rfl) ?_
                        refine z_go 0 0 (z_runV (As := [.int (iI ((law : Nat) : Int)), .int (iI ((i : Nat) : Int)), .int (iI ((j : Nat) : Int)), .int (iI ((k : Nat) : Int))]) (rest := []) hC hml hl.1 (m_X5_isKept hE H12 (hO.ext0 (zS_F hS)) x g p d n kd dv sg law i j k (hA.ext0 (zS_F hS)) ⟨el, hl0⟩ ⟨by omega, by omega, by omega⟩) (lw_V q410 q412 qs9 q74 q414) rfl nd_X5_isKept rfl (z_rv hC (ci := 4) rfl (zo hS hg0 id) rfl) rfl (Nat.le_of_ble_eq_true rfl) ⟨Nat.le_of_ble_eq_true rfl, Nat.le_of_ble_eq_true rfl⟩ ⟨zfit (k := 0) (z := 0) rfl rfl (by omega), zfit (k := 0) (z := 0) rfl rfl (by omega)⟩ dX5_breaks_66) ⟨zad (k := 0) rfl (by omega), zad (k := 0) rfl (by omega)⟩ hS (fun _ z => z.elim) (fun r H15 locs hp hF hS1 => ?_)
                        obtain ⟨_, rfl, rfl⟩ := hp
                        have hP := zpk hP hF
                        have hP : va_P G.1 zCl ([]) H15 := hP
                        have hD : va_D (zA M0 H0) ([]) := hD
                        have hS := hS1
                        refine z_zne (tgt := 86) hx hb dX5_breaks_69 (by decide) (by unfold b2i; split <;> omega) (fun cz => ?_) (fun cz => ?_)
                        · rw [bkV_s (by omega) (b2i_nz cz)] at hk2
                          refine z_iinc (z := ((k + 1 : Nat) : Int)) (lv' := [(4, .int (iI ((k + 1 : Nat) : Int))), (3, .int (iI ((j : Nat) : Int))), (2, .int (iI ((i : Nat) : Int))), (0, .ref g), (1, .int (iI ((law : Nat) : Int)))]) hx hb dX5_breaks_86 hl (k := 0) rfl (by omega) (by decide) rfl (fun ls hl => ?_)
                          refine lv_goto (tgt := 47) hx hb dX5_breaks_89 (by decide) ?_
                          exact W.widen (by omega) (by omega) (ihlp10 (mm9 - (k + 1)) (by omega) (k + 1) rfl (by omega) hk2 _ _ _  hP hD hS hl)
                        · refine lv_sipush (v := iI 256) hx hb dX5_breaks_72 (by decide) ?_
                          refine lv_iload_n hx hb dX5_breaks_75 rfl (lv_at hl 2 rfl) ?_
                          refine z_mul hx hb (z := 256 * ((i : Nat) : Int)) dX5_breaks_76 rfl ?_
                          refine lv_bipush (v := iI 16) hx hb dX5_breaks_77 (by decide) ?_
                          refine lv_iload_n hx hb dX5_breaks_79 rfl (lv_at hl 1 rfl) ?_
                          refine z_mul hx hb (z := 16 * ((j : Nat) : Int)) dX5_breaks_80 rfl ?_
                          refine z_add hx hb (z := (256 * ((i : Nat) : Int)) + (16 * ((j : Nat) : Int))) dX5_breaks_81 rfl ?_
                          refine lv_iload hx hb dX5_breaks_82 (lv_at hl 0 rfl) ?_
                          refine z_add hx hb (z := ((256 * ((i : Nat) : Int)) + (16 * ((j : Nat) : Int))) + ((k : Nat) : Int)) dX5_breaks_84 rfl ?_
                          exact z_iret hC hrt hlk hQ hS ⟨zle (z := 0) rfl (by omega), zle (z := 0) rfl (by omega)⟩ ⟨_, rfl, by rw [← hk2, bkV_f (by omega) (b2i_z cz), orE_y (by omega)]⟩ dX5_breaks_85
                exact W.widen (by omega) (by omega) (lp10 _ 0 rfl (Nat.zero_le _) hj2 _ _ _  hP hD hS hl)
              · have el : law = 0 := by omega
                have em : mm9 = 1 := by rw [hmm, if_pos el]
                refine lv_aload_n hx hb dX5_breaks_24 rfl (lv_at hl 2 rfl) ?_
                refine lv_iload_n hx hb dX5_breaks_25 rfl (lv_at hl 1 rfl) ?_
                refine lv_iload_n hx hb dX5_breaks_26 rfl (lv_at hl 0 rfl) ?_
                refine z_go 0 0 (z_runV (As := [.int (iI ((i : Nat) : Int)), .int (iI ((j : Nat) : Int))]) (rest := []) hC hml hl.1 (m_X5_commute hE H7 (hO.ext0 (zS_F hS)) x g p d n kd dv sg i j (hA.ext0 (zS_F hS)) ⟨by omega, by omega⟩) (lw_V q402 q403 q404 q74 q405) rfl nd_X5_commute rfl (z_rv hC (ci := 4) rfl (zo hS hg0 id) rfl) rfl (Nat.le_of_ble_eq_true rfl) ⟨Nat.le_of_ble_eq_true rfl, Nat.le_of_ble_eq_true rfl⟩ ⟨zfit (k := 0) (z := 0) rfl rfl (by omega), zfit (k := 0) (z := 0) rfl rfl (by omega)⟩ dX5_breaks_27) ⟨zad (k := 0) rfl (by omega), zad (k := 0) rfl (by omega)⟩ hS (fun _ z => z.elim) (fun r H16 locs hp hF hS1 => ?_)
                obtain ⟨_, rfl, rfl⟩ := hp
                have hP := zpk hP hF
                have hP : va_P G.1 zCl ([]) H16 := hP
                have hD : va_D (zA M0 H0) ([]) := hD
                have hS := hS1
                refine z_zne (tgt := 44) hx hb dX5_breaks_30 (by decide) (by unfold b2i; split <;> omega) (fun cz => ?_) (fun cz => ?_)
                · refine lv_iconst (v := iI 0) hx hb dX5_breaks_44 rfl ?_
                  refine lv_istore (lv' := [(4, .int (iI 0)), (3, .int (iI ((j : Nat) : Int))), (2, .int (iI ((i : Nat) : Int))), (0, .ref g), (1, .int (iI ((law : Nat) : Int)))]) hx hb dX5_breaks_45 hl (by decide) rfl (fun ls hl => ?_)
                  refine lv_iload hx hb dX5_breaks_47 (lv_at hl 0 rfl) ?_
                  refine lv_aload_n hx hb dX5_breaks_49 rfl (lv_at hl 3 rfl) ?_
                  refine z_go 0 0 (z_runV (As := []) (rest := [.int (iI 0)]) hC hml hl.1 (m_X5_units hE H16 (hO.ext0 (zS_F hS)) x g p d n kd dv sg (hA.ext0 (zS_F hS))) (lw_V q401 q298 q299 q74 q300) rfl nd_X5_units rfl (z_rv hC (ci := 4) rfl (zo hS hg0 id) rfl) rfl (Nat.le_of_ble_eq_true rfl) ⟨Nat.le_of_ble_eq_true rfl, Nat.le_of_ble_eq_true rfl⟩ ⟨zfit (k := 0) (z := 0) rfl rfl (by omega), zfit (k := 0) (z := 0) rfl rfl (by omega)⟩ dX5_breaks_50) ⟨zad (k := 0) rfl (by omega), zad (k := 0) rfl (by omega)⟩ hS (fun _ z => z.elim) (fun r H17 locs hp hF hS1 => ?_)
                  obtain ⟨_, rfl, rfl⟩ := hp
                  have hP := zpk hP hF
                  have hP : va_P G.1 zCl ([]) H17 := hP
                  have hD : va_D (zA M0 H0) ([]) := hD
                  have hS := hS1
                  refine z_cge (tgt := 92) hx hb dX5_breaks_53 (by decide) (by omega) (fun c18 => ?_) (fun c18 => ?_)
                  · omega
                  · refine lv_iload_n hx hb dX5_breaks_56 rfl (lv_at hl 4 rfl) ?_
                    refine z_zle (tgt := 92) hx hb dX5_breaks_57 (by decide) (by omega) (fun c19 => ?_) (fun c19 => ?_)
                    · have hb0 : bkV (kpV p sg law) i j mm9 0 = -1 := by rw [em]; exact (bkV_s (m := 1) (k := 0) (by omega) (by rw [el, kp_0]; exact b2i_nz cz)).trans rfl
                      rw [hb0, orE_n] at hj2
                      refine z_iinc (z := ((j + 1 : Nat) : Int)) (lv' := [(3, .int (iI ((j + 1 : Nat) : Int))), (4, .int (iI 0)), (2, .int (iI ((i : Nat) : Int))), (0, .ref g), (1, .int (iI ((law : Nat) : Int)))]) hx hb dX5_breaks_92 hl (k := 1) rfl (by omega) (by decide) rfl (fun ls hl => ?_)
                      refine lv_goto (tgt := 12) hx hb dX5_breaks_95 (by decide) ?_
                      exact W.widen (by omega) (by omega) (ihlp5 (n - (j + 1)) (by omega) (j + 1) rfl (by omega) hj2 _ _ _  hP hD hS (lv_sub hl [0, 2, 3, 4] rfl))
                    · omega
                · refine lv_sipush (v := iI 256) hx hb dX5_breaks_33 (by decide) ?_
                  refine lv_iload_n hx hb dX5_breaks_36 rfl (lv_at hl 1 rfl) ?_
                  refine z_mul hx hb (z := 256 * ((i : Nat) : Int)) dX5_breaks_37 rfl ?_
                  refine lv_bipush (v := iI 16) hx hb dX5_breaks_38 (by decide) ?_
                  refine lv_iload_n hx hb dX5_breaks_40 rfl (lv_at hl 0 rfl) ?_
                  refine z_mul hx hb (z := 16 * ((j : Nat) : Int)) dX5_breaks_41 rfl ?_
                  refine z_add hx hb (z := (256 * ((i : Nat) : Int)) + (16 * ((j : Nat) : Int))) dX5_breaks_42 rfl ?_
                  exact z_iret hC hrt hlk hQ hS ⟨zle (z := 0) rfl (by omega), zle (z := 0) rfl (by omega)⟩ ⟨_, rfl, by rw [← hj2, em, show (1 : Nat) = 1 - 0 from rfl, bkV_f (by omega) (by rw [el, kp_0]; exact b2i_z cz), orE_y (by omega)]; omega⟩ dX5_breaks_43
        exact W.widen (by omega) (by omega) (lp5 _ 0 rfl (Nat.zero_le _) hi2 _ _ _  hP hD hS hl)
  exact W.widen (by omega) (by omega) (lp1 _ 0 rfl (Nat.zero_le _) hT0 _ _ _  hP hD hS hl)

abbrev rm_m_X5_row : Room := { frames := 3, cells := 1, slots := 4, locals := 64 }
set_option maxHeartbeats 4000000 in
theorem m_X5_row {l : Launch} {s0 : State} {G : zG} (hE : zE l s0 G) (H0 : Heap) (hO : zO s0 H0) (x g : Nat) (p : Int) (d n kd : Nat) (dv : Nat → Int) (sg : Nat → Nat → Int) (z : Int) (hA : zAg G x g p d n kd dv sg H0) (hz : 0 ≤ z ∧ z < p) : zM l s0 yX5_row cX5_row 12 (some FieldType.int) rm_m_X5_row [.ref g, .int (iI z)] H0 M0 (ri (fun y _ => y = rwV p d dv z)) := by
  refine z_met hE (by decide +kernel) (Nat.le_of_ble_eq_true rfl) ?_
  intro pp ee ss mm args below meth cd Q ls hC hml hrt hlk hnm hH hQ hS hl
  have hx := hC.x
  have hb := hC.b
  have hl : lv_has ls 12 [(0, .ref g), (1, .int (iI z))] := hl
  have hP : va_P G.1 zCl [] H0 := va_nil
  have hD : va_D (zA M0 H0) [] := va_nilD
  obtain ⟨la, le, dr, kn, sm, dl, da, ml, so, dm, ro, hx0, hg0, hL0, hso, hro, hfa⟩ := id hA
  obtain ⟨hp, hd4, hn2, hkd, hdv, hsg⟩ := hfa
  obtain ⟨hn16, hp7⟩ := hA.n
  have hpd := pw_in hp d hd4
  refine lv_iconst (v := iI 1) hx hb dX5_row_0 rfl ?_
  refine lv_istore_n (lv' := [(2, .int (iI 1)), (0, .ref g), (1, .int (iI z))]) hx hb dX5_row_1 rfl hl (by decide) rfl (fun ls hl => ?_)
  refine lv_iconst (v := iI 0) hx hb dX5_row_2 rfl ?_
  refine lv_istore_n (lv' := [(3, .int (iI 0)), (2, .int (iI 1)), (0, .ref g), (1, .int (iI z))]) hx hb dX5_row_3 rfl hl (by decide) rfl (fun ls hl => ?_)
  have lp1 : ∀ (dlp1 : Nat) (k : Nat) (w9 : Int), d - k = dlp1 → (k ≤ d) → (w9 = p ^ k) → ∀ (H2 : Heap) (locs : List Loc) (ls : Array Slot), va_P G.1 zCl ([]) H2 → va_D (zA M0 H0) ([]) → va_S (zA M0 H0) H0 H2 locs → lv_has ls 12 [(3, .int (iI ((k : Nat) : Int))), (2, .int (iI w9)), (0, .ref g), (1, .int (iI z))] → W pp l ee rm_m_X5_row ss mm args below meth cd H2 locs 0 0 Q (F0 mm 4 ls []) := by
    intro dlp1
    induction dlp1 using Nat.strongRecOn with
    | ind dlp1 ihlp1 =>
      intro k w9 hdlp1 hk hw9 H2 locs ls  hP hD hS hl
      refine lv_iload_n hx hb dX5_row_4 rfl (lv_at hl 0 rfl) ?_
      refine lv_aload_n hx hb dX5_row_5 rfl (lv_at hl 2 rfl) ?_
      refine z_get hC (k := 1) rfl in_X5 (zo hS hg0 id) (by decide) q958 (fun _ h => h) rfl dX5_row_6 ?_
      refine z_go 0 0 (z_runV (As := []) (rest := [.int (iI ((k : Nat) : Int))]) hC hml hl.1 (m_J2_size hE H2 (hO.ext0 (zS_F hS)) dl d _ da dm (hL0.ext0 (zS_F hS))) (lw_V q301 q230 q231 q65 q232) rfl nd_J2_size rfl (z_rv hC (ci := 8) rfl (zo hS hL0.1 id) rfl) rfl (Nat.le_of_ble_eq_true rfl) ⟨Nat.le_of_ble_eq_true rfl, Nat.le_of_ble_eq_true rfl⟩ ⟨zfit (k := 0) (z := 1) rfl rfl (by omega), zfit (k := 0) (z := 4) rfl rfl (by omega)⟩ dX5_row_9) ⟨zad (k := 0) rfl (by omega), zad (k := 0) rfl (by omega)⟩ hS (fun _ z => z.elim) (fun r H3 locs hp hF hS1 => ?_)
      obtain ⟨_, rfl, rfl⟩ := hp
      have hP := zpk hP hF
      have hP : va_P G.1 zCl ([]) H3 := hP
      have hD : va_D (zA M0 H0) ([]) := hD
      have hS := hS1
      refine z_cge (tgt := 31) hx hb dX5_row_12 (by decide) (by omega) (fun c4 => ?_) (fun c4 => ?_)
      · have ek : k = d := by omega
        obtain ⟨mn, hmn⟩ : ∃ a : Nat, p ^ d = a := ⟨(p ^ d).toNat, by omega⟩
        rw [hw9, ek, hmn] at hl
        refine lv_iconst (v := iI 4) hx hb dX5_row_31 rfl ?_
        refine z_newj hC hP hD hS (N := 4) (c1 := 1) (s1 := 4) rfl (by omega) ⟨zle (z := 1) rfl (by omega), zle (z := 4) rfl (by omega)⟩ ⟨by omega, by omega⟩ (ws' := fun q5 => [(q5, zJ G 4 (fun _ => 0))]) (fun _ => rfl) dX5_row_32 (fun q5 H6 hq0q5 hq1q5 hP hD hS hF => ?_)
        refine lv_astore_n (lv' := [(3, .ref q5), (2, .int (iI ((mn : Nat) : Int))), (0, .ref g), (1, .int (iI z))]) hx hb dX5_row_34 rfl hl (by decide) rfl (fun ls hl => ?_)
        refine lv_iconst (v := iI 1) hx hb dX5_row_35 rfl ?_
        refine lv_istore (lv' := [(4, .int (iI 1)), (3, .ref q5), (2, .int (iI ((mn : Nat) : Int))), (0, .ref g), (1, .int (iI z))]) hx hb dX5_row_36 hl (by decide) rfl (fun ls hl => ?_)
        have lp7 : ∀ (dlp7 : Nat) (row : Nat) (f1 : Nat → Int), mn - row = dlp7 → (1 ≤ row ∧ row ≤ mn) → (fst (fun row => fmV p dv d row % p == z) (mn - row) row = rwV p d dv z) → ∀ (H8 : Heap) (locs : List Loc) (ls : Array Slot), va_P G.1 zCl ([(q5, zJ G 4 f1)]) H8 → va_D (zA M0 H0) ([(q5, zJ G 4 f1)]) → va_S (zA M0 H0) H0 H8 locs → lv_has ls 12 [(4, .int (iI ((row : Nat) : Int))), (3, .ref q5), (2, .int (iI ((mn : Nat) : Int))), (0, .ref g), (1, .int (iI z))] → W pp l ee rm_m_X5_row ss mm args below meth cd H8 locs 1 4 Q (F0 mm 38 ls []) := by
          intro dlp7
          induction dlp7 using Nat.strongRecOn with
          | ind dlp7 ihlp7 =>
            intro row f1 hdlp7 hr hr2 H8 locs ls  hP hD hS hl
            refine lv_iload hx hb dX5_row_38 (lv_at hl 0 rfl) ?_
            refine lv_iload_n hx hb dX5_row_40 rfl (lv_at hl 2 rfl) ?_
            refine z_cge (tgt := 161) hx hb dX5_row_41 (by decide) (by omega) (fun c9 => ?_) (fun c9 => ?_)
            · have e0 : mn - row = 0 := by omega
              refine lv_iconst (v := iI (-1)) hx hb dX5_row_161 rfl ?_
              exact z_iret hC hrt hlk hQ hS ⟨zle (z := 1) rfl (by omega), zle (z := 4) rfl (by omega)⟩ ⟨_, rfl, by rw [← hr2, e0]; rfl⟩ dX5_row_162
            · refine lv_iload hx hb dX5_row_44 (lv_at hl 0 rfl) ?_
              refine lv_istore (lv' := [(5, .int (iI ((row : Nat) : Int))), (4, .int (iI ((row : Nat) : Int))), (3, .ref q5), (2, .int (iI ((mn : Nat) : Int))), (0, .ref g), (1, .int (iI z))]) hx hb dX5_row_46 hl (by decide) rfl (fun ls hl => ?_)
              refine lv_lconst (v := lI 0) hx hb dX5_row_48 (by decide) ?_
              refine lv_lstore (lv' := [(6, .long (lI 0)), (5, .int (iI ((row : Nat) : Int))), (4, .int (iI ((row : Nat) : Int))), (3, .ref q5), (2, .int (iI ((mn : Nat) : Int))), (0, .ref g), (1, .int (iI z))]) hx hb dX5_row_49 hl (by decide) rfl (fun ls hl => ?_)
              refine lv_aload_n hx hb dX5_row_51 rfl (lv_at hl 5 rfl) ?_
              refine z_get hC (k := 1) rfl in_X5 (zo hS hg0 id) (by decide) q958 (fun _ h => h) rfl dX5_row_52 ?_
              refine z_go 1 4 (z_runV (As := []) (rest := []) hC hml hl.1 (m_J2_size hE H8 (hO.ext0 (zS_F hS)) dl d _ da dm (hL0.ext0 (zS_F hS))) (lw_V q301 q230 q231 q65 q232) rfl nd_J2_size rfl (z_rv hC (ci := 8) rfl (zo hS hL0.1 id) rfl) rfl (Nat.le_of_ble_eq_true rfl) ⟨Nat.le_of_ble_eq_true rfl, Nat.le_of_ble_eq_true rfl⟩ ⟨zfit (k := 0) (z := 1) rfl rfl (by omega), zfit (k := 0) (z := 4) rfl rfl (by omega)⟩ dX5_row_55) ⟨zad (k := 0) rfl (by omega), zad (k := 0) rfl (by omega)⟩ hS (fun _ z => z.elim) (fun r H10 locs hp hF hS1 => ?_)
              obtain ⟨_, rfl, rfl⟩ := hp
              have hP := zpk hP hF
              have hP : va_P G.1 zCl ([(q5, zJ G 4 f1)]) H10 := hP
              have hD : va_D (zA M0 H0) ([(q5, zJ G 4 f1)]) := hD
              have hS := hS1
              refine lv_iconst (v := iI 1) hx hb dX5_row_58 rfl ?_
              refine z_sub hx hb (z := ((d : Nat) : Int) - 1) dX5_row_59 rfl ?_
              refine lv_istore (lv' := [(8, .int (iI (((d : Nat) : Int) - 1))), (6, .long (lI 0)), (5, .int (iI ((row : Nat) : Int))), (4, .int (iI ((row : Nat) : Int))), (3, .ref q5), (2, .int (iI ((mn : Nat) : Int))), (0, .ref g), (1, .int (iI z))]) hx hb dX5_row_60 hl (by decide) rfl (fun ls hl => ?_)
              have lp11 : ∀ (dlp11 : Nat) (t : Nat) (rest : Int) (su : Int) (f : Nat → Int), t = dlp11 → (t ≤ d) → (0 ≤ rest ∧ rest ≤ 2401) → (su + fmV p dv t rest = fmV p dv d row) → (0 ≤ su) → ∀ (H12 : Heap) (locs : List Loc) (ls : Array Slot), va_P G.1 zCl ([(q5, zJ G 4 f)]) H12 → va_D (zA M0 H0) ([(q5, zJ G 4 f)]) → va_S (zA M0 H0) H0 H12 locs → lv_has ls 12 [(8, .int (iI (((t : Nat) : Int) - 1))), (6, .long (lI su)), (5, .int (iI rest)), (4, .int (iI ((row : Nat) : Int))), (3, .ref q5), (2, .int (iI ((mn : Nat) : Int))), (0, .ref g), (1, .int (iI z))] → W pp l ee rm_m_X5_row ss mm args below meth cd H12 locs 1 4 Q (F0 mm 62 ls []) := by
                intro dlp11
                induction dlp11 using Nat.strongRecOn with
                | ind dlp11 ihlp11 =>
                  intro t rest su f hdlp11 ht hrest hs3 hsu H12 locs ls  hP hD hS hl
                  have hin := fmV_in (dv := dv) hp d (row : Int) hdv
                  have hin3 := fmV_in (dv := dv) hp t rest (fun j hj => hdv j (by omega))
                  refine lv_iload hx hb dX5_row_62 (lv_at hl 0 rfl) ?_
                  refine z_zlt (tgt := 135) hx hb dX5_row_64 (by decide) (by omega) (fun c13 => ?_) (fun c13 => ?_)
                  · have et : t = 0 := by omega
                    rw [et] at hs3
                    have hs4 : su = fmV p dv d row := by rw [← hs3]; simp [fmV]
                    have hmd := md_in hp su
                    refine lv_lload hx hb dX5_row_135 (lv_at hl 1 rfl) ?_
                    refine lv_aload_n hx hb dX5_row_137 rfl (lv_at hl 6 rfl) ?_
                    refine z_get hC (k := 4) rfl in_X5 (zo hS hg0 id) (by decide) q965 (fun _ h => h) rfl dX5_row_138 ?_
                    refine z_getn hC (k := 0) rfl in_X1 (zo hS hx0 id) (by decide) q150 (fun _ h => h) rfl dX5_row_141 ?_
                    refine z_i2l hx hb dX5_row_144 (by omega) ?_
                    refine z_lrem hx hb (z := su % p) dX5_row_145 (by omega) rfl ?_
                    refine lv_iload_n hx hb dX5_row_146 rfl (lv_at hl 7 rfl) ?_
                    refine z_i2l hx hb dX5_row_147 (by omega) ?_
                    refine z_lcmp hx hb dX5_row_148 (by unfold ziL; omega) ?_
                    refine z_zne (tgt := 155) hx hb dX5_row_149 (by decide) (by have := lcp_in (su % p) z; omega) (fun cq => ?_) (fun cq => ?_)
                    · refine z_iinc (z := ((row + 1 : Nat) : Int)) (lv' := [(4, .int (iI ((row + 1 : Nat) : Int))), (8, .int (iI (((t : Nat) : Int) - 1))), (6, .long (lI su)), (5, .int (iI rest)), (3, .ref q5), (2, .int (iI ((mn : Nat) : Int))), (0, .ref g), (1, .int (iI z))]) hx hb dX5_row_155 hl (k := 3) rfl (by omega) (by decide) rfl (fun ls hl => ?_)
                      refine lv_goto (tgt := 38) hx hb dX5_row_158 (by decide) ?_
                      exact W.widen (by omega) (by omega) (ihlp7 (mn - (row + 1)) (by omega) (row + 1) f rfl (by omega) (by rw [← hr2, fst_miss (k := row) (by rw [← hs4]; exact beq_f (fun e => cq ((lcp_0 _ _).mpr e))) (by omega)]; rw [show mn - (row + 1) = mn - row - 1 by omega]) _ _ _  hP hD hS (lv_sub hl [0, 4, 5, 6, 7] rfl))
                    · refine lv_iload hx hb dX5_row_152 (lv_at hl 3 rfl) ?_
                      exact z_iret hC hrt hlk hQ hS ⟨zle (z := 1) rfl (by omega), zle (z := 4) rfl (by omega)⟩ ⟨_, rfl, by rw [← hr2]; exact (fst_hit (by rw [← hs4]; exact beq_t ((lcp_0 _ _).mp cq)) (by omega)).symm⟩ dX5_row_154
                  · obtain ⟨u, rfl⟩ : ∃ u : Nat, t = u + 1 := ⟨t - 1, by omega⟩
                    have etop : ((u + 1 : Nat) : Int) - 1 = (u : Int) := by omega
                    rw [etop] at hl
                    have hmd := md_in hp rest
                    have hdd := hdv u (by omega)
                    have hz3 := zmul3 (a := dv u) (b := rest % p) (c := rest % p) ⟨by omega, hdd.2⟩ hmd hmd hp7
                    have em : Int.tmod rest p = rest % p := Int.tmod_eq_emod_of_nonneg hrest.1
                    have ed : Int.tdiv rest p = rest / p := Int.tdiv_eq_ediv_of_nonneg hrest.1
                    have hd1 : 0 ≤ rest / p := Int.ediv_nonneg hrest.1 (by omega)
                    have hd2 : rest / p ≤ rest := Int.ediv_le_self p hrest.1
                    have hin4 := fmV_in (dv := dv) hp u (rest / p) (fun j hj => hdv j (by omega))
                    simp only [fmV] at hs3
                    refine lv_iload hx hb dX5_row_67 (lv_at hl 2 rfl) ?_
                    refine lv_aload_n hx hb dX5_row_69 rfl (lv_at hl 6 rfl) ?_
                    refine z_get hC (k := 4) rfl in_X5 (zo hS hg0 id) (by decide) q965 (fun _ h => h) rfl dX5_row_70 ?_
                    refine z_getn hC (k := 0) rfl in_X1 (zo hS hx0 id) (by decide) q150 (fun _ h => h) rfl dX5_row_73 ?_
                    refine z_rem hx hb (z := Int.tmod rest p) dX5_row_76 (by omega) rfl ?_
                    refine z_top (b := rest % p) (em) ?_
                    refine lv_istore (lv' := [(9, .int (iI (rest % p))), (8, .int (iI ((u : Nat) : Int))), (6, .long (lI su)), (5, .int (iI rest)), (4, .int (iI ((row : Nat) : Int))), (3, .ref q5), (2, .int (iI ((mn : Nat) : Int))), (0, .ref g), (1, .int (iI z))]) hx hb dX5_row_77 hl (by decide) rfl (fun ls hl => ?_)
                    refine lv_aload_n hx hb dX5_row_79 rfl (lv_at hl 5 rfl) ?_
                    refine lv_iload hx hb dX5_row_80 (lv_at hl 1 rfl) ?_
                    refine lv_aload_n hx hb dX5_row_82 rfl (lv_at hl 7 rfl) ?_
                    refine z_get hC (k := 1) rfl in_X5 (zo hS hg0 id) (by decide) q958 (fun _ h => h) rfl dX5_row_83 ?_
                    refine lv_iload hx hb dX5_row_86 (lv_at hl 1 rfl) ?_
                    refine z_go 1 4 (z_runV (As := [.int (iI ((u : Nat) : Int))]) (rest := [.int (iI ((u : Nat) : Int)), .ref q5]) hC hml hl.1 (m_J2_get hE H12 (hO.ext0 (zS_F hS)) dl d _ da dm u (hL0.ext0 (zS_F hS)) (by omega)) (lw_V q424 q373 q374 q65 q375) rfl nd_J2_get rfl (z_rv hC (ci := 8) rfl (zo hS hL0.1 id) rfl) rfl (Nat.le_of_ble_eq_true rfl) ⟨Nat.le_of_ble_eq_true rfl, Nat.le_of_ble_eq_true rfl⟩ ⟨zfit (k := 0) (z := 1) rfl rfl (by omega), zfit (k := 0) (z := 4) rfl rfl (by omega)⟩ dX5_row_88) ⟨zad (k := 0) rfl (by omega), zad (k := 0) rfl (by omega)⟩ hS (fun _ z => z.elim) (fun r H14 locs hp hF hS1 => ?_)
                    obtain ⟨_, rfl, rfl⟩ := hp
                    have hP := zpk hP hF
                    have hP : va_P G.1 zCl ([(q5, zJ G 4 f)]) H14 := hP
                    have hD : va_D (zA M0 H0) ([(q5, zJ G 4 f)]) := hD
                    have hS := hS1
                    refine z_castC hC (hO.ext0 (zS_F hS)) (by omega) q425 dX5_row_91 ?_
                    refine z_go 1 4 (z_runV (As := []) (rest := [.int (iI ((u : Nat) : Int)), .ref q5]) hC hml hl.1 (m_J19_intValue hE H14 (hO.ext0 (zS_F hS)) ((dv u).toNat + 128) (by omega)) (lw_V q426 q427 q428 q90 q429) rfl nd_J19_intValue rfl (z_cc hE hC.w (hO.ext0 (zS_F hS)) (by omega)) rfl (Nat.le_of_ble_eq_true rfl) ⟨Nat.le_of_ble_eq_true rfl, Nat.le_of_ble_eq_true rfl⟩ ⟨zfit (k := 0) (z := 1) rfl rfl (by omega), zfit (k := 0) (z := 4) rfl rfl (by omega)⟩ dX5_row_94) ⟨zad (k := 0) rfl (by omega), zad (k := 0) rfl (by omega)⟩ hS (fun _ z => z.elim) (fun r H15 locs hp hF hS1 => ?_)
                    obtain ⟨_, rfl, rfl⟩ := hp
                    have hP := zpk hP hF
                    have hP : va_P G.1 zCl ([(q5, zJ G 4 f)]) H15 := hP
                    have hD : va_D (zA M0 H0) ([(q5, zJ G 4 f)]) := hD
                    have hS := hS1
                    refine z_top (b := dv u) (by omega) ?_
                    refine z_i2l hx hb dX5_row_97 (by omega) ?_
                    refine lv_iload hx hb dX5_row_98 (lv_at hl 0 rfl) ?_
                    refine z_i2l hx hb dX5_row_100 (by omega) ?_
                    refine z_lmul hx hb (z := (dv u) * (rest % p)) dX5_row_101 rfl ?_
                    refine lv_iload hx hb dX5_row_102 (lv_at hl 0 rfl) ?_
                    refine z_i2l hx hb dX5_row_104 (by omega) ?_
                    refine z_lmul hx hb (z := ((dv u) * (rest % p)) * (rest % p)) dX5_row_105 rfl ?_
                    refine lv_dup2_x2_2 hx hb dX5_row_106 rfl rfl rfl ?_
                    refine z_last hC hP hD hS 0 (k := u) rfl rfl (by omega) (ws' := [(q5, zJ G 4 (va_up f u (((dv u) * (rest % p)) * (rest % p))))]) rfl dX5_row_107 (fun H16 locs hP hD hS => ?_)
                    refine lv_lstore (lv' := [(10, .long (lI (((dv u) * (rest % p)) * (rest % p)))), (9, .int (iI (rest % p))), (8, .int (iI ((u : Nat) : Int))), (6, .long (lI su)), (5, .int (iI rest)), (4, .int (iI ((row : Nat) : Int))), (3, .ref q5), (2, .int (iI ((mn : Nat) : Int))), (0, .ref g), (1, .int (iI z))]) hx hb dX5_row_108 hl (by decide) rfl (fun ls hl => ?_)
                    refine lv_lload hx hb dX5_row_110 (lv_at hl 3 rfl) ?_
                    refine lv_lload hx hb dX5_row_112 (lv_at hl 0 rfl) ?_
                    refine z_ladd hx hb (z := su + (((dv u) * (rest % p)) * (rest % p))) dX5_row_114 rfl ?_
                    refine lv_lstore (lv' := [(6, .long (lI (su + (((dv u) * (rest % p)) * (rest % p))))), (10, .long (lI (((dv u) * (rest % p)) * (rest % p)))), (9, .int (iI (rest % p))), (8, .int (iI ((u : Nat) : Int))), (5, .int (iI rest)), (4, .int (iI ((row : Nat) : Int))), (3, .ref q5), (2, .int (iI ((mn : Nat) : Int))), (0, .ref g), (1, .int (iI z))]) hx hb dX5_row_115 hl (by decide) rfl (fun ls hl => ?_)
                    refine lv_iload hx hb dX5_row_117 (lv_at hl 4 rfl) ?_
                    refine lv_aload_n hx hb dX5_row_119 rfl (lv_at hl 8 rfl) ?_
                    refine z_get hC (k := 4) rfl in_X5 (zo hS hg0 id) (by decide) q965 (fun _ h => h) rfl dX5_row_120 ?_
                    refine z_getn hC (k := 0) rfl in_X1 (zo hS hx0 id) (by decide) q150 (fun _ h => h) rfl dX5_row_123 ?_
                    refine z_div hx hb (z := Int.tdiv rest p) dX5_row_126 (by omega) rfl ?_
                    refine z_top (b := rest / p) (ed) ?_
                    refine lv_istore (lv' := [(5, .int (iI (rest / p))), (6, .long (lI (su + (((dv u) * (rest % p)) * (rest % p))))), (10, .long (lI (((dv u) * (rest % p)) * (rest % p)))), (9, .int (iI (rest % p))), (8, .int (iI ((u : Nat) : Int))), (4, .int (iI ((row : Nat) : Int))), (3, .ref q5), (2, .int (iI ((mn : Nat) : Int))), (0, .ref g), (1, .int (iI z))]) hx hb dX5_row_127 hl (by decide) rfl (fun ls hl => ?_)
                    refine z_iinc (z := ((u : Nat) : Int) + (-1)) (lv' := [(8, .int (iI (((u : Nat) : Int) + (-1)))), (5, .int (iI (rest / p))), (6, .long (lI (su + (((dv u) * (rest % p)) * (rest % p))))), (10, .long (lI (((dv u) * (rest % p)) * (rest % p)))), (9, .int (iI (rest % p))), (4, .int (iI ((row : Nat) : Int))), (3, .ref q5), (2, .int (iI ((mn : Nat) : Int))), (0, .ref g), (1, .int (iI z))]) hx hb dX5_row_129 hl (k := 4) rfl (by omega) (by decide) rfl (fun ls hl => ?_)
                    refine lv_goto (tgt := 62) hx hb dX5_row_132 (by decide) ?_
                    exact W.widen (by omega) (by omega) (ihlp11 (u) (by omega) u (rest / p) (su + dv u * (rest % p) * (rest % p)) (va_up f u (((dv u) * (rest % p)) * (rest % p))) rfl (by omega) (⟨by omega, by omega⟩) (by rw [← hs3]; omega) (by omega) _ _ _  hP hD hS (lv_sub hl [0, 2, 1, 5, 6, 7, 8, 9] rfl))
              exact W.widen (by omega) (by omega) (lp11 _ d ((row : Nat) : Int) 0 f1 rfl (Nat.le_refl _) (⟨by omega, by omega⟩) (by rw [Int.zero_add]) (by omega) _ _ _  hP hD hS hl)
        exact W.widen (by omega) (by omega) (lp7 _ 1 (fun _ => 0) rfl (⟨by omega, by omega⟩) (by unfold rwV; rw [hmn]; rfl) _ _ _  hP hD hS hl)
      · have hpk := pw_in hp k (by omega)
        have hpk1 := pw_in hp (k + 1) (by omega)
        rw [Int.pow_succ] at hpk1
        rw [← hw9] at hpk hpk1
        refine lv_iload_n hx hb dX5_row_15 rfl (lv_at hl 1 rfl) ?_
        refine lv_aload_n hx hb dX5_row_16 rfl (lv_at hl 2 rfl) ?_
        refine z_get hC (k := 4) rfl in_X5 (zo hS hg0 id) (by decide) q965 (fun _ h => h) rfl dX5_row_17 ?_
        refine z_getn hC (k := 0) rfl in_X1 (zo hS hx0 id) (by decide) q150 (fun _ h => h) rfl dX5_row_20 ?_
        refine z_mul hx hb (z := w9 * p) dX5_row_23 rfl ?_
        refine lv_istore_n (lv' := [(2, .int (iI (w9 * p))), (3, .int (iI ((k : Nat) : Int))), (0, .ref g), (1, .int (iI z))]) hx hb dX5_row_24 rfl hl (by decide) rfl (fun ls hl => ?_)
        refine z_iinc (z := ((k + 1 : Nat) : Int)) (lv' := [(3, .int (iI ((k + 1 : Nat) : Int))), (2, .int (iI (w9 * p))), (0, .ref g), (1, .int (iI z))]) hx hb dX5_row_25 hl (k := 1) rfl (by omega) (by decide) rfl (fun ls hl => ?_)
        refine lv_goto (tgt := 4) hx hb dX5_row_28 (by decide) ?_
        exact W.widen (by omega) (by omega) (ihlp1 (d - (k + 1)) (by omega) (k + 1) (w9 * p) rfl (by omega) (by rw [hw9, Int.pow_succ]) _ _ _  hP hD hS hl)
  exact W.widen (by omega) (by omega) (lp1 _ 0 1 rfl (Nat.zero_le _) ((Int.pow_zero p).symm) _ _ _  hP hD hS hl)

