/-! THE MODEL: which algebras match -/
set_option maxRecDepth 100000
theorem fsI_lin {g h : Nat → Int} {C : Int} (hC : 0 ≤ C) (hh : ∀ t, -1 ≤ h t) (e : ∀ t, g t = if h t = -1 then -1 else C + h t) : ∀ {f k : Nat}, fsI g f k = if fsI h f k = -1 then -1 else C + fsI h f k
  | 0, _ => by simp [fsI]
  | f + 1, k => by
    have h1 := hh k
    simp only [fsI]
    rw [e k]
    by_cases c : h k = -1
    · simp only [c, if_true]
      exact fsI_lin hC hh e
    · simp only [c, if_false]
      exact if_neg (by omega)
theorem fsI_ge {g : Nat → Int} (h : ∀ t, -1 ≤ g t) : ∀ {f k : Nat}, -1 ≤ fsI g f k
  | 0, _ => Int.le_refl _
  | f + 1, k => by
    simp only [fsI]
    split
    · exact fsI_ge h
    · exact h k
theorem mfV_ge {p : Int} {d : Nat} {da db : Nat → Int} : ∀ {r f u o : Nat}, -1 ≤ mfV p d da db r f u o
  | 0, _, _, o => by simp only [mfV]; omega
  | r + 1, f, u, o => by
    simp only [mfV]
    refine fsI_ge (fun t => ?_)
    split
    · decide
    · exact mfV_ge
/-- what stands ahead of an order counts by itself -/
theorem mfV_o {p : Int} {d : Nat} {da db : Nat → Int} : ∀ {r f u o : Nat}, mfV p d da db r f u o = if mfV p d da db r f u 0 = -1 then -1 else ((o * 10 ^ r : Nat) : Int) + mfV p d da db r f u 0
  | 0, _, _, o => by simp [mfV]
  | r + 1, f, u, o => by
    simp only [mfV]
    refine fsI_lin (Int.natCast_nonneg _) (fun t => ?_) (fun t => ?_)
    · split
      · decide
      · exact mfV_ge
    · by_cases c : u / 2 ^ t % 2 = 1 ∨ scN p (da f) (db t) = -1
      · rw [if_pos c, if_pos c, if_pos rfl]
      · rw [if_neg c, if_neg c, mfV_o (o := 10 * o + t), mfV_o (o := 10 * 0 + t)]
        have h1 := mfV_ge (p := p) (d := d) (da := da) (db := db) (r := r) (f := f + 1) (u := u ||| 2 ^ t) (o := 0)
        by_cases c2 : mfV p d da db r (f + 1) (u ||| 2 ^ t) 0 = -1
        · rw [if_pos c2, if_pos c2, if_pos rfl]
        · have e1 : (10 * o + t) * 10 ^ r = o * 10 ^ (r + 1) + (10 * 0 + t) * 10 ^ r := by
            rw [Nat.pow_succ, Nat.mul_zero, Nat.zero_add, Nat.add_mul]
            congr 1
            rw [Nat.mul_comm 10 o, Nat.mul_assoc, Nat.mul_comm 10 (10 ^ r)]
          rw [if_neg c2, if_neg c2, if_neg (by omega), e1]
          omega
abbrev rm_m_X3_orderNow_0 : Room := { frames := 0, cells := 0, slots := 0, locals := 0 }
set_option maxHeartbeats 4000000 in
theorem m_X3_orderNow_0 {l : Launch} {s0 : State} {G : zG} (hE : zE l s0 G) (H0 : Heap) (hO : zO s0 H0) (μ : Ro → Nat) (σ : St) (th : Int) (k k2 f u : Nat) (hh : HM G s0 μ σ th H0) (hk : k < St_na σ ∧ k2 < St_na σ) (hd : St_d σ k2 = St_d σ k ∧ f + 0 = St_d σ k) (hu : u ≤ 15) : zM l s0 yX3_orderNow cX3_orderNow 8 (some FieldType.int) rm_m_X3_orderNow_0 [.ref (μ (0, 0, 0)), .ref (μ (6, k, 0)), .ref (μ (6, k2, 0)), .int (iI ((f : Nat) : Int)), .int (iI ((u : Nat) : Int))] H0 M0 (ri (fun y _ => y = mfV (St_p σ) (St_d σ k) (St_dv σ k) (St_dv σ k2) 0 f u 0)) := by
  refine z_met hE (by decide +kernel) (Nat.le_of_ble_eq_true rfl) ?_
  intro pp ee ss mm args below meth cd Q ls hC hml hrt hlk hnm hH hQ hS hl
  have hx := hC.x
  have hb := hC.b
  have hl : lv_has ls 8 [(0, .ref (μ (0, 0, 0))), (1, .ref (μ (6, k, 0))), (2, .ref (μ (6, k2, 0))), (3, .int (iI ((f : Nat) : Int))), (4, .int (iI ((u : Nat) : Int)))] := hl
  have hP : va_P G.1 zCl [] H0 := va_nil
  have hD : va_D (zA M0 H0) [] := va_nilD
  have hH1 := hh
  obtain ⟨hp, hna, hal, hne9, hel9, hmr9⟩ := id hh.ok
  have hp7 : 0 < St_p σ ∧ St_p σ ≤ 7 := by rcases hp with h | h | h <;> rw [h] <;> decide
  have hd4 := (hal k hk.1).2.1
  have hH1 : HM G s0 μ σ th H0 := hh.ext0 hE (zS_F hS)
  have hAk := hH1.al (k := k) (by omega)
  have hn16k := hH1.n (k := k) (by omega)
  have hH1 : HM G s0 μ σ th H0 := hh.ext0 hE (zS_F hS)
  have hAk2 := hH1.al (k := k2) (by omega)
  have hn16k2 := hH1.n (k := k2) (by omega)
  refine lv_iload_n hx hb dX3_orderNow_0 rfl (lv_at hl 3 rfl) ?_
  refine lv_aload_n hx hb dX3_orderNow_1 rfl (lv_at hl 1 rfl) ?_
  refine z_get hC (k := 3) rfl in_X6 hAk.1 (by decide) q1555 (fun _ h => h) rfl dX3_orderNow_2 ?_
  refine z_cne (tgt := 10) hx hb dX3_orderNow_5 (by decide) (by omega) (fun c1 => ?_) (fun c1 => ?_)
  · omega
  · refine lv_iconst (v := iI 0) hx hb dX3_orderNow_8 rfl ?_
    exact z_iret hC hrt hlk hQ hS ⟨zle (z := 0) rfl (by omega), zle (z := 0) rfl (by omega)⟩ ⟨_, rfl, rfl⟩ dX3_orderNow_9

abbrev rm_m_X3_orderNow_1 : Room := { frames := 2, cells := 0, slots := 0, locals := 44 }
set_option maxHeartbeats 4000000 in
theorem m_X3_orderNow_1 {l : Launch} {s0 : State} {G : zG} (hE : zE l s0 G) (H0 : Heap) (hO : zO s0 H0) (μ : Ro → Nat) (σ : St) (th : Int) (k k2 f u : Nat) (hh : HM G s0 μ σ th H0) (hk : k < St_na σ ∧ k2 < St_na σ) (hd : St_d σ k2 = St_d σ k ∧ f + 1 = St_d σ k) (hu : u ≤ 15) : zM l s0 yX3_orderNow cX3_orderNow 8 (some FieldType.int) rm_m_X3_orderNow_1 [.ref (μ (0, 0, 0)), .ref (μ (6, k, 0)), .ref (μ (6, k2, 0)), .int (iI ((f : Nat) : Int)), .int (iI ((u : Nat) : Int))] H0 M0 (ri (fun y _ => y = mfV (St_p σ) (St_d σ k) (St_dv σ k) (St_dv σ k2) 1 f u 0)) := by
  refine z_met hE (by decide +kernel) (Nat.le_of_ble_eq_true rfl) ?_
  intro pp ee ss mm args below meth cd Q ls hC hml hrt hlk hnm hH hQ hS hl
  have hx := hC.x
  have hb := hC.b
  have hl : lv_has ls 8 [(0, .ref (μ (0, 0, 0))), (1, .ref (μ (6, k, 0))), (2, .ref (μ (6, k2, 0))), (3, .int (iI ((f : Nat) : Int))), (4, .int (iI ((u : Nat) : Int)))] := hl
  have hP : va_P G.1 zCl [] H0 := va_nil
  have hD : va_D (zA M0 H0) [] := va_nilD
  have hH1 := hh
  obtain ⟨hp, hna, hal, hne9, hel9, hmr9⟩ := id hh.ok
  have hp7 : 0 < St_p σ ∧ St_p σ ≤ 7 := by rcases hp with h | h | h <;> rw [h] <;> decide
  have hd4 := (hal k hk.1).2.1
  have hH1 : HM G s0 μ σ th H0 := hh.ext0 hE (zS_F hS)
  have hAk := hH1.al (k := k) (by omega)
  have hn16k := hH1.n (k := k) (by omega)
  have hH1 : HM G s0 μ σ th H0 := hh.ext0 hE (zS_F hS)
  have hAk2 := hH1.al (k := k2) (by omega)
  have hn16k2 := hH1.n (k := k2) (by omega)
  refine lv_iload_n hx hb dX3_orderNow_0 rfl (lv_at hl 3 rfl) ?_
  refine lv_aload_n hx hb dX3_orderNow_1 rfl (lv_at hl 1 rfl) ?_
  refine z_get hC (k := 3) rfl in_X6 hAk.1 (by decide) q1555 (fun _ h => h) rfl dX3_orderNow_2 ?_
  refine z_cne (tgt := 10) hx hb dX3_orderNow_5 (by decide) (by omega) (fun c1 => ?_) (fun c1 => ?_)
  · refine lv_iconst (v := iI 1) hx hb dX3_orderNow_10 rfl ?_
    refine lv_istore (lv' := [(5, .int (iI 1)), (0, .ref (μ (0, 0, 0))), (1, .ref (μ (6, k, 0))), (2, .ref (μ (6, k2, 0))), (3, .int (iI ((f : Nat) : Int))), (4, .int (iI ((u : Nat) : Int)))]) hx hb dX3_orderNow_11 hl (by decide) rfl (fun ls hl => ?_)
    refine lv_iload_n hx hb dX3_orderNow_13 rfl (lv_at hl 4 rfl) ?_
    refine lv_iconst (v := iI 1) hx hb dX3_orderNow_14 rfl ?_
    refine z_add hx hb (z := ((f : Nat) : Int) + 1) dX3_orderNow_15 rfl ?_
    refine lv_istore (lv' := [(6, .int (iI (((f : Nat) : Int) + 1))), (5, .int (iI 1)), (0, .ref (μ (0, 0, 0))), (1, .ref (μ (6, k, 0))), (2, .ref (μ (6, k2, 0))), (3, .int (iI ((f : Nat) : Int))), (4, .int (iI ((u : Nat) : Int)))]) hx hb dX3_orderNow_16 hl (by decide) rfl (fun ls hl => ?_)
    have lp2 : ∀ (dlp2 : Nat) (c9 : Nat), St_d σ k - c9 = dlp2 → (f + 1 + c9 ≤ St_d σ k) → ∀ (H3 : Heap) (locs : List Loc) (ls : Array Slot), va_P G.1 zCl ([]) H3 → va_D (zA M0 H0) ([]) → va_S (zA M0 H0) H0 H3 locs → lv_has ls 8 [(6, .int (iI ((f + 1 + c9 : Nat) : Int))), (5, .int (iI ((10 ^ c9 : Nat) : Int))), (0, .ref (μ (0, 0, 0))), (1, .ref (μ (6, k, 0))), (2, .ref (μ (6, k2, 0))), (3, .int (iI ((f : Nat) : Int))), (4, .int (iI ((u : Nat) : Int)))] → W pp l ee rm_m_X3_orderNow_1 ss mm args below meth cd H3 locs 0 0 Q (F0 mm 18 ls []) := by
      intro dlp2
      induction dlp2 using Nat.strongRecOn with
      | ind dlp2 ihlp2 =>
        intro c9 hdlp2 hc9 H3 locs ls  hP hD hS hl
        have hH1 : HM G s0 μ σ th H3 := hh.ext0 hE (zS_F hS)
        have hAk := hH1.al (k := k) (by omega)
        have hn16k := hH1.n (k := k) (by omega)
        refine lv_iload hx hb dX3_orderNow_18 (lv_at hl 0 rfl) ?_
        refine lv_aload_n hx hb dX3_orderNow_20 rfl (lv_at hl 3 rfl) ?_
        refine z_get hC (k := 3) rfl in_X6 hAk.1 (by decide) q1555 (fun _ h => h) rfl dX3_orderNow_21 ?_
        refine z_cge (tgt := 40) hx hb dX3_orderNow_24 (by decide) (by omega) (fun c4 => ?_) (fun c4 => ?_)
        · have ecr : c9 = 0 := by omega
          subst ecr
          refine lv_iconst (v := iI 0) hx hb dX3_orderNow_40 rfl ?_
          refine lv_istore (lv' := [(6, .int (iI 0)), (5, .int (iI ((10 ^ 0 : Nat) : Int))), (0, .ref (μ (0, 0, 0))), (1, .ref (μ (6, k, 0))), (2, .ref (μ (6, k2, 0))), (3, .int (iI ((f : Nat) : Int))), (4, .int (iI ((u : Nat) : Int)))]) hx hb dX3_orderNow_41 hl (by decide) rfl (fun ls hl => ?_)
          have lp5 : ∀ (dlp5 : Nat) (t : Nat), St_d σ k - t = dlp5 → (t ≤ St_d σ k) → (fsI (fun t => if u / 2 ^ t % 2 = 1 ∨ scN (St_p σ) (St_dv σ k f) (St_dv σ k2 t) = -1 then -1 else mfV (St_p σ) (St_d σ k) (St_dv σ k) (St_dv σ k2) 0 (f + 1) (u ||| 2 ^ t) (10 * 0 + t)) (St_d σ k - t) t = mfV (St_p σ) (St_d σ k) (St_dv σ k) (St_dv σ k2) 1 f u 0) → ∀ (H6 : Heap) (locs : List Loc) (ls : Array Slot), va_P G.1 zCl ([]) H6 → va_D (zA M0 H0) ([]) → va_S (zA M0 H0) H0 H6 locs → lv_has ls 8 [(6, .int (iI ((t : Nat) : Int))), (5, .int (iI ((10 ^ 0 : Nat) : Int))), (0, .ref (μ (0, 0, 0))), (1, .ref (μ (6, k, 0))), (2, .ref (μ (6, k2, 0))), (3, .int (iI ((f : Nat) : Int))), (4, .int (iI ((u : Nat) : Int)))] → W pp l ee rm_m_X3_orderNow_1 ss mm args below meth cd H6 locs 0 0 Q (F0 mm 43 ls []) := by
            intro dlp5
            induction dlp5 using Nat.strongRecOn with
            | ind dlp5 ihlp5 =>
              intro t hdlp5 ht hf9 H6 locs ls  hP hD hS hl
              have hH1 : HM G s0 μ σ th H6 := hh.ext0 hE (zS_F hS)
              have hAk := hH1.al (k := k) (by omega)
              have hn16k := hH1.n (k := k) (by omega)
              have hH1 : HM G s0 μ σ th H6 := hh.ext0 hE (zS_F hS)
              have hAk2 := hH1.al (k := k2) (by omega)
              have hn16k2 := hH1.n (k := k2) (by omega)
              refine lv_iload hx hb dX3_orderNow_43 (lv_at hl 0 rfl) ?_
              refine lv_aload_n hx hb dX3_orderNow_45 rfl (lv_at hl 4 rfl) ?_
              refine z_get hC (k := 3) rfl in_X6 hAk2.1 (by decide) q1555 (fun _ h => h) rfl dX3_orderNow_46 ?_
              refine z_cge (tgt := 126) hx hb dX3_orderNow_49 (by decide) (by omega) (fun c7 => ?_) (fun c7 => ?_)
              · have et : St_d σ k - t = 0 := by omega
                refine lv_iconst (v := iI (-1)) hx hb dX3_orderNow_126 rfl ?_
                exact z_iret hC hrt hlk hQ hS ⟨zle (z := 0) rfl (by omega), zle (z := 0) rfl (by omega)⟩ ⟨_, rfl, by rw [← hf9, et]; rfl⟩ dX3_orderNow_127
              · have ht3 : t < 4 := by omega
                have hb1 := Nat.and_one_is_mod (u / 2 ^ t)
                refine lv_iload hx hb dX3_orderNow_52 (lv_at hl 6 rfl) ?_
                refine lv_iload hx hb dX3_orderNow_54 (lv_at hl 0 rfl) ?_
                refine z_shr hx hb (i := u) (j := t) (n := u / 2 ^ t) dX3_orderNow_56 rfl rfl (by omega) rfl ?_
                refine lv_iconst (v := iI 1) hx hb dX3_orderNow_57 rfl ?_
                refine z_and hx hb (n := (u / 2 ^ t) &&& 1) dX3_orderNow_58 rfl rfl rfl ?_
                refine z_top (b := ((u / 2 ^ t % 2 : Nat) : Int)) (by omega) ?_
                refine lv_iconst (v := iI 1) hx hb dX3_orderNow_59 rfl ?_
                refine z_ceq (tgt := 120) hx hb dX3_orderNow_60 (by decide) (by omega) (fun c8 => ?_) (fun c8 => ?_)
                · refine z_iinc (z := ((t + 1 : Nat) : Int)) (lv' := [(6, .int (iI ((t + 1 : Nat) : Int))), (5, .int (iI ((10 ^ 0 : Nat) : Int))), (0, .ref (μ (0, 0, 0))), (1, .ref (μ (6, k, 0))), (2, .ref (μ (6, k2, 0))), (3, .int (iI ((f : Nat) : Int))), (4, .int (iI ((u : Nat) : Int)))]) hx hb dX3_orderNow_120 hl (k := 0) rfl (by omega) (by decide) rfl (fun ls hl => ?_)
                  refine lv_goto (tgt := 43) hx hb dX3_orderNow_123 (by decide) ?_
                  exact W.widen (by omega) (by omega) (ihlp5 (St_d σ k - (t + 1)) (by omega) (t + 1) rfl (by omega) (by rw [← hf9, fsI_miss (k := t) (if_pos (Or.inl (by omega))) (by omega), show St_d σ k - (t + 1) = St_d σ k - t - 1 by omega]) _ _ _  hP hD hS hl)
                · have edf : dvA σ k f = St_dv σ k f := if_pos (by omega)
                  have edt : dvA σ k2 t = St_dv σ k2 t := if_pos (by omega)
                  have hdf := (hal k hk.1).2.2 f (by omega)
                  have hdt := (hal k2 hk.2).2.2 t (by omega)
                  refine lv_aload_n hx hb dX3_orderNow_63 rfl (lv_at hl 2 rfl) ?_
                  refine lv_aload_n hx hb dX3_orderNow_64 rfl (lv_at hl 3 rfl) ?_
                  refine z_get hC (k := 1) rfl in_X6 hAk.1 (by decide) q1551 (fun _ h => h) rfl dX3_orderNow_65 ?_
                  refine lv_iload_n hx hb dX3_orderNow_68 rfl (lv_at hl 5 rfl) ?_
                  refine z_iald hC hAk.2.1 (k := f) rfl (by omega) (y := (dvA σ k) f) rfl dX3_orderNow_69 ?_
                  refine z_top (b := St_dv σ k f) (edf) ?_
                  refine lv_aload_n hx hb dX3_orderNow_70 rfl (lv_at hl 4 rfl) ?_
                  refine z_get hC (k := 1) rfl in_X6 hAk2.1 (by decide) q1551 (fun _ h => h) rfl dX3_orderNow_71 ?_
                  refine lv_iload hx hb dX3_orderNow_74 (lv_at hl 0 rfl) ?_
                  refine z_iald hC hAk2.2.1 (k := t) rfl (by omega) (y := (dvA σ k2) t) rfl dX3_orderNow_76 ?_
                  refine z_top (b := St_dv σ k2 t) (edt) ?_
                  have hH1 : HM G s0 μ σ th H6 := hh.ext0 hE (zS_F hS)
                  refine z_go 0 0 (z_runV (As := [.int (iI (St_dv σ k f)), .int (iI (St_dv σ k2 t))]) (rest := []) hC hml hl.1 (m_X3_scaleNow hE H6 (hO.ext0 (zS_F hS)) μ σ th (St_dv σ k f) (St_dv σ k2 t) hH1 ⟨⟨by omega, by omega⟩, by omega, by omega⟩) (lw_V q1930 q1932 qs60 q67 q1933) rfl nd_X3_scaleNow rfl (z_rv hC (ci := 2) rfl hH1.2.2.1.1 rfl) rfl (Nat.le_of_ble_eq_true rfl) ⟨Nat.le_of_ble_eq_true rfl, Nat.le_of_ble_eq_true rfl⟩ ⟨zfit (k := 0) (z := 0) rfl rfl (by omega), zfit (k := 0) (z := 0) rfl rfl (by omega)⟩ dX3_orderNow_77) ⟨zad (k := 0) rfl (by omega), zad (k := 0) rfl (by omega)⟩ hS (fun _ z => z.elim) (fun r H9 locs hp hF hS1 => ?_)
                  obtain ⟨_, rfl, rfl⟩ := hp
                  have hP := zpk hP hF
                  have hP : va_P G.1 zCl ([]) H9 := hP
                  have hD : va_D (zA M0 H0) ([]) := hD
                  have hS := hS1
                  have hsc : -1 ≤ scN (St_p σ) (St_dv σ k f) (St_dv σ k2 t) ∧ scN (St_p σ) (St_dv σ k f) (St_dv σ k2 t) ≤ 8 := by have := fst_in (fun s => (St_dv σ k2 t * (s : Int) * (s : Int)) % St_p σ == St_dv σ k f) ((St_p σ).toNat - 1) 1; unfold scN; omega
                  refine lv_iconst (v := iI (-1)) hx hb dX3_orderNow_80 rfl ?_
                  refine z_cne (tgt := 87) hx hb dX3_orderNow_81 (by decide) (by omega) (fun c10 => ?_) (fun c10 => ?_)
                  · have h2t : 2 ^ t ≤ 8 := Nat.le_trans (Nat.pow_le_pow_right (by decide) (show t ≤ 3 by omega)) (by decide)
                    have hor : u ||| 2 ^ t < 16 := Nat.or_lt_two_pow (n := 4) (by omega) (by omega)
                    have hmf : -1 ≤ mfV (St_p σ) (St_d σ k) (St_dv σ k) (St_dv σ k2) 0 (f + 1) (u ||| 2 ^ t) 0 ∧ mfV (St_p σ) (St_d σ k) (St_dv σ k) (St_dv σ k2) 0 (f + 1) (u ||| 2 ^ t) 0 ≤ 9999 := mfV_in hd4 (by decide)
                    have hlin : mfV (St_p σ) (St_d σ k) (St_dv σ k) (St_dv σ k2) 0 (f + 1) (u ||| 2 ^ t) (10 * 0 + t) = if mfV (St_p σ) (St_d σ k) (St_dv σ k) (St_dv σ k2) 0 (f + 1) (u ||| 2 ^ t) 0 = -1 then -1 else (((10 * 0 + t) * 10 ^ 0 : Nat) : Int) + mfV (St_p σ) (St_d σ k) (St_dv σ k) (St_dv σ k2) 0 (f + 1) (u ||| 2 ^ t) 0 := mfV_o
                    have hpwt : t * 10 ^ 0 ≤ 3000 := by simp only [Nat.reducePow]; omega
                    refine lv_aload_n hx hb dX3_orderNow_87 rfl (lv_at hl 2 rfl) ?_
                    refine lv_aload_n hx hb dX3_orderNow_88 rfl (lv_at hl 3 rfl) ?_
                    refine lv_aload_n hx hb dX3_orderNow_89 rfl (lv_at hl 4 rfl) ?_
                    refine lv_iload_n hx hb dX3_orderNow_90 rfl (lv_at hl 5 rfl) ?_
                    refine lv_iconst (v := iI 1) hx hb dX3_orderNow_91 rfl ?_
                    refine z_add hx hb (z := ((f : Nat) : Int) + 1) dX3_orderNow_92 rfl ?_
                    refine lv_iload hx hb dX3_orderNow_93 (lv_at hl 6 rfl) ?_
                    refine lv_iconst (v := iI 1) hx hb dX3_orderNow_95 rfl ?_
                    refine lv_iload hx hb dX3_orderNow_96 (lv_at hl 0 rfl) ?_
                    refine z_shl hx hb (i := 1) (j := t) (n := 1 * 2 ^ t) dX3_orderNow_98 rfl rfl (by omega) rfl ?_
                    refine z_top (b := ((2 ^ t : Nat) : Int)) (by omega) ?_
                    refine z_or hx hb (n := u ||| (2 ^ t)) dX3_orderNow_99 rfl rfl rfl ?_
                    have hH1 : HM G s0 μ σ th H9 := hh.ext0 hE (zS_F hS)
                    refine z_go 0 0 (z_runV (As := [.ref (μ (6, k, 0)), .ref (μ (6, k2, 0)), .int (iI (((f : Nat) : Int) + 1)), .int (iI ((u ||| (2 ^ t) : Nat) : Int))]) (rest := []) hC hml hl.1 (m_X3_orderNow_0 hE H9 (hO.ext0 (zS_F hS)) μ σ th k k2 (f + 1) (u ||| 2 ^ t) hH1 hk ⟨hd.1, by omega⟩ (by omega)) (lw_V q1926 q1928 qs59 q67 q1929) rfl nd_X3_orderNow rfl (z_rv hC (ci := 2) rfl hH1.2.2.1.1 rfl) rfl (Nat.le_of_ble_eq_true rfl) ⟨Nat.le_of_ble_eq_true rfl, Nat.le_of_ble_eq_true rfl⟩ ⟨zfit (k := 0) (z := 0) rfl rfl (by omega), zfit (k := 0) (z := 0) rfl rfl (by omega)⟩ dX3_orderNow_100) ⟨zad (k := 0) rfl (by omega), zad (k := 0) rfl (by omega)⟩ hS (fun _ z => z.elim) (fun r H11 locs hp hF hS1 => ?_)
                    obtain ⟨_, rfl, rfl⟩ := hp
                    have hP := zpk hP hF
                    have hP : va_P G.1 zCl ([]) H11 := hP
                    have hD : va_D (zA M0 H0) ([]) := hD
                    have hS := hS1
                    refine lv_istore (lv' := [(7, .int (iI (mfV (St_p σ) (St_d σ k) (St_dv σ k) (St_dv σ k2) 0 (f + 1) (u ||| 2 ^ t) 0))), (6, .int (iI ((t : Nat) : Int))), (5, .int (iI ((10 ^ 0 : Nat) : Int))), (0, .ref (μ (0, 0, 0))), (1, .ref (μ (6, k, 0))), (2, .ref (μ (6, k2, 0))), (3, .int (iI ((f : Nat) : Int))), (4, .int (iI ((u : Nat) : Int)))]) hx hb dX3_orderNow_103 hl (by decide) rfl (fun ls hl => ?_)
                    refine lv_iload hx hb dX3_orderNow_105 (lv_at hl 0 rfl) ?_
                    refine lv_iconst (v := iI (-1)) hx hb dX3_orderNow_107 rfl ?_
                    refine z_ceq (tgt := 120) hx hb dX3_orderNow_108 (by decide) (by omega) (fun c12 => ?_) (fun c12 => ?_)
                    · refine z_iinc (z := ((t + 1 : Nat) : Int)) (lv' := [(6, .int (iI ((t + 1 : Nat) : Int))), (7, .int (iI (mfV (St_p σ) (St_d σ k) (St_dv σ k) (St_dv σ k2) 0 (f + 1) (u ||| 2 ^ t) 0))), (5, .int (iI ((10 ^ 0 : Nat) : Int))), (0, .ref (μ (0, 0, 0))), (1, .ref (μ (6, k, 0))), (2, .ref (μ (6, k2, 0))), (3, .int (iI ((f : Nat) : Int))), (4, .int (iI ((u : Nat) : Int)))]) hx hb dX3_orderNow_120 hl (k := 1) rfl (by omega) (by decide) rfl (fun ls hl => ?_)
                      refine lv_goto (tgt := 43) hx hb dX3_orderNow_123 (by decide) ?_
                      exact W.widen (by omega) (by omega) (ihlp5 (St_d σ k - (t + 1)) (by omega) (t + 1) rfl (by omega) (by rw [← hf9, fsI_miss (k := t) (eq_m1 (if_neg (by omega)) (by rw [hlin, if_pos (by assumption)])) (by omega), show St_d σ k - (t + 1) = St_d σ k - t - 1 by omega]) _ _ _  hP hD hS (lv_sub hl [0, 2, 3, 4, 5, 6, 7] rfl))
                    · have hlin2 : mfV (St_p σ) (St_d σ k) (St_dv σ k) (St_dv σ k2) 0 (f + 1) (u ||| 2 ^ t) (10 * 0 + t) = ((t * 10 ^ 0 : Nat) : Int) + mfV (St_p σ) (St_d σ k) (St_dv σ k) (St_dv σ k2) 0 (f + 1) (u ||| 2 ^ t) 0 := by rw [hlin, if_neg (by assumption), Nat.mul_zero, Nat.zero_add]
                      refine lv_iload hx hb dX3_orderNow_111 (lv_at hl 1 rfl) ?_
                      refine lv_iload hx hb dX3_orderNow_113 (lv_at hl 2 rfl) ?_
                      refine z_mul hx hb (z := ((t : Nat) : Int) * ((10 ^ 0 : Nat) : Int)) dX3_orderNow_115 rfl ?_
                      refine z_top (b := ((t * 10 ^ 0 : Nat) : Int)) ((Int.natCast_mul _ _).symm) ?_
                      refine lv_iload hx hb dX3_orderNow_116 (lv_at hl 0 rfl) ?_
                      refine z_add hx hb (z := ((t * 10 ^ 0 : Nat) : Int) + (mfV (St_p σ) (St_d σ k) (St_dv σ k) (St_dv σ k2) 0 (f + 1) (u ||| 2 ^ t) 0)) dX3_orderNow_118 rfl ?_
                      exact z_iret hC hrt hlk hQ hS ⟨zle (z := 0) rfl (by omega), zle (z := 0) rfl (by omega)⟩ ⟨_, rfl, by rw [← hf9, ← hlin2]; exact (fsI_hit2 (k := t) (if_neg (by omega)) (by omega) (by omega)).symm⟩ dX3_orderNow_119
                  · refine lv_goto (tgt := 120) hx hb dX3_orderNow_84 (by decide) ?_
                    refine z_iinc (z := ((t + 1 : Nat) : Int)) (lv' := [(6, .int (iI ((t + 1 : Nat) : Int))), (5, .int (iI ((10 ^ 0 : Nat) : Int))), (0, .ref (μ (0, 0, 0))), (1, .ref (μ (6, k, 0))), (2, .ref (μ (6, k2, 0))), (3, .int (iI ((f : Nat) : Int))), (4, .int (iI ((u : Nat) : Int)))]) hx hb dX3_orderNow_120 hl (k := 0) rfl (by omega) (by decide) rfl (fun ls hl => ?_)
                    refine lv_goto (tgt := 43) hx hb dX3_orderNow_123 (by decide) ?_
                    exact W.widen (by omega) (by omega) (ihlp5 (St_d σ k - (t + 1)) (by omega) (t + 1) rfl (by omega) (by rw [← hf9, fsI_miss (k := t) (if_pos (Or.inr (by assumption))) (by omega), show St_d σ k - (t + 1) = St_d σ k - t - 1 by omega]) _ _ _  hP hD hS hl)
          exact W.widen (by omega) (by omega) (lp5 _ 0 rfl (Nat.zero_le _) rfl _ _ _  hP hD hS hl)
        · have hpc : 10 ^ c9 ≤ 1000 := Nat.le_trans (Nat.pow_le_pow_right (by decide) (show c9 ≤ 3 by omega)) (by decide)
          refine lv_iload hx hb dX3_orderNow_27 (lv_at hl 1 rfl) ?_
          refine lv_bipush (v := iI 10) hx hb dX3_orderNow_29 (by decide) ?_
          refine z_mul hx hb (z := ((10 ^ c9 : Nat) : Int) * 10) dX3_orderNow_31 rfl ?_
          refine z_top (b := ((10 ^ (c9 + 1) : Nat) : Int)) (by rw [Nat.pow_succ]; omega) ?_
          refine lv_istore (lv' := [(5, .int (iI ((10 ^ (c9 + 1) : Nat) : Int))), (6, .int (iI ((f + 1 + c9 : Nat) : Int))), (0, .ref (μ (0, 0, 0))), (1, .ref (μ (6, k, 0))), (2, .ref (μ (6, k2, 0))), (3, .int (iI ((f : Nat) : Int))), (4, .int (iI ((u : Nat) : Int)))]) hx hb dX3_orderNow_32 hl (by decide) rfl (fun ls hl => ?_)
          refine z_iinc (z := ((f + 1 + (c9 + 1) : Nat) : Int)) (lv' := [(6, .int (iI ((f + 1 + (c9 + 1) : Nat) : Int))), (5, .int (iI ((10 ^ (c9 + 1) : Nat) : Int))), (0, .ref (μ (0, 0, 0))), (1, .ref (μ (6, k, 0))), (2, .ref (μ (6, k2, 0))), (3, .int (iI ((f : Nat) : Int))), (4, .int (iI ((u : Nat) : Int)))]) hx hb dX3_orderNow_34 hl (k := 1) rfl (by omega) (by decide) rfl (fun ls hl => ?_)
          refine lv_goto (tgt := 18) hx hb dX3_orderNow_37 (by decide) ?_
          exact W.widen (by omega) (by omega) (ihlp2 (St_d σ k - (c9 + 1)) (by omega) (c9 + 1) rfl (by omega) _ _ _  hP hD hS hl)
    exact W.widen (by omega) (by omega) (lp2 _ 0 rfl (by omega) _ _ _  hP hD hS hl)
  · omega

abbrev rm_m_X3_orderNow_2 : Room := { frames := 3, cells := 0, slots := 0, locals := 71 }
set_option maxHeartbeats 4000000 in
theorem m_X3_orderNow_2 {l : Launch} {s0 : State} {G : zG} (hE : zE l s0 G) (H0 : Heap) (hO : zO s0 H0) (μ : Ro → Nat) (σ : St) (th : Int) (k k2 f u : Nat) (hh : HM G s0 μ σ th H0) (hk : k < St_na σ ∧ k2 < St_na σ) (hd : St_d σ k2 = St_d σ k ∧ f + 2 = St_d σ k) (hu : u ≤ 15) : zM l s0 yX3_orderNow cX3_orderNow 8 (some FieldType.int) rm_m_X3_orderNow_2 [.ref (μ (0, 0, 0)), .ref (μ (6, k, 0)), .ref (μ (6, k2, 0)), .int (iI ((f : Nat) : Int)), .int (iI ((u : Nat) : Int))] H0 M0 (ri (fun y _ => y = mfV (St_p σ) (St_d σ k) (St_dv σ k) (St_dv σ k2) 2 f u 0)) := by
  refine z_met hE (by decide +kernel) (Nat.le_of_ble_eq_true rfl) ?_
  intro pp ee ss mm args below meth cd Q ls hC hml hrt hlk hnm hH hQ hS hl
  have hx := hC.x
  have hb := hC.b
  have hl : lv_has ls 8 [(0, .ref (μ (0, 0, 0))), (1, .ref (μ (6, k, 0))), (2, .ref (μ (6, k2, 0))), (3, .int (iI ((f : Nat) : Int))), (4, .int (iI ((u : Nat) : Int)))] := hl
  have hP : va_P G.1 zCl [] H0 := va_nil
  have hD : va_D (zA M0 H0) [] := va_nilD
  have hH1 := hh
  obtain ⟨hp, hna, hal, hne9, hel9, hmr9⟩ := id hh.ok
  have hp7 : 0 < St_p σ ∧ St_p σ ≤ 7 := by rcases hp with h | h | h <;> rw [h] <;> decide
  have hd4 := (hal k hk.1).2.1
  have hH1 : HM G s0 μ σ th H0 := hh.ext0 hE (zS_F hS)
  have hAk := hH1.al (k := k) (by omega)
  have hn16k := hH1.n (k := k) (by omega)
  have hH1 : HM G s0 μ σ th H0 := hh.ext0 hE (zS_F hS)
  have hAk2 := hH1.al (k := k2) (by omega)
  have hn16k2 := hH1.n (k := k2) (by omega)
  refine lv_iload_n hx hb dX3_orderNow_0 rfl (lv_at hl 3 rfl) ?_
  refine lv_aload_n hx hb dX3_orderNow_1 rfl (lv_at hl 1 rfl) ?_
  refine z_get hC (k := 3) rfl in_X6 hAk.1 (by decide) q1555 (fun _ h => h) rfl dX3_orderNow_2 ?_
  refine z_cne (tgt := 10) hx hb dX3_orderNow_5 (by decide) (by omega) (fun c1 => ?_) (fun c1 => ?_)
  · refine lv_iconst (v := iI 1) hx hb dX3_orderNow_10 rfl ?_
    refine lv_istore (lv' := [(5, .int (iI 1)), (0, .ref (μ (0, 0, 0))), (1, .ref (μ (6, k, 0))), (2, .ref (μ (6, k2, 0))), (3, .int (iI ((f : Nat) : Int))), (4, .int (iI ((u : Nat) : Int)))]) hx hb dX3_orderNow_11 hl (by decide) rfl (fun ls hl => ?_)
    refine lv_iload_n hx hb dX3_orderNow_13 rfl (lv_at hl 4 rfl) ?_
    refine lv_iconst (v := iI 1) hx hb dX3_orderNow_14 rfl ?_
    refine z_add hx hb (z := ((f : Nat) : Int) + 1) dX3_orderNow_15 rfl ?_
    refine lv_istore (lv' := [(6, .int (iI (((f : Nat) : Int) + 1))), (5, .int (iI 1)), (0, .ref (μ (0, 0, 0))), (1, .ref (μ (6, k, 0))), (2, .ref (μ (6, k2, 0))), (3, .int (iI ((f : Nat) : Int))), (4, .int (iI ((u : Nat) : Int)))]) hx hb dX3_orderNow_16 hl (by decide) rfl (fun ls hl => ?_)
    have lp2 : ∀ (dlp2 : Nat) (c9 : Nat), St_d σ k - c9 = dlp2 → (f + 1 + c9 ≤ St_d σ k) → ∀ (H3 : Heap) (locs : List Loc) (ls : Array Slot), va_P G.1 zCl ([]) H3 → va_D (zA M0 H0) ([]) → va_S (zA M0 H0) H0 H3 locs → lv_has ls 8 [(6, .int (iI ((f + 1 + c9 : Nat) : Int))), (5, .int (iI ((10 ^ c9 : Nat) : Int))), (0, .ref (μ (0, 0, 0))), (1, .ref (μ (6, k, 0))), (2, .ref (μ (6, k2, 0))), (3, .int (iI ((f : Nat) : Int))), (4, .int (iI ((u : Nat) : Int)))] → W pp l ee rm_m_X3_orderNow_2 ss mm args below meth cd H3 locs 0 0 Q (F0 mm 18 ls []) := by
      intro dlp2
      induction dlp2 using Nat.strongRecOn with
      | ind dlp2 ihlp2 =>
        intro c9 hdlp2 hc9 H3 locs ls  hP hD hS hl
        have hH1 : HM G s0 μ σ th H3 := hh.ext0 hE (zS_F hS)
        have hAk := hH1.al (k := k) (by omega)
        have hn16k := hH1.n (k := k) (by omega)
        refine lv_iload hx hb dX3_orderNow_18 (lv_at hl 0 rfl) ?_
        refine lv_aload_n hx hb dX3_orderNow_20 rfl (lv_at hl 3 rfl) ?_
        refine z_get hC (k := 3) rfl in_X6 hAk.1 (by decide) q1555 (fun _ h => h) rfl dX3_orderNow_21 ?_
        refine z_cge (tgt := 40) hx hb dX3_orderNow_24 (by decide) (by omega) (fun c4 => ?_) (fun c4 => ?_)
        · have ecr : c9 = 1 := by omega
          subst ecr
          refine lv_iconst (v := iI 0) hx hb dX3_orderNow_40 rfl ?_
          refine lv_istore (lv' := [(6, .int (iI 0)), (5, .int (iI ((10 ^ 1 : Nat) : Int))), (0, .ref (μ (0, 0, 0))), (1, .ref (μ (6, k, 0))), (2, .ref (μ (6, k2, 0))), (3, .int (iI ((f : Nat) : Int))), (4, .int (iI ((u : Nat) : Int)))]) hx hb dX3_orderNow_41 hl (by decide) rfl (fun ls hl => ?_)
          have lp5 : ∀ (dlp5 : Nat) (t : Nat), St_d σ k - t = dlp5 → (t ≤ St_d σ k) → (fsI (fun t => if u / 2 ^ t % 2 = 1 ∨ scN (St_p σ) (St_dv σ k f) (St_dv σ k2 t) = -1 then -1 else mfV (St_p σ) (St_d σ k) (St_dv σ k) (St_dv σ k2) 1 (f + 1) (u ||| 2 ^ t) (10 * 0 + t)) (St_d σ k - t) t = mfV (St_p σ) (St_d σ k) (St_dv σ k) (St_dv σ k2) 2 f u 0) → ∀ (H6 : Heap) (locs : List Loc) (ls : Array Slot), va_P G.1 zCl ([]) H6 → va_D (zA M0 H0) ([]) → va_S (zA M0 H0) H0 H6 locs → lv_has ls 8 [(6, .int (iI ((t : Nat) : Int))), (5, .int (iI ((10 ^ 1 : Nat) : Int))), (0, .ref (μ (0, 0, 0))), (1, .ref (μ (6, k, 0))), (2, .ref (μ (6, k2, 0))), (3, .int (iI ((f : Nat) : Int))), (4, .int (iI ((u : Nat) : Int)))] → W pp l ee rm_m_X3_orderNow_2 ss mm args below meth cd H6 locs 0 0 Q (F0 mm 43 ls []) := by
            intro dlp5
            induction dlp5 using Nat.strongRecOn with
            | ind dlp5 ihlp5 =>
              intro t hdlp5 ht hf9 H6 locs ls  hP hD hS hl
              have hH1 : HM G s0 μ σ th H6 := hh.ext0 hE (zS_F hS)
              have hAk := hH1.al (k := k) (by omega)
              have hn16k := hH1.n (k := k) (by omega)
              have hH1 : HM G s0 μ σ th H6 := hh.ext0 hE (zS_F hS)
              have hAk2 := hH1.al (k := k2) (by omega)
              have hn16k2 := hH1.n (k := k2) (by omega)
              refine lv_iload hx hb dX3_orderNow_43 (lv_at hl 0 rfl) ?_
              refine lv_aload_n hx hb dX3_orderNow_45 rfl (lv_at hl 4 rfl) ?_
              refine z_get hC (k := 3) rfl in_X6 hAk2.1 (by decide) q1555 (fun _ h => h) rfl dX3_orderNow_46 ?_
              refine z_cge (tgt := 126) hx hb dX3_orderNow_49 (by decide) (by omega) (fun c7 => ?_) (fun c7 => ?_)
              · have et : St_d σ k - t = 0 := by omega
                refine lv_iconst (v := iI (-1)) hx hb dX3_orderNow_126 rfl ?_
                exact z_iret hC hrt hlk hQ hS ⟨zle (z := 0) rfl (by omega), zle (z := 0) rfl (by omega)⟩ ⟨_, rfl, by rw [← hf9, et]; rfl⟩ dX3_orderNow_127
              · have ht3 : t < 4 := by omega
                have hb1 := Nat.and_one_is_mod (u / 2 ^ t)
                refine lv_iload hx hb dX3_orderNow_52 (lv_at hl 6 rfl) ?_
                refine lv_iload hx hb dX3_orderNow_54 (lv_at hl 0 rfl) ?_
                refine z_shr hx hb (i := u) (j := t) (n := u / 2 ^ t) dX3_orderNow_56 rfl rfl (by omega) rfl ?_
                refine lv_iconst (v := iI 1) hx hb dX3_orderNow_57 rfl ?_
                refine z_and hx hb (n := (u / 2 ^ t) &&& 1) dX3_orderNow_58 rfl rfl rfl ?_
                refine z_top (b := ((u / 2 ^ t % 2 : Nat) : Int)) (by omega) ?_
                refine lv_iconst (v := iI 1) hx hb dX3_orderNow_59 rfl ?_
                refine z_ceq (tgt := 120) hx hb dX3_orderNow_60 (by decide) (by omega) (fun c8 => ?_) (fun c8 => ?_)
                · refine z_iinc (z := ((t + 1 : Nat) : Int)) (lv' := [(6, .int (iI ((t + 1 : Nat) : Int))), (5, .int (iI ((10 ^ 1 : Nat) : Int))), (0, .ref (μ (0, 0, 0))), (1, .ref (μ (6, k, 0))), (2, .ref (μ (6, k2, 0))), (3, .int (iI ((f : Nat) : Int))), (4, .int (iI ((u : Nat) : Int)))]) hx hb dX3_orderNow_120 hl (k := 0) rfl (by omega) (by decide) rfl (fun ls hl => ?_)
                  refine lv_goto (tgt := 43) hx hb dX3_orderNow_123 (by decide) ?_
                  exact W.widen (by omega) (by omega) (ihlp5 (St_d σ k - (t + 1)) (by omega) (t + 1) rfl (by omega) (by rw [← hf9, fsI_miss (k := t) (if_pos (Or.inl (by omega))) (by omega), show St_d σ k - (t + 1) = St_d σ k - t - 1 by omega]) _ _ _  hP hD hS hl)
                · have edf : dvA σ k f = St_dv σ k f := if_pos (by omega)
                  have edt : dvA σ k2 t = St_dv σ k2 t := if_pos (by omega)
                  have hdf := (hal k hk.1).2.2 f (by omega)
                  have hdt := (hal k2 hk.2).2.2 t (by omega)
                  refine lv_aload_n hx hb dX3_orderNow_63 rfl (lv_at hl 2 rfl) ?_
                  refine lv_aload_n hx hb dX3_orderNow_64 rfl (lv_at hl 3 rfl) ?_
                  refine z_get hC (k := 1) rfl in_X6 hAk.1 (by decide) q1551 (fun _ h => h) rfl dX3_orderNow_65 ?_
                  refine lv_iload_n hx hb dX3_orderNow_68 rfl (lv_at hl 5 rfl) ?_
                  refine z_iald hC hAk.2.1 (k := f) rfl (by omega) (y := (dvA σ k) f) rfl dX3_orderNow_69 ?_
                  refine z_top (b := St_dv σ k f) (edf) ?_
                  refine lv_aload_n hx hb dX3_orderNow_70 rfl (lv_at hl 4 rfl) ?_
                  refine z_get hC (k := 1) rfl in_X6 hAk2.1 (by decide) q1551 (fun _ h => h) rfl dX3_orderNow_71 ?_
                  refine lv_iload hx hb dX3_orderNow_74 (lv_at hl 0 rfl) ?_
                  refine z_iald hC hAk2.2.1 (k := t) rfl (by omega) (y := (dvA σ k2) t) rfl dX3_orderNow_76 ?_
                  refine z_top (b := St_dv σ k2 t) (edt) ?_
                  have hH1 : HM G s0 μ σ th H6 := hh.ext0 hE (zS_F hS)
                  refine z_go 0 0 (z_runV (As := [.int (iI (St_dv σ k f)), .int (iI (St_dv σ k2 t))]) (rest := []) hC hml hl.1 (m_X3_scaleNow hE H6 (hO.ext0 (zS_F hS)) μ σ th (St_dv σ k f) (St_dv σ k2 t) hH1 ⟨⟨by omega, by omega⟩, by omega, by omega⟩) (lw_V q1930 q1932 qs60 q67 q1933) rfl nd_X3_scaleNow rfl (z_rv hC (ci := 2) rfl hH1.2.2.1.1 rfl) rfl (Nat.le_of_ble_eq_true rfl) ⟨Nat.le_of_ble_eq_true rfl, Nat.le_of_ble_eq_true rfl⟩ ⟨zfit (k := 0) (z := 0) rfl rfl (by omega), zfit (k := 0) (z := 0) rfl rfl (by omega)⟩ dX3_orderNow_77) ⟨zad (k := 0) rfl (by omega), zad (k := 0) rfl (by omega)⟩ hS (fun _ z => z.elim) (fun r H9 locs hp hF hS1 => ?_)
                  obtain ⟨_, rfl, rfl⟩ := hp
                  have hP := zpk hP hF
                  have hP : va_P G.1 zCl ([]) H9 := hP
                  have hD : va_D (zA M0 H0) ([]) := hD
                  have hS := hS1
                  have hsc : -1 ≤ scN (St_p σ) (St_dv σ k f) (St_dv σ k2 t) ∧ scN (St_p σ) (St_dv σ k f) (St_dv σ k2 t) ≤ 8 := by have := fst_in (fun s => (St_dv σ k2 t * (s : Int) * (s : Int)) % St_p σ == St_dv σ k f) ((St_p σ).toNat - 1) 1; unfold scN; omega
                  refine lv_iconst (v := iI (-1)) hx hb dX3_orderNow_80 rfl ?_
                  refine z_cne (tgt := 87) hx hb dX3_orderNow_81 (by decide) (by omega) (fun c10 => ?_) (fun c10 => ?_)
                  · have h2t : 2 ^ t ≤ 8 := Nat.le_trans (Nat.pow_le_pow_right (by decide) (show t ≤ 3 by omega)) (by decide)
                    have hor : u ||| 2 ^ t < 16 := Nat.or_lt_two_pow (n := 4) (by omega) (by omega)
                    have hmf : -1 ≤ mfV (St_p σ) (St_d σ k) (St_dv σ k) (St_dv σ k2) 1 (f + 1) (u ||| 2 ^ t) 0 ∧ mfV (St_p σ) (St_d σ k) (St_dv σ k) (St_dv σ k2) 1 (f + 1) (u ||| 2 ^ t) 0 ≤ 9999 := mfV_in hd4 (by decide)
                    have hlin : mfV (St_p σ) (St_d σ k) (St_dv σ k) (St_dv σ k2) 1 (f + 1) (u ||| 2 ^ t) (10 * 0 + t) = if mfV (St_p σ) (St_d σ k) (St_dv σ k) (St_dv σ k2) 1 (f + 1) (u ||| 2 ^ t) 0 = -1 then -1 else (((10 * 0 + t) * 10 ^ 1 : Nat) : Int) + mfV (St_p σ) (St_d σ k) (St_dv σ k) (St_dv σ k2) 1 (f + 1) (u ||| 2 ^ t) 0 := mfV_o
                    have hpwt : t * 10 ^ 1 ≤ 3000 := by simp only [Nat.reducePow]; omega
                    refine lv_aload_n hx hb dX3_orderNow_87 rfl (lv_at hl 2 rfl) ?_
                    refine lv_aload_n hx hb dX3_orderNow_88 rfl (lv_at hl 3 rfl) ?_
                    refine lv_aload_n hx hb dX3_orderNow_89 rfl (lv_at hl 4 rfl) ?_
                    refine lv_iload_n hx hb dX3_orderNow_90 rfl (lv_at hl 5 rfl) ?_
                    refine lv_iconst (v := iI 1) hx hb dX3_orderNow_91 rfl ?_
                    refine z_add hx hb (z := ((f : Nat) : Int) + 1) dX3_orderNow_92 rfl ?_
                    refine lv_iload hx hb dX3_orderNow_93 (lv_at hl 6 rfl) ?_
                    refine lv_iconst (v := iI 1) hx hb dX3_orderNow_95 rfl ?_
                    refine lv_iload hx hb dX3_orderNow_96 (lv_at hl 0 rfl) ?_
                    refine z_shl hx hb (i := 1) (j := t) (n := 1 * 2 ^ t) dX3_orderNow_98 rfl rfl (by omega) rfl ?_
                    refine z_top (b := ((2 ^ t : Nat) : Int)) (by omega) ?_
                    refine z_or hx hb (n := u ||| (2 ^ t)) dX3_orderNow_99 rfl rfl rfl ?_
                    have hH1 : HM G s0 μ σ th H9 := hh.ext0 hE (zS_F hS)
                    refine z_go 0 0 (z_runV (As := [.ref (μ (6, k, 0)), .ref (μ (6, k2, 0)), .int (iI (((f : Nat) : Int) + 1)), .int (iI ((u ||| (2 ^ t) : Nat) : Int))]) (rest := []) hC hml hl.1 (m_X3_orderNow_1 hE H9 (hO.ext0 (zS_F hS)) μ σ th k k2 (f + 1) (u ||| 2 ^ t) hH1 hk ⟨hd.1, by omega⟩ (by omega)) (lw_V q1926 q1928 qs59 q67 q1929) rfl nd_X3_orderNow rfl (z_rv hC (ci := 2) rfl hH1.2.2.1.1 rfl) rfl (Nat.le_of_ble_eq_true rfl) ⟨Nat.le_of_ble_eq_true rfl, Nat.le_of_ble_eq_true rfl⟩ ⟨zfit (k := 0) (z := 0) rfl rfl (by omega), zfit (k := 0) (z := 0) rfl rfl (by omega)⟩ dX3_orderNow_100) ⟨zad (k := 0) rfl (by omega), zad (k := 0) rfl (by omega)⟩ hS (fun _ z => z.elim) (fun r H11 locs hp hF hS1 => ?_)
                    obtain ⟨_, rfl, rfl⟩ := hp
                    have hP := zpk hP hF
                    have hP : va_P G.1 zCl ([]) H11 := hP
                    have hD : va_D (zA M0 H0) ([]) := hD
                    have hS := hS1
                    refine lv_istore (lv' := [(7, .int (iI (mfV (St_p σ) (St_d σ k) (St_dv σ k) (St_dv σ k2) 1 (f + 1) (u ||| 2 ^ t) 0))), (6, .int (iI ((t : Nat) : Int))), (5, .int (iI ((10 ^ 1 : Nat) : Int))), (0, .ref (μ (0, 0, 0))), (1, .ref (μ (6, k, 0))), (2, .ref (μ (6, k2, 0))), (3, .int (iI ((f : Nat) : Int))), (4, .int (iI ((u : Nat) : Int)))]) hx hb dX3_orderNow_103 hl (by decide) rfl (fun ls hl => ?_)
                    refine lv_iload hx hb dX3_orderNow_105 (lv_at hl 0 rfl) ?_
                    refine lv_iconst (v := iI (-1)) hx hb dX3_orderNow_107 rfl ?_
                    refine z_ceq (tgt := 120) hx hb dX3_orderNow_108 (by decide) (by omega) (fun c12 => ?_) (fun c12 => ?_)
                    · refine z_iinc (z := ((t + 1 : Nat) : Int)) (lv' := [(6, .int (iI ((t + 1 : Nat) : Int))), (7, .int (iI (mfV (St_p σ) (St_d σ k) (St_dv σ k) (St_dv σ k2) 1 (f + 1) (u ||| 2 ^ t) 0))), (5, .int (iI ((10 ^ 1 : Nat) : Int))), (0, .ref (μ (0, 0, 0))), (1, .ref (μ (6, k, 0))), (2, .ref (μ (6, k2, 0))), (3, .int (iI ((f : Nat) : Int))), (4, .int (iI ((u : Nat) : Int)))]) hx hb dX3_orderNow_120 hl (k := 1) rfl (by omega) (by decide) rfl (fun ls hl => ?_)
                      refine lv_goto (tgt := 43) hx hb dX3_orderNow_123 (by decide) ?_
                      exact W.widen (by omega) (by omega) (ihlp5 (St_d σ k - (t + 1)) (by omega) (t + 1) rfl (by omega) (by rw [← hf9, fsI_miss (k := t) (eq_m1 (if_neg (by omega)) (by rw [hlin, if_pos (by assumption)])) (by omega), show St_d σ k - (t + 1) = St_d σ k - t - 1 by omega]) _ _ _  hP hD hS (lv_sub hl [0, 2, 3, 4, 5, 6, 7] rfl))
                    · have hlin2 : mfV (St_p σ) (St_d σ k) (St_dv σ k) (St_dv σ k2) 1 (f + 1) (u ||| 2 ^ t) (10 * 0 + t) = ((t * 10 ^ 1 : Nat) : Int) + mfV (St_p σ) (St_d σ k) (St_dv σ k) (St_dv σ k2) 1 (f + 1) (u ||| 2 ^ t) 0 := by rw [hlin, if_neg (by assumption), Nat.mul_zero, Nat.zero_add]
                      refine lv_iload hx hb dX3_orderNow_111 (lv_at hl 1 rfl) ?_
                      refine lv_iload hx hb dX3_orderNow_113 (lv_at hl 2 rfl) ?_
                      refine z_mul hx hb (z := ((t : Nat) : Int) * ((10 ^ 1 : Nat) : Int)) dX3_orderNow_115 rfl ?_
                      refine z_top (b := ((t * 10 ^ 1 : Nat) : Int)) ((Int.natCast_mul _ _).symm) ?_
                      refine lv_iload hx hb dX3_orderNow_116 (lv_at hl 0 rfl) ?_
                      refine z_add hx hb (z := ((t * 10 ^ 1 : Nat) : Int) + (mfV (St_p σ) (St_d σ k) (St_dv σ k) (St_dv σ k2) 1 (f + 1) (u ||| 2 ^ t) 0)) dX3_orderNow_118 rfl ?_
                      exact z_iret hC hrt hlk hQ hS ⟨zle (z := 0) rfl (by omega), zle (z := 0) rfl (by omega)⟩ ⟨_, rfl, by rw [← hf9, ← hlin2]; exact (fsI_hit2 (k := t) (if_neg (by omega)) (by omega) (by omega)).symm⟩ dX3_orderNow_119
                  · refine lv_goto (tgt := 120) hx hb dX3_orderNow_84 (by decide) ?_
                    refine z_iinc (z := ((t + 1 : Nat) : Int)) (lv' := [(6, .int (iI ((t + 1 : Nat) : Int))), (5, .int (iI ((10 ^ 1 : Nat) : Int))), (0, .ref (μ (0, 0, 0))), (1, .ref (μ (6, k, 0))), (2, .ref (μ (6, k2, 0))), (3, .int (iI ((f : Nat) : Int))), (4, .int (iI ((u : Nat) : Int)))]) hx hb dX3_orderNow_120 hl (k := 0) rfl (by omega) (by decide) rfl (fun ls hl => ?_)
                    refine lv_goto (tgt := 43) hx hb dX3_orderNow_123 (by decide) ?_
                    exact W.widen (by omega) (by omega) (ihlp5 (St_d σ k - (t + 1)) (by omega) (t + 1) rfl (by omega) (by rw [← hf9, fsI_miss (k := t) (if_pos (Or.inr (by assumption))) (by omega), show St_d σ k - (t + 1) = St_d σ k - t - 1 by omega]) _ _ _  hP hD hS hl)
          exact W.widen (by omega) (by omega) (lp5 _ 0 rfl (Nat.zero_le _) rfl _ _ _  hP hD hS hl)
        · have hpc : 10 ^ c9 ≤ 1000 := Nat.le_trans (Nat.pow_le_pow_right (by decide) (show c9 ≤ 3 by omega)) (by decide)
          refine lv_iload hx hb dX3_orderNow_27 (lv_at hl 1 rfl) ?_
          refine lv_bipush (v := iI 10) hx hb dX3_orderNow_29 (by decide) ?_
          refine z_mul hx hb (z := ((10 ^ c9 : Nat) : Int) * 10) dX3_orderNow_31 rfl ?_
          refine z_top (b := ((10 ^ (c9 + 1) : Nat) : Int)) (by rw [Nat.pow_succ]; omega) ?_
          refine lv_istore (lv' := [(5, .int (iI ((10 ^ (c9 + 1) : Nat) : Int))), (6, .int (iI ((f + 1 + c9 : Nat) : Int))), (0, .ref (μ (0, 0, 0))), (1, .ref (μ (6, k, 0))), (2, .ref (μ (6, k2, 0))), (3, .int (iI ((f : Nat) : Int))), (4, .int (iI ((u : Nat) : Int)))]) hx hb dX3_orderNow_32 hl (by decide) rfl (fun ls hl => ?_)
          refine z_iinc (z := ((f + 1 + (c9 + 1) : Nat) : Int)) (lv' := [(6, .int (iI ((f + 1 + (c9 + 1) : Nat) : Int))), (5, .int (iI ((10 ^ (c9 + 1) : Nat) : Int))), (0, .ref (μ (0, 0, 0))), (1, .ref (μ (6, k, 0))), (2, .ref (μ (6, k2, 0))), (3, .int (iI ((f : Nat) : Int))), (4, .int (iI ((u : Nat) : Int)))]) hx hb dX3_orderNow_34 hl (k := 1) rfl (by omega) (by decide) rfl (fun ls hl => ?_)
          refine lv_goto (tgt := 18) hx hb dX3_orderNow_37 (by decide) ?_
          exact W.widen (by omega) (by omega) (ihlp2 (St_d σ k - (c9 + 1)) (by omega) (c9 + 1) rfl (by omega) _ _ _  hP hD hS hl)
    exact W.widen (by omega) (by omega) (lp2 _ 0 rfl (by omega) _ _ _  hP hD hS hl)
  · omega

abbrev rm_m_X3_orderNow_3 : Room := { frames := 4, cells := 0, slots := 0, locals := 98 }
set_option maxHeartbeats 4000000 in
theorem m_X3_orderNow_3 {l : Launch} {s0 : State} {G : zG} (hE : zE l s0 G) (H0 : Heap) (hO : zO s0 H0) (μ : Ro → Nat) (σ : St) (th : Int) (k k2 f u : Nat) (hh : HM G s0 μ σ th H0) (hk : k < St_na σ ∧ k2 < St_na σ) (hd : St_d σ k2 = St_d σ k ∧ f + 3 = St_d σ k) (hu : u ≤ 15) : zM l s0 yX3_orderNow cX3_orderNow 8 (some FieldType.int) rm_m_X3_orderNow_3 [.ref (μ (0, 0, 0)), .ref (μ (6, k, 0)), .ref (μ (6, k2, 0)), .int (iI ((f : Nat) : Int)), .int (iI ((u : Nat) : Int))] H0 M0 (ri (fun y _ => y = mfV (St_p σ) (St_d σ k) (St_dv σ k) (St_dv σ k2) 3 f u 0)) := by
  refine z_met hE (by decide +kernel) (Nat.le_of_ble_eq_true rfl) ?_
  intro pp ee ss mm args below meth cd Q ls hC hml hrt hlk hnm hH hQ hS hl
  have hx := hC.x
  have hb := hC.b
  have hl : lv_has ls 8 [(0, .ref (μ (0, 0, 0))), (1, .ref (μ (6, k, 0))), (2, .ref (μ (6, k2, 0))), (3, .int (iI ((f : Nat) : Int))), (4, .int (iI ((u : Nat) : Int)))] := hl
  have hP : va_P G.1 zCl [] H0 := va_nil
  have hD : va_D (zA M0 H0) [] := va_nilD
  have hH1 := hh
  obtain ⟨hp, hna, hal, hne9, hel9, hmr9⟩ := id hh.ok
  have hp7 : 0 < St_p σ ∧ St_p σ ≤ 7 := by rcases hp with h | h | h <;> rw [h] <;> decide
  have hd4 := (hal k hk.1).2.1
  have hH1 : HM G s0 μ σ th H0 := hh.ext0 hE (zS_F hS)
  have hAk := hH1.al (k := k) (by omega)
  have hn16k := hH1.n (k := k) (by omega)
  have hH1 : HM G s0 μ σ th H0 := hh.ext0 hE (zS_F hS)
  have hAk2 := hH1.al (k := k2) (by omega)
  have hn16k2 := hH1.n (k := k2) (by omega)
  refine lv_iload_n hx hb dX3_orderNow_0 rfl (lv_at hl 3 rfl) ?_
  refine lv_aload_n hx hb dX3_orderNow_1 rfl (lv_at hl 1 rfl) ?_
  refine z_get hC (k := 3) rfl in_X6 hAk.1 (by decide) q1555 (fun _ h => h) rfl dX3_orderNow_2 ?_
  refine z_cne (tgt := 10) hx hb dX3_orderNow_5 (by decide) (by omega) (fun c1 => ?_) (fun c1 => ?_)
  · refine lv_iconst (v := iI 1) hx hb dX3_orderNow_10 rfl ?_
    refine lv_istore (lv' := [(5, .int (iI 1)), (0, .ref (μ (0, 0, 0))), (1, .ref (μ (6, k, 0))), (2, .ref (μ (6, k2, 0))), (3, .int (iI ((f : Nat) : Int))), (4, .int (iI ((u : Nat) : Int)))]) hx hb dX3_orderNow_11 hl (by decide) rfl (fun ls hl => ?_)
    refine lv_iload_n hx hb dX3_orderNow_13 rfl (lv_at hl 4 rfl) ?_
    refine lv_iconst (v := iI 1) hx hb dX3_orderNow_14 rfl ?_
    refine z_add hx hb (z := ((f : Nat) : Int) + 1) dX3_orderNow_15 rfl ?_
    refine lv_istore (lv' := [(6, .int (iI (((f : Nat) : Int) + 1))), (5, .int (iI 1)), (0, .ref (μ (0, 0, 0))), (1, .ref (μ (6, k, 0))), (2, .ref (μ (6, k2, 0))), (3, .int (iI ((f : Nat) : Int))), (4, .int (iI ((u : Nat) : Int)))]) hx hb dX3_orderNow_16 hl (by decide) rfl (fun ls hl => ?_)
    have lp2 : ∀ (dlp2 : Nat) (c9 : Nat), St_d σ k - c9 = dlp2 → (f + 1 + c9 ≤ St_d σ k) → ∀ (H3 : Heap) (locs : List Loc) (ls : Array Slot), va_P G.1 zCl ([]) H3 → va_D (zA M0 H0) ([]) → va_S (zA M0 H0) H0 H3 locs → lv_has ls 8 [(6, .int (iI ((f + 1 + c9 : Nat) : Int))), (5, .int (iI ((10 ^ c9 : Nat) : Int))), (0, .ref (μ (0, 0, 0))), (1, .ref (μ (6, k, 0))), (2, .ref (μ (6, k2, 0))), (3, .int (iI ((f : Nat) : Int))), (4, .int (iI ((u : Nat) : Int)))] → W pp l ee rm_m_X3_orderNow_3 ss mm args below meth cd H3 locs 0 0 Q (F0 mm 18 ls []) := by
      intro dlp2
      induction dlp2 using Nat.strongRecOn with
      | ind dlp2 ihlp2 =>
        intro c9 hdlp2 hc9 H3 locs ls  hP hD hS hl
        have hH1 : HM G s0 μ σ th H3 := hh.ext0 hE (zS_F hS)
        have hAk := hH1.al (k := k) (by omega)
        have hn16k := hH1.n (k := k) (by omega)
        refine lv_iload hx hb dX3_orderNow_18 (lv_at hl 0 rfl) ?_
        refine lv_aload_n hx hb dX3_orderNow_20 rfl (lv_at hl 3 rfl) ?_
        refine z_get hC (k := 3) rfl in_X6 hAk.1 (by decide) q1555 (fun _ h => h) rfl dX3_orderNow_21 ?_
        refine z_cge (tgt := 40) hx hb dX3_orderNow_24 (by decide) (by omega) (fun c4 => ?_) (fun c4 => ?_)
        · have ecr : c9 = 2 := by omega
          subst ecr
          refine lv_iconst (v := iI 0) hx hb dX3_orderNow_40 rfl ?_
          refine lv_istore (lv' := [(6, .int (iI 0)), (5, .int (iI ((10 ^ 2 : Nat) : Int))), (0, .ref (μ (0, 0, 0))), (1, .ref (μ (6, k, 0))), (2, .ref (μ (6, k2, 0))), (3, .int (iI ((f : Nat) : Int))), (4, .int (iI ((u : Nat) : Int)))]) hx hb dX3_orderNow_41 hl (by decide) rfl (fun ls hl => ?_)
          have lp5 : ∀ (dlp5 : Nat) (t : Nat), St_d σ k - t = dlp5 → (t ≤ St_d σ k) → (fsI (fun t => if u / 2 ^ t % 2 = 1 ∨ scN (St_p σ) (St_dv σ k f) (St_dv σ k2 t) = -1 then -1 else mfV (St_p σ) (St_d σ k) (St_dv σ k) (St_dv σ k2) 2 (f + 1) (u ||| 2 ^ t) (10 * 0 + t)) (St_d σ k - t) t = mfV (St_p σ) (St_d σ k) (St_dv σ k) (St_dv σ k2) 3 f u 0) → ∀ (H6 : Heap) (locs : List Loc) (ls : Array Slot), va_P G.1 zCl ([]) H6 → va_D (zA M0 H0) ([]) → va_S (zA M0 H0) H0 H6 locs → lv_has ls 8 [(6, .int (iI ((t : Nat) : Int))), (5, .int (iI ((10 ^ 2 : Nat) : Int))), (0, .ref (μ (0, 0, 0))), (1, .ref (μ (6, k, 0))), (2, .ref (μ (6, k2, 0))), (3, .int (iI ((f : Nat) : Int))), (4, .int (iI ((u : Nat) : Int)))] → W pp l ee rm_m_X3_orderNow_3 ss mm args below meth cd H6 locs 0 0 Q (F0 mm 43 ls []) := by
            intro dlp5
            induction dlp5 using Nat.strongRecOn with
            | ind dlp5 ihlp5 =>
              intro t hdlp5 ht hf9 H6 locs ls  hP hD hS hl
              have hH1 : HM G s0 μ σ th H6 := hh.ext0 hE (zS_F hS)
              have hAk := hH1.al (k := k) (by omega)
              have hn16k := hH1.n (k := k) (by omega)
              have hH1 : HM G s0 μ σ th H6 := hh.ext0 hE (zS_F hS)
              have hAk2 := hH1.al (k := k2) (by omega)
              have hn16k2 := hH1.n (k := k2) (by omega)
              refine lv_iload hx hb dX3_orderNow_43 (lv_at hl 0 rfl) ?_
              refine lv_aload_n hx hb dX3_orderNow_45 rfl (lv_at hl 4 rfl) ?_
              refine z_get hC (k := 3) rfl in_X6 hAk2.1 (by decide) q1555 (fun _ h => h) rfl dX3_orderNow_46 ?_
              refine z_cge (tgt := 126) hx hb dX3_orderNow_49 (by decide) (by omega) (fun c7 => ?_) (fun c7 => ?_)
              · have et : St_d σ k - t = 0 := by omega
                refine lv_iconst (v := iI (-1)) hx hb dX3_orderNow_126 rfl ?_
                exact z_iret hC hrt hlk hQ hS ⟨zle (z := 0) rfl (by omega), zle (z := 0) rfl (by omega)⟩ ⟨_, rfl, by rw [← hf9, et]; rfl⟩ dX3_orderNow_127
              · have ht3 : t < 4 := by omega
                have hb1 := Nat.and_one_is_mod (u / 2 ^ t)
                refine lv_iload hx hb dX3_orderNow_52 (lv_at hl 6 rfl) ?_
                refine lv_iload hx hb dX3_orderNow_54 (lv_at hl 0 rfl) ?_
                refine z_shr hx hb (i := u) (j := t) (n := u / 2 ^ t) dX3_orderNow_56 rfl rfl (by omega) rfl ?_
                refine lv_iconst (v := iI 1) hx hb dX3_orderNow_57 rfl ?_
                refine z_and hx hb (n := (u / 2 ^ t) &&& 1) dX3_orderNow_58 rfl rfl rfl ?_
                refine z_top (b := ((u / 2 ^ t % 2 : Nat) : Int)) (by omega) ?_
                refine lv_iconst (v := iI 1) hx hb dX3_orderNow_59 rfl ?_
                refine z_ceq (tgt := 120) hx hb dX3_orderNow_60 (by decide) (by omega) (fun c8 => ?_) (fun c8 => ?_)
                · refine z_iinc (z := ((t + 1 : Nat) : Int)) (lv' := [(6, .int (iI ((t + 1 : Nat) : Int))), (5, .int (iI ((10 ^ 2 : Nat) : Int))), (0, .ref (μ (0, 0, 0))), (1, .ref (μ (6, k, 0))), (2, .ref (μ (6, k2, 0))), (3, .int (iI ((f : Nat) : Int))), (4, .int (iI ((u : Nat) : Int)))]) hx hb dX3_orderNow_120 hl (k := 0) rfl (by omega) (by decide) rfl (fun ls hl => ?_)
                  refine lv_goto (tgt := 43) hx hb dX3_orderNow_123 (by decide) ?_
                  exact W.widen (by omega) (by omega) (ihlp5 (St_d σ k - (t + 1)) (by omega) (t + 1) rfl (by omega) (by rw [← hf9, fsI_miss (k := t) (if_pos (Or.inl (by omega))) (by omega), show St_d σ k - (t + 1) = St_d σ k - t - 1 by omega]) _ _ _  hP hD hS hl)
                · have edf : dvA σ k f = St_dv σ k f := if_pos (by omega)
                  have edt : dvA σ k2 t = St_dv σ k2 t := if_pos (by omega)
                  have hdf := (hal k hk.1).2.2 f (by omega)
                  have hdt := (hal k2 hk.2).2.2 t (by omega)
                  refine lv_aload_n hx hb dX3_orderNow_63 rfl (lv_at hl 2 rfl) ?_
                  refine lv_aload_n hx hb dX3_orderNow_64 rfl (lv_at hl 3 rfl) ?_
                  refine z_get hC (k := 1) rfl in_X6 hAk.1 (by decide) q1551 (fun _ h => h) rfl dX3_orderNow_65 ?_
                  refine lv_iload_n hx hb dX3_orderNow_68 rfl (lv_at hl 5 rfl) ?_
                  refine z_iald hC hAk.2.1 (k := f) rfl (by omega) (y := (dvA σ k) f) rfl dX3_orderNow_69 ?_
                  refine z_top (b := St_dv σ k f) (edf) ?_
                  refine lv_aload_n hx hb dX3_orderNow_70 rfl (lv_at hl 4 rfl) ?_
                  refine z_get hC (k := 1) rfl in_X6 hAk2.1 (by decide) q1551 (fun _ h => h) rfl dX3_orderNow_71 ?_
                  refine lv_iload hx hb dX3_orderNow_74 (lv_at hl 0 rfl) ?_
                  refine z_iald hC hAk2.2.1 (k := t) rfl (by omega) (y := (dvA σ k2) t) rfl dX3_orderNow_76 ?_
                  refine z_top (b := St_dv σ k2 t) (edt) ?_
                  have hH1 : HM G s0 μ σ th H6 := hh.ext0 hE (zS_F hS)
                  refine z_go 0 0 (z_runV (As := [.int (iI (St_dv σ k f)), .int (iI (St_dv σ k2 t))]) (rest := []) hC hml hl.1 (m_X3_scaleNow hE H6 (hO.ext0 (zS_F hS)) μ σ th (St_dv σ k f) (St_dv σ k2 t) hH1 ⟨⟨by omega, by omega⟩, by omega, by omega⟩) (lw_V q1930 q1932 qs60 q67 q1933) rfl nd_X3_scaleNow rfl (z_rv hC (ci := 2) rfl hH1.2.2.1.1 rfl) rfl (Nat.le_of_ble_eq_true rfl) ⟨Nat.le_of_ble_eq_true rfl, Nat.le_of_ble_eq_true rfl⟩ ⟨zfit (k := 0) (z := 0) rfl rfl (by omega), zfit (k := 0) (z := 0) rfl rfl (by omega)⟩ dX3_orderNow_77) ⟨zad (k := 0) rfl (by omega), zad (k := 0) rfl (by omega)⟩ hS (fun _ z => z.elim) (fun r H9 locs hp hF hS1 => ?_)
                  obtain ⟨_, rfl, rfl⟩ := hp
                  have hP := zpk hP hF
                  have hP : va_P G.1 zCl ([]) H9 := hP
                  have hD : va_D (zA M0 H0) ([]) := hD
                  have hS := hS1
                  have hsc : -1 ≤ scN (St_p σ) (St_dv σ k f) (St_dv σ k2 t) ∧ scN (St_p σ) (St_dv σ k f) (St_dv σ k2 t) ≤ 8 := by have := fst_in (fun s => (St_dv σ k2 t * (s : Int) * (s : Int)) % St_p σ == St_dv σ k f) ((St_p σ).toNat - 1) 1; unfold scN; omega
                  refine lv_iconst (v := iI (-1)) hx hb dX3_orderNow_80 rfl ?_
                  refine z_cne (tgt := 87) hx hb dX3_orderNow_81 (by decide) (by omega) (fun c10 => ?_) (fun c10 => ?_)
                  · have h2t : 2 ^ t ≤ 8 := Nat.le_trans (Nat.pow_le_pow_right (by decide) (show t ≤ 3 by omega)) (by decide)
                    have hor : u ||| 2 ^ t < 16 := Nat.or_lt_two_pow (n := 4) (by omega) (by omega)
                    have hmf : -1 ≤ mfV (St_p σ) (St_d σ k) (St_dv σ k) (St_dv σ k2) 2 (f + 1) (u ||| 2 ^ t) 0 ∧ mfV (St_p σ) (St_d σ k) (St_dv σ k) (St_dv σ k2) 2 (f + 1) (u ||| 2 ^ t) 0 ≤ 9999 := mfV_in hd4 (by decide)
                    have hlin : mfV (St_p σ) (St_d σ k) (St_dv σ k) (St_dv σ k2) 2 (f + 1) (u ||| 2 ^ t) (10 * 0 + t) = if mfV (St_p σ) (St_d σ k) (St_dv σ k) (St_dv σ k2) 2 (f + 1) (u ||| 2 ^ t) 0 = -1 then -1 else (((10 * 0 + t) * 10 ^ 2 : Nat) : Int) + mfV (St_p σ) (St_d σ k) (St_dv σ k) (St_dv σ k2) 2 (f + 1) (u ||| 2 ^ t) 0 := mfV_o
                    have hpwt : t * 10 ^ 2 ≤ 3000 := by simp only [Nat.reducePow]; omega
                    refine lv_aload_n hx hb dX3_orderNow_87 rfl (lv_at hl 2 rfl) ?_
                    refine lv_aload_n hx hb dX3_orderNow_88 rfl (lv_at hl 3 rfl) ?_
                    refine lv_aload_n hx hb dX3_orderNow_89 rfl (lv_at hl 4 rfl) ?_
                    refine lv_iload_n hx hb dX3_orderNow_90 rfl (lv_at hl 5 rfl) ?_
                    refine lv_iconst (v := iI 1) hx hb dX3_orderNow_91 rfl ?_
                    refine z_add hx hb (z := ((f : Nat) : Int) + 1) dX3_orderNow_92 rfl ?_
                    refine lv_iload hx hb dX3_orderNow_93 (lv_at hl 6 rfl) ?_
                    refine lv_iconst (v := iI 1) hx hb dX3_orderNow_95 rfl ?_
                    refine lv_iload hx hb dX3_orderNow_96 (lv_at hl 0 rfl) ?_
                    refine z_shl hx hb (i := 1) (j := t) (n := 1 * 2 ^ t) dX3_orderNow_98 rfl rfl (by omega) rfl ?_
                    refine z_top (b := ((2 ^ t : Nat) : Int)) (by omega) ?_
                    refine z_or hx hb (n := u ||| (2 ^ t)) dX3_orderNow_99 rfl rfl rfl ?_
                    have hH1 : HM G s0 μ σ th H9 := hh.ext0 hE (zS_F hS)
                    refine z_go 0 0 (z_runV (As := [.ref (μ (6, k, 0)), .ref (μ (6, k2, 0)), .int (iI (((f : Nat) : Int) + 1)), .int (iI ((u ||| (2 ^ t) : Nat) : Int))]) (rest := []) hC hml hl.1 (m_X3_orderNow_2 hE H9 (hO.ext0 (zS_F hS)) μ σ th k k2 (f + 1) (u ||| 2 ^ t) hH1 hk ⟨hd.1, by omega⟩ (by omega)) (lw_V q1926 q1928 qs59 q67 q1929) rfl nd_X3_orderNow rfl (z_rv hC (ci := 2) rfl hH1.2.2.1.1 rfl) rfl (Nat.le_of_ble_eq_true rfl) ⟨Nat.le_of_ble_eq_true rfl, Nat.le_of_ble_eq_true rfl⟩ ⟨zfit (k := 0) (z := 0) rfl rfl (by omega), zfit (k := 0) (z := 0) rfl rfl (by omega)⟩ dX3_orderNow_100) ⟨zad (k := 0) rfl (by omega), zad (k := 0) rfl (by omega)⟩ hS (fun _ z => z.elim) (fun r H11 locs hp hF hS1 => ?_)
                    obtain ⟨_, rfl, rfl⟩ := hp
                    have hP := zpk hP hF
                    have hP : va_P G.1 zCl ([]) H11 := hP
                    have hD : va_D (zA M0 H0) ([]) := hD
                    have hS := hS1
                    refine lv_istore (lv' := [(7, .int (iI (mfV (St_p σ) (St_d σ k) (St_dv σ k) (St_dv σ k2) 2 (f + 1) (u ||| 2 ^ t) 0))), (6, .int (iI ((t : Nat) : Int))), (5, .int (iI ((10 ^ 2 : Nat) : Int))), (0, .ref (μ (0, 0, 0))), (1, .ref (μ (6, k, 0))), (2, .ref (μ (6, k2, 0))), (3, .int (iI ((f : Nat) : Int))), (4, .int (iI ((u : Nat) : Int)))]) hx hb dX3_orderNow_103 hl (by decide) rfl (fun ls hl => ?_)
                    refine lv_iload hx hb dX3_orderNow_105 (lv_at hl 0 rfl) ?_
                    refine lv_iconst (v := iI (-1)) hx hb dX3_orderNow_107 rfl ?_
                    refine z_ceq (tgt := 120) hx hb dX3_orderNow_108 (by decide) (by omega) (fun c12 => ?_) (fun c12 => ?_)
                    · refine z_iinc (z := ((t + 1 : Nat) : Int)) (lv' := [(6, .int (iI ((t + 1 : Nat) : Int))), (7, .int (iI (mfV (St_p σ) (St_d σ k) (St_dv σ k) (St_dv σ k2) 2 (f + 1) (u ||| 2 ^ t) 0))), (5, .int (iI ((10 ^ 2 : Nat) : Int))), (0, .ref (μ (0, 0, 0))), (1, .ref (μ (6, k, 0))), (2, .ref (μ (6, k2, 0))), (3, .int (iI ((f : Nat) : Int))), (4, .int (iI ((u : Nat) : Int)))]) hx hb dX3_orderNow_120 hl (k := 1) rfl (by omega) (by decide) rfl (fun ls hl => ?_)
                      refine lv_goto (tgt := 43) hx hb dX3_orderNow_123 (by decide) ?_
                      exact W.widen (by omega) (by omega) (ihlp5 (St_d σ k - (t + 1)) (by omega) (t + 1) rfl (by omega) (by rw [← hf9, fsI_miss (k := t) (eq_m1 (if_neg (by omega)) (by rw [hlin, if_pos (by assumption)])) (by omega), show St_d σ k - (t + 1) = St_d σ k - t - 1 by omega]) _ _ _  hP hD hS (lv_sub hl [0, 2, 3, 4, 5, 6, 7] rfl))
                    · have hlin2 : mfV (St_p σ) (St_d σ k) (St_dv σ k) (St_dv σ k2) 2 (f + 1) (u ||| 2 ^ t) (10 * 0 + t) = ((t * 10 ^ 2 : Nat) : Int) + mfV (St_p σ) (St_d σ k) (St_dv σ k) (St_dv σ k2) 2 (f + 1) (u ||| 2 ^ t) 0 := by rw [hlin, if_neg (by assumption), Nat.mul_zero, Nat.zero_add]
                      refine lv_iload hx hb dX3_orderNow_111 (lv_at hl 1 rfl) ?_
                      refine lv_iload hx hb dX3_orderNow_113 (lv_at hl 2 rfl) ?_
                      refine z_mul hx hb (z := ((t : Nat) : Int) * ((10 ^ 2 : Nat) : Int)) dX3_orderNow_115 rfl ?_
                      refine z_top (b := ((t * 10 ^ 2 : Nat) : Int)) ((Int.natCast_mul _ _).symm) ?_
                      refine lv_iload hx hb dX3_orderNow_116 (lv_at hl 0 rfl) ?_
                      refine z_add hx hb (z := ((t * 10 ^ 2 : Nat) : Int) + (mfV (St_p σ) (St_d σ k) (St_dv σ k) (St_dv σ k2) 2 (f + 1) (u ||| 2 ^ t) 0)) dX3_orderNow_118 rfl ?_
                      exact z_iret hC hrt hlk hQ hS ⟨zle (z := 0) rfl (by omega), zle (z := 0) rfl (by omega)⟩ ⟨_, rfl, by rw [← hf9, ← hlin2]; exact (fsI_hit2 (k := t) (if_neg (by omega)) (by omega) (by omega)).symm⟩ dX3_orderNow_119
                  · refine lv_goto (tgt := 120) hx hb dX3_orderNow_84 (by decide) ?_
                    refine z_iinc (z := ((t + 1 : Nat) : Int)) (lv' := [(6, .int (iI ((t + 1 : Nat) : Int))), (5, .int (iI ((10 ^ 2 : Nat) : Int))), (0, .ref (μ (0, 0, 0))), (1, .ref (μ (6, k, 0))), (2, .ref (μ (6, k2, 0))), (3, .int (iI ((f : Nat) : Int))), (4, .int (iI ((u : Nat) : Int)))]) hx hb dX3_orderNow_120 hl (k := 0) rfl (by omega) (by decide) rfl (fun ls hl => ?_)
                    refine lv_goto (tgt := 43) hx hb dX3_orderNow_123 (by decide) ?_
                    exact W.widen (by omega) (by omega) (ihlp5 (St_d σ k - (t + 1)) (by omega) (t + 1) rfl (by omega) (by rw [← hf9, fsI_miss (k := t) (if_pos (Or.inr (by assumption))) (by omega), show St_d σ k - (t + 1) = St_d σ k - t - 1 by omega]) _ _ _  hP hD hS hl)
          exact W.widen (by omega) (by omega) (lp5 _ 0 rfl (Nat.zero_le _) rfl _ _ _  hP hD hS hl)
        · have hpc : 10 ^ c9 ≤ 1000 := Nat.le_trans (Nat.pow_le_pow_right (by decide) (show c9 ≤ 3 by omega)) (by decide)
          refine lv_iload hx hb dX3_orderNow_27 (lv_at hl 1 rfl) ?_
          refine lv_bipush (v := iI 10) hx hb dX3_orderNow_29 (by decide) ?_
          refine z_mul hx hb (z := ((10 ^ c9 : Nat) : Int) * 10) dX3_orderNow_31 rfl ?_
          refine z_top (b := ((10 ^ (c9 + 1) : Nat) : Int)) (by rw [Nat.pow_succ]; omega) ?_
          refine lv_istore (lv' := [(5, .int (iI ((10 ^ (c9 + 1) : Nat) : Int))), (6, .int (iI ((f + 1 + c9 : Nat) : Int))), (0, .ref (μ (0, 0, 0))), (1, .ref (μ (6, k, 0))), (2, .ref (μ (6, k2, 0))), (3, .int (iI ((f : Nat) : Int))), (4, .int (iI ((u : Nat) : Int)))]) hx hb dX3_orderNow_32 hl (by decide) rfl (fun ls hl => ?_)
          refine z_iinc (z := ((f + 1 + (c9 + 1) : Nat) : Int)) (lv' := [(6, .int (iI ((f + 1 + (c9 + 1) : Nat) : Int))), (5, .int (iI ((10 ^ (c9 + 1) : Nat) : Int))), (0, .ref (μ (0, 0, 0))), (1, .ref (μ (6, k, 0))), (2, .ref (μ (6, k2, 0))), (3, .int (iI ((f : Nat) : Int))), (4, .int (iI ((u : Nat) : Int)))]) hx hb dX3_orderNow_34 hl (k := 1) rfl (by omega) (by decide) rfl (fun ls hl => ?_)
          refine lv_goto (tgt := 18) hx hb dX3_orderNow_37 (by decide) ?_
          exact W.widen (by omega) (by omega) (ihlp2 (St_d σ k - (c9 + 1)) (by omega) (c9 + 1) rfl (by omega) _ _ _  hP hD hS hl)
    exact W.widen (by omega) (by omega) (lp2 _ 0 rfl (by omega) _ _ _  hP hD hS hl)
  · omega

abbrev rm_m_X3_orderNow_4 : Room := { frames := 5, cells := 0, slots := 0, locals := 125 }
set_option maxHeartbeats 4000000 in
theorem m_X3_orderNow_4 {l : Launch} {s0 : State} {G : zG} (hE : zE l s0 G) (H0 : Heap) (hO : zO s0 H0) (μ : Ro → Nat) (σ : St) (th : Int) (k k2 f u : Nat) (hh : HM G s0 μ σ th H0) (hk : k < St_na σ ∧ k2 < St_na σ) (hd : St_d σ k2 = St_d σ k ∧ f + 4 = St_d σ k) (hu : u ≤ 15) : zM l s0 yX3_orderNow cX3_orderNow 8 (some FieldType.int) rm_m_X3_orderNow_4 [.ref (μ (0, 0, 0)), .ref (μ (6, k, 0)), .ref (μ (6, k2, 0)), .int (iI ((f : Nat) : Int)), .int (iI ((u : Nat) : Int))] H0 M0 (ri (fun y _ => y = mfV (St_p σ) (St_d σ k) (St_dv σ k) (St_dv σ k2) 4 f u 0)) := by
  refine z_met hE (by decide +kernel) (Nat.le_of_ble_eq_true rfl) ?_
  intro pp ee ss mm args below meth cd Q ls hC hml hrt hlk hnm hH hQ hS hl
  have hx := hC.x
  have hb := hC.b
  have hl : lv_has ls 8 [(0, .ref (μ (0, 0, 0))), (1, .ref (μ (6, k, 0))), (2, .ref (μ (6, k2, 0))), (3, .int (iI ((f : Nat) : Int))), (4, .int (iI ((u : Nat) : Int)))] := hl
  have hP : va_P G.1 zCl [] H0 := va_nil
  have hD : va_D (zA M0 H0) [] := va_nilD
  have hH1 := hh
  obtain ⟨hp, hna, hal, hne9, hel9, hmr9⟩ := id hh.ok
  have hp7 : 0 < St_p σ ∧ St_p σ ≤ 7 := by rcases hp with h | h | h <;> rw [h] <;> decide
  have hd4 := (hal k hk.1).2.1
  have hH1 : HM G s0 μ σ th H0 := hh.ext0 hE (zS_F hS)
  have hAk := hH1.al (k := k) (by omega)
  have hn16k := hH1.n (k := k) (by omega)
  have hH1 : HM G s0 μ σ th H0 := hh.ext0 hE (zS_F hS)
  have hAk2 := hH1.al (k := k2) (by omega)
  have hn16k2 := hH1.n (k := k2) (by omega)
  refine lv_iload_n hx hb dX3_orderNow_0 rfl (lv_at hl 3 rfl) ?_
  refine lv_aload_n hx hb dX3_orderNow_1 rfl (lv_at hl 1 rfl) ?_
  refine z_get hC (k := 3) rfl in_X6 hAk.1 (by decide) q1555 (fun _ h => h) rfl dX3_orderNow_2 ?_
  refine z_cne (tgt := 10) hx hb dX3_orderNow_5 (by decide) (by omega) (fun c1 => ?_) (fun c1 => ?_)
  · refine lv_iconst (v := iI 1) hx hb dX3_orderNow_10 rfl ?_
    refine lv_istore (lv' := [(5, .int (iI 1)), (0, .ref (μ (0, 0, 0))), (1, .ref (μ (6, k, 0))), (2, .ref (μ (6, k2, 0))), (3, .int (iI ((f : Nat) : Int))), (4, .int (iI ((u : Nat) : Int)))]) hx hb dX3_orderNow_11 hl (by decide) rfl (fun ls hl => ?_)
    refine lv_iload_n hx hb dX3_orderNow_13 rfl (lv_at hl 4 rfl) ?_
    refine lv_iconst (v := iI 1) hx hb dX3_orderNow_14 rfl ?_
    refine z_add hx hb (z := ((f : Nat) : Int) + 1) dX3_orderNow_15 rfl ?_
    refine lv_istore (lv' := [(6, .int (iI (((f : Nat) : Int) + 1))), (5, .int (iI 1)), (0, .ref (μ (0, 0, 0))), (1, .ref (μ (6, k, 0))), (2, .ref (μ (6, k2, 0))), (3, .int (iI ((f : Nat) : Int))), (4, .int (iI ((u : Nat) : Int)))]) hx hb dX3_orderNow_16 hl (by decide) rfl (fun ls hl => ?_)
    have lp2 : ∀ (dlp2 : Nat) (c9 : Nat), St_d σ k - c9 = dlp2 → (f + 1 + c9 ≤ St_d σ k) → ∀ (H3 : Heap) (locs : List Loc) (ls : Array Slot), va_P G.1 zCl ([]) H3 → va_D (zA M0 H0) ([]) → va_S (zA M0 H0) H0 H3 locs → lv_has ls 8 [(6, .int (iI ((f + 1 + c9 : Nat) : Int))), (5, .int (iI ((10 ^ c9 : Nat) : Int))), (0, .ref (μ (0, 0, 0))), (1, .ref (μ (6, k, 0))), (2, .ref (μ (6, k2, 0))), (3, .int (iI ((f : Nat) : Int))), (4, .int (iI ((u : Nat) : Int)))] → W pp l ee rm_m_X3_orderNow_4 ss mm args below meth cd H3 locs 0 0 Q (F0 mm 18 ls []) := by
      intro dlp2
      induction dlp2 using Nat.strongRecOn with
      | ind dlp2 ihlp2 =>
        intro c9 hdlp2 hc9 H3 locs ls  hP hD hS hl
        have hH1 : HM G s0 μ σ th H3 := hh.ext0 hE (zS_F hS)
        have hAk := hH1.al (k := k) (by omega)
        have hn16k := hH1.n (k := k) (by omega)
        refine lv_iload hx hb dX3_orderNow_18 (lv_at hl 0 rfl) ?_
        refine lv_aload_n hx hb dX3_orderNow_20 rfl (lv_at hl 3 rfl) ?_
        refine z_get hC (k := 3) rfl in_X6 hAk.1 (by decide) q1555 (fun _ h => h) rfl dX3_orderNow_21 ?_
        refine z_cge (tgt := 40) hx hb dX3_orderNow_24 (by decide) (by omega) (fun c4 => ?_) (fun c4 => ?_)
        · have ecr : c9 = 3 := by omega
          subst ecr
          refine lv_iconst (v := iI 0) hx hb dX3_orderNow_40 rfl ?_
          refine lv_istore (lv' := [(6, .int (iI 0)), (5, .int (iI ((10 ^ 3 : Nat) : Int))), (0, .ref (μ (0, 0, 0))), (1, .ref (μ (6, k, 0))), (2, .ref (μ (6, k2, 0))), (3, .int (iI ((f : Nat) : Int))), (4, .int (iI ((u : Nat) : Int)))]) hx hb dX3_orderNow_41 hl (by decide) rfl (fun ls hl => ?_)
          have lp5 : ∀ (dlp5 : Nat) (t : Nat), St_d σ k - t = dlp5 → (t ≤ St_d σ k) → (fsI (fun t => if u / 2 ^ t % 2 = 1 ∨ scN (St_p σ) (St_dv σ k f) (St_dv σ k2 t) = -1 then -1 else mfV (St_p σ) (St_d σ k) (St_dv σ k) (St_dv σ k2) 3 (f + 1) (u ||| 2 ^ t) (10 * 0 + t)) (St_d σ k - t) t = mfV (St_p σ) (St_d σ k) (St_dv σ k) (St_dv σ k2) 4 f u 0) → ∀ (H6 : Heap) (locs : List Loc) (ls : Array Slot), va_P G.1 zCl ([]) H6 → va_D (zA M0 H0) ([]) → va_S (zA M0 H0) H0 H6 locs → lv_has ls 8 [(6, .int (iI ((t : Nat) : Int))), (5, .int (iI ((10 ^ 3 : Nat) : Int))), (0, .ref (μ (0, 0, 0))), (1, .ref (μ (6, k, 0))), (2, .ref (μ (6, k2, 0))), (3, .int (iI ((f : Nat) : Int))), (4, .int (iI ((u : Nat) : Int)))] → W pp l ee rm_m_X3_orderNow_4 ss mm args below meth cd H6 locs 0 0 Q (F0 mm 43 ls []) := by
            intro dlp5
            induction dlp5 using Nat.strongRecOn with
            | ind dlp5 ihlp5 =>
              intro t hdlp5 ht hf9 H6 locs ls  hP hD hS hl
              have hH1 : HM G s0 μ σ th H6 := hh.ext0 hE (zS_F hS)
              have hAk := hH1.al (k := k) (by omega)
              have hn16k := hH1.n (k := k) (by omega)
              have hH1 : HM G s0 μ σ th H6 := hh.ext0 hE (zS_F hS)
              have hAk2 := hH1.al (k := k2) (by omega)
              have hn16k2 := hH1.n (k := k2) (by omega)
              refine lv_iload hx hb dX3_orderNow_43 (lv_at hl 0 rfl) ?_
              refine lv_aload_n hx hb dX3_orderNow_45 rfl (lv_at hl 4 rfl) ?_
              refine z_get hC (k := 3) rfl in_X6 hAk2.1 (by decide) q1555 (fun _ h => h) rfl dX3_orderNow_46 ?_
              refine z_cge (tgt := 126) hx hb dX3_orderNow_49 (by decide) (by omega) (fun c7 => ?_) (fun c7 => ?_)
              · have et : St_d σ k - t = 0 := by omega
                refine lv_iconst (v := iI (-1)) hx hb dX3_orderNow_126 rfl ?_
                exact z_iret hC hrt hlk hQ hS ⟨zle (z := 0) rfl (by omega), zle (z := 0) rfl (by omega)⟩ ⟨_, rfl, by rw [← hf9, et]; rfl⟩ dX3_orderNow_127
              · have ht3 : t < 4 := by omega
                have hb1 := Nat.and_one_is_mod (u / 2 ^ t)
                refine lv_iload hx hb dX3_orderNow_52 (lv_at hl 6 rfl) ?_
                refine lv_iload hx hb dX3_orderNow_54 (lv_at hl 0 rfl) ?_
                refine z_shr hx hb (i := u) (j := t) (n := u / 2 ^ t) dX3_orderNow_56 rfl rfl (by omega) rfl ?_
                refine lv_iconst (v := iI 1) hx hb dX3_orderNow_57 rfl ?_
                refine z_and hx hb (n := (u / 2 ^ t) &&& 1) dX3_orderNow_58 rfl rfl rfl ?_
                refine z_top (b := ((u / 2 ^ t % 2 : Nat) : Int)) (by omega) ?_
                refine lv_iconst (v := iI 1) hx hb dX3_orderNow_59 rfl ?_
                refine z_ceq (tgt := 120) hx hb dX3_orderNow_60 (by decide) (by omega) (fun c8 => ?_) (fun c8 => ?_)
                · refine z_iinc (z := ((t + 1 : Nat) : Int)) (lv' := [(6, .int (iI ((t + 1 : Nat) : Int))), (5, .int (iI ((10 ^ 3 : Nat) : Int))), (0, .ref (μ (0, 0, 0))), (1, .ref (μ (6, k, 0))), (2, .ref (μ (6, k2, 0))), (3, .int (iI ((f : Nat) : Int))), (4, .int (iI ((u : Nat) : Int)))]) hx hb dX3_orderNow_120 hl (k := 0) rfl (by omega) (by decide) rfl (fun ls hl => ?_)
                  refine lv_goto (tgt := 43) hx hb dX3_orderNow_123 (by decide) ?_
                  exact W.widen (by omega) (by omega) (ihlp5 (St_d σ k - (t + 1)) (by omega) (t + 1) rfl (by omega) (by rw [← hf9, fsI_miss (k := t) (if_pos (Or.inl (by omega))) (by omega), show St_d σ k - (t + 1) = St_d σ k - t - 1 by omega]) _ _ _  hP hD hS hl)
                · have edf : dvA σ k f = St_dv σ k f := if_pos (by omega)
                  have edt : dvA σ k2 t = St_dv σ k2 t := if_pos (by omega)
                  have hdf := (hal k hk.1).2.2 f (by omega)
                  have hdt := (hal k2 hk.2).2.2 t (by omega)
                  refine lv_aload_n hx hb dX3_orderNow_63 rfl (lv_at hl 2 rfl) ?_
                  refine lv_aload_n hx hb dX3_orderNow_64 rfl (lv_at hl 3 rfl) ?_
                  refine z_get hC (k := 1) rfl in_X6 hAk.1 (by decide) q1551 (fun _ h => h) rfl dX3_orderNow_65 ?_
                  refine lv_iload_n hx hb dX3_orderNow_68 rfl (lv_at hl 5 rfl) ?_
                  refine z_iald hC hAk.2.1 (k := f) rfl (by omega) (y := (dvA σ k) f) rfl dX3_orderNow_69 ?_
                  refine z_top (b := St_dv σ k f) (edf) ?_
                  refine lv_aload_n hx hb dX3_orderNow_70 rfl (lv_at hl 4 rfl) ?_
                  refine z_get hC (k := 1) rfl in_X6 hAk2.1 (by decide) q1551 (fun _ h => h) rfl dX3_orderNow_71 ?_
                  refine lv_iload hx hb dX3_orderNow_74 (lv_at hl 0 rfl) ?_
                  refine z_iald hC hAk2.2.1 (k := t) rfl (by omega) (y := (dvA σ k2) t) rfl dX3_orderNow_76 ?_
                  refine z_top (b := St_dv σ k2 t) (edt) ?_
                  have hH1 : HM G s0 μ σ th H6 := hh.ext0 hE (zS_F hS)
                  refine z_go 0 0 (z_runV (As := [.int (iI (St_dv σ k f)), .int (iI (St_dv σ k2 t))]) (rest := []) hC hml hl.1 (m_X3_scaleNow hE H6 (hO.ext0 (zS_F hS)) μ σ th (St_dv σ k f) (St_dv σ k2 t) hH1 ⟨⟨by omega, by omega⟩, by omega, by omega⟩) (lw_V q1930 q1932 qs60 q67 q1933) rfl nd_X3_scaleNow rfl (z_rv hC (ci := 2) rfl hH1.2.2.1.1 rfl) rfl (Nat.le_of_ble_eq_true rfl) ⟨Nat.le_of_ble_eq_true rfl, Nat.le_of_ble_eq_true rfl⟩ ⟨zfit (k := 0) (z := 0) rfl rfl (by omega), zfit (k := 0) (z := 0) rfl rfl (by omega)⟩ dX3_orderNow_77) ⟨zad (k := 0) rfl (by omega), zad (k := 0) rfl (by omega)⟩ hS (fun _ z => z.elim) (fun r H9 locs hp hF hS1 => ?_)
                  obtain ⟨_, rfl, rfl⟩ := hp
                  have hP := zpk hP hF
                  have hP : va_P G.1 zCl ([]) H9 := hP
                  have hD : va_D (zA M0 H0) ([]) := hD
                  have hS := hS1
                  have hsc : -1 ≤ scN (St_p σ) (St_dv σ k f) (St_dv σ k2 t) ∧ scN (St_p σ) (St_dv σ k f) (St_dv σ k2 t) ≤ 8 := by have := fst_in (fun s => (St_dv σ k2 t * (s : Int) * (s : Int)) % St_p σ == St_dv σ k f) ((St_p σ).toNat - 1) 1; unfold scN; omega
                  refine lv_iconst (v := iI (-1)) hx hb dX3_orderNow_80 rfl ?_
                  refine z_cne (tgt := 87) hx hb dX3_orderNow_81 (by decide) (by omega) (fun c10 => ?_) (fun c10 => ?_)
                  · have h2t : 2 ^ t ≤ 8 := Nat.le_trans (Nat.pow_le_pow_right (by decide) (show t ≤ 3 by omega)) (by decide)
                    have hor : u ||| 2 ^ t < 16 := Nat.or_lt_two_pow (n := 4) (by omega) (by omega)
                    have hmf : -1 ≤ mfV (St_p σ) (St_d σ k) (St_dv σ k) (St_dv σ k2) 3 (f + 1) (u ||| 2 ^ t) 0 ∧ mfV (St_p σ) (St_d σ k) (St_dv σ k) (St_dv σ k2) 3 (f + 1) (u ||| 2 ^ t) 0 ≤ 9999 := mfV_in hd4 (by decide)
                    have hlin : mfV (St_p σ) (St_d σ k) (St_dv σ k) (St_dv σ k2) 3 (f + 1) (u ||| 2 ^ t) (10 * 0 + t) = if mfV (St_p σ) (St_d σ k) (St_dv σ k) (St_dv σ k2) 3 (f + 1) (u ||| 2 ^ t) 0 = -1 then -1 else (((10 * 0 + t) * 10 ^ 3 : Nat) : Int) + mfV (St_p σ) (St_d σ k) (St_dv σ k) (St_dv σ k2) 3 (f + 1) (u ||| 2 ^ t) 0 := mfV_o
                    have hpwt : t * 10 ^ 3 ≤ 3000 := by simp only [Nat.reducePow]; omega
                    refine lv_aload_n hx hb dX3_orderNow_87 rfl (lv_at hl 2 rfl) ?_
                    refine lv_aload_n hx hb dX3_orderNow_88 rfl (lv_at hl 3 rfl) ?_
                    refine lv_aload_n hx hb dX3_orderNow_89 rfl (lv_at hl 4 rfl) ?_
                    refine lv_iload_n hx hb dX3_orderNow_90 rfl (lv_at hl 5 rfl) ?_
                    refine lv_iconst (v := iI 1) hx hb dX3_orderNow_91 rfl ?_
                    refine z_add hx hb (z := ((f : Nat) : Int) + 1) dX3_orderNow_92 rfl ?_
                    refine lv_iload hx hb dX3_orderNow_93 (lv_at hl 6 rfl) ?_
                    refine lv_iconst (v := iI 1) hx hb dX3_orderNow_95 rfl ?_
                    refine lv_iload hx hb dX3_orderNow_96 (lv_at hl 0 rfl) ?_
                    refine z_shl hx hb (i := 1) (j := t) (n := 1 * 2 ^ t) dX3_orderNow_98 rfl rfl (by omega) rfl ?_
                    refine z_top (b := ((2 ^ t : Nat) : Int)) (by omega) ?_
                    refine z_or hx hb (n := u ||| (2 ^ t)) dX3_orderNow_99 rfl rfl rfl ?_
                    have hH1 : HM G s0 μ σ th H9 := hh.ext0 hE (zS_F hS)
                    refine z_go 0 0 (z_runV (As := [.ref (μ (6, k, 0)), .ref (μ (6, k2, 0)), .int (iI (((f : Nat) : Int) + 1)), .int (iI ((u ||| (2 ^ t) : Nat) : Int))]) (rest := []) hC hml hl.1 (m_X3_orderNow_3 hE H9 (hO.ext0 (zS_F hS)) μ σ th k k2 (f + 1) (u ||| 2 ^ t) hH1 hk ⟨hd.1, by omega⟩ (by omega)) (lw_V q1926 q1928 qs59 q67 q1929) rfl nd_X3_orderNow rfl (z_rv hC (ci := 2) rfl hH1.2.2.1.1 rfl) rfl (Nat.le_of_ble_eq_true rfl) ⟨Nat.le_of_ble_eq_true rfl, Nat.le_of_ble_eq_true rfl⟩ ⟨zfit (k := 0) (z := 0) rfl rfl (by omega), zfit (k := 0) (z := 0) rfl rfl (by omega)⟩ dX3_orderNow_100) ⟨zad (k := 0) rfl (by omega), zad (k := 0) rfl (by omega)⟩ hS (fun _ z => z.elim) (fun r H11 locs hp hF hS1 => ?_)
                    obtain ⟨_, rfl, rfl⟩ := hp
                    have hP := zpk hP hF
                    have hP : va_P G.1 zCl ([]) H11 := hP
                    have hD : va_D (zA M0 H0) ([]) := hD
                    have hS := hS1
                    refine lv_istore (lv' := [(7, .int (iI (mfV (St_p σ) (St_d σ k) (St_dv σ k) (St_dv σ k2) 3 (f + 1) (u ||| 2 ^ t) 0))), (6, .int (iI ((t : Nat) : Int))), (5, .int (iI ((10 ^ 3 : Nat) : Int))), (0, .ref (μ (0, 0, 0))), (1, .ref (μ (6, k, 0))), (2, .ref (μ (6, k2, 0))), (3, .int (iI ((f : Nat) : Int))), (4, .int (iI ((u : Nat) : Int)))]) hx hb dX3_orderNow_103 hl (by decide) rfl (fun ls hl => ?_)
                    refine lv_iload hx hb dX3_orderNow_105 (lv_at hl 0 rfl) ?_
                    refine lv_iconst (v := iI (-1)) hx hb dX3_orderNow_107 rfl ?_
                    refine z_ceq (tgt := 120) hx hb dX3_orderNow_108 (by decide) (by omega) (fun c12 => ?_) (fun c12 => ?_)
                    · refine z_iinc (z := ((t + 1 : Nat) : Int)) (lv' := [(6, .int (iI ((t + 1 : Nat) : Int))), (7, .int (iI (mfV (St_p σ) (St_d σ k) (St_dv σ k) (St_dv σ k2) 3 (f + 1) (u ||| 2 ^ t) 0))), (5, .int (iI ((10 ^ 3 : Nat) : Int))), (0, .ref (μ (0, 0, 0))), (1, .ref (μ (6, k, 0))), (2, .ref (μ (6, k2, 0))), (3, .int (iI ((f : Nat) : Int))), (4, .int (iI ((u : Nat) : Int)))]) hx hb dX3_orderNow_120 hl (k := 1) rfl (by omega) (by decide) rfl (fun ls hl => ?_)
                      refine lv_goto (tgt := 43) hx hb dX3_orderNow_123 (by decide) ?_
                      exact W.widen (by omega) (by omega) (ihlp5 (St_d σ k - (t + 1)) (by omega) (t + 1) rfl (by omega) (by rw [← hf9, fsI_miss (k := t) (eq_m1 (if_neg (by omega)) (by rw [hlin, if_pos (by assumption)])) (by omega), show St_d σ k - (t + 1) = St_d σ k - t - 1 by omega]) _ _ _  hP hD hS (lv_sub hl [0, 2, 3, 4, 5, 6, 7] rfl))
                    · have hlin2 : mfV (St_p σ) (St_d σ k) (St_dv σ k) (St_dv σ k2) 3 (f + 1) (u ||| 2 ^ t) (10 * 0 + t) = ((t * 10 ^ 3 : Nat) : Int) + mfV (St_p σ) (St_d σ k) (St_dv σ k) (St_dv σ k2) 3 (f + 1) (u ||| 2 ^ t) 0 := by rw [hlin, if_neg (by assumption), Nat.mul_zero, Nat.zero_add]
                      refine lv_iload hx hb dX3_orderNow_111 (lv_at hl 1 rfl) ?_
                      refine lv_iload hx hb dX3_orderNow_113 (lv_at hl 2 rfl) ?_
                      refine z_mul hx hb (z := ((t : Nat) : Int) * ((10 ^ 3 : Nat) : Int)) dX3_orderNow_115 rfl ?_
                      refine z_top (b := ((t * 10 ^ 3 : Nat) : Int)) ((Int.natCast_mul _ _).symm) ?_
                      refine lv_iload hx hb dX3_orderNow_116 (lv_at hl 0 rfl) ?_
                      refine z_add hx hb (z := ((t * 10 ^ 3 : Nat) : Int) + (mfV (St_p σ) (St_d σ k) (St_dv σ k) (St_dv σ k2) 3 (f + 1) (u ||| 2 ^ t) 0)) dX3_orderNow_118 rfl ?_
                      exact z_iret hC hrt hlk hQ hS ⟨zle (z := 0) rfl (by omega), zle (z := 0) rfl (by omega)⟩ ⟨_, rfl, by rw [← hf9, ← hlin2]; exact (fsI_hit2 (k := t) (if_neg (by omega)) (by omega) (by omega)).symm⟩ dX3_orderNow_119
                  · refine lv_goto (tgt := 120) hx hb dX3_orderNow_84 (by decide) ?_
                    refine z_iinc (z := ((t + 1 : Nat) : Int)) (lv' := [(6, .int (iI ((t + 1 : Nat) : Int))), (5, .int (iI ((10 ^ 3 : Nat) : Int))), (0, .ref (μ (0, 0, 0))), (1, .ref (μ (6, k, 0))), (2, .ref (μ (6, k2, 0))), (3, .int (iI ((f : Nat) : Int))), (4, .int (iI ((u : Nat) : Int)))]) hx hb dX3_orderNow_120 hl (k := 0) rfl (by omega) (by decide) rfl (fun ls hl => ?_)
                    refine lv_goto (tgt := 43) hx hb dX3_orderNow_123 (by decide) ?_
                    exact W.widen (by omega) (by omega) (ihlp5 (St_d σ k - (t + 1)) (by omega) (t + 1) rfl (by omega) (by rw [← hf9, fsI_miss (k := t) (if_pos (Or.inr (by assumption))) (by omega), show St_d σ k - (t + 1) = St_d σ k - t - 1 by omega]) _ _ _  hP hD hS hl)
          exact W.widen (by omega) (by omega) (lp5 _ 0 rfl (Nat.zero_le _) rfl _ _ _  hP hD hS hl)
        · have hpc : 10 ^ c9 ≤ 1000 := Nat.le_trans (Nat.pow_le_pow_right (by decide) (show c9 ≤ 3 by omega)) (by decide)
          refine lv_iload hx hb dX3_orderNow_27 (lv_at hl 1 rfl) ?_
          refine lv_bipush (v := iI 10) hx hb dX3_orderNow_29 (by decide) ?_
          refine z_mul hx hb (z := ((10 ^ c9 : Nat) : Int) * 10) dX3_orderNow_31 rfl ?_
          refine z_top (b := ((10 ^ (c9 + 1) : Nat) : Int)) (by rw [Nat.pow_succ]; omega) ?_
          refine lv_istore (lv' := [(5, .int (iI ((10 ^ (c9 + 1) : Nat) : Int))), (6, .int (iI ((f + 1 + c9 : Nat) : Int))), (0, .ref (μ (0, 0, 0))), (1, .ref (μ (6, k, 0))), (2, .ref (μ (6, k2, 0))), (3, .int (iI ((f : Nat) : Int))), (4, .int (iI ((u : Nat) : Int)))]) hx hb dX3_orderNow_32 hl (by decide) rfl (fun ls hl => ?_)
          refine z_iinc (z := ((f + 1 + (c9 + 1) : Nat) : Int)) (lv' := [(6, .int (iI ((f + 1 + (c9 + 1) : Nat) : Int))), (5, .int (iI ((10 ^ (c9 + 1) : Nat) : Int))), (0, .ref (μ (0, 0, 0))), (1, .ref (μ (6, k, 0))), (2, .ref (μ (6, k2, 0))), (3, .int (iI ((f : Nat) : Int))), (4, .int (iI ((u : Nat) : Int)))]) hx hb dX3_orderNow_34 hl (k := 1) rfl (by omega) (by decide) rfl (fun ls hl => ?_)
          refine lv_goto (tgt := 18) hx hb dX3_orderNow_37 (by decide) ?_
          exact W.widen (by omega) (by omega) (ihlp2 (St_d σ k - (c9 + 1)) (by omega) (c9 + 1) rfl (by omega) _ _ _  hP hD hS hl)
    exact W.widen (by omega) (by omega) (lp2 _ 0 rfl (by omega) _ _ _  hP hD hS hl)
  · omega

abbrev rm_m_X3_matchNow : Room := { frames := 6, cells := 0, slots := 0, locals := 152 }
set_option maxHeartbeats 4000000 in
theorem m_X3_matchNow {l : Launch} {s0 : State} {G : zG} (hE : zE l s0 G) (H0 : Heap) (hO : zO s0 H0) (μ : Ro → Nat) (σ : St) (th : Int) (k k2 : Nat) (hh : HM G s0 μ σ th H0) (hk : k < St_na σ ∧ k2 < St_na σ) : zM l s0 yX3_matchNow cX3_matchNow 5 (some FieldType.int) rm_m_X3_matchNow [.ref (μ (0, 0, 0)), .int (iI ((k : Nat) : Int)), .int (iI ((k2 : Nat) : Int))] H0 M0 (ri (fun y _ => y = mnw σ k k2)) := by
  refine z_met hE (by decide +kernel) (Nat.le_of_ble_eq_true rfl) ?_
  intro pp ee ss mm args below meth cd Q ls hC hml hrt hlk hnm hH hQ hS hl
  have hx := hC.x
  have hb := hC.b
  have hl : lv_has ls 5 [(0, .ref (μ (0, 0, 0))), (1, .int (iI ((k : Nat) : Int))), (2, .int (iI ((k2 : Nat) : Int)))] := hl
  have hP : va_P G.1 zCl [] H0 := va_nil
  have hD : va_D (zA M0 H0) [] := va_nilD
  have hH1 := hh
  obtain ⟨hp, hna, hal, hne9, hel9, hmr9⟩ := id hh.ok
  have hp7 : 0 < St_p σ ∧ St_p σ ≤ 7 := by rcases hp with h | h | h <;> rw [h] <;> decide
  have hd4 := (hal k hk.1).2.1
  have hd42 := (hal k2 hk.2).2.1
  have hkd := (hal k hk.1).1
  have hkd2 := (hal k2 hk.2).1
  have hH1 : HM G s0 μ σ th H0 := hh.ext0 hE (zS_F hS)
  have hxx := hH1.2.2.1.1
  refine lv_aload_n hx hb dX3_matchNow_0 rfl (lv_at hl 0 rfl) ?_
  refine z_get hC (k := 3) rfl in_X3 hxx (by decide) q1499 (fun _ h => h) rfl dX3_matchNow_1 ?_
  refine lv_iload_n hx hb dX3_matchNow_4 rfl (lv_at hl 1 rfl) ?_
  have hH1 : HM G s0 μ σ th H0 := hh.ext0 hE (zS_F hS)
  obtain ⟨mda, hLa⟩ := id hH1.2.2.1.2.1
  refine z_go5 0 0 (z_runF (n := 1) (As := [.int (iI ((k : Nat) : Int))]) (rest := []) (ci := 8) hC hml hl.1 (m_J2_get hE H0 (hO.ext0 (zS_F hS)) (μ (1, 0, 0)) (St_na σ) (fun k => μ (6, k, 0)) (μ (2, 0, 0)) mda k hLa (by omega)) q375 q1588 q1591 q373 q65 q1590 q1589 q1593 q1592 q1528 ⟨by decide +kernel, by decide +kernel, by decide +kernel⟩ rfl rfl rfl (z_rv hC (ci := 8) rfl hLa.1 rfl) rfl (Nat.le_of_ble_eq_true rfl) ⟨Nat.le_of_ble_eq_true rfl, Nat.le_of_ble_eq_true rfl⟩ ⟨zfit (k := 0) (z := 0) rfl rfl (by omega), zfit (k := 0) (z := 0) rfl rfl (by omega)⟩ dX3_matchNow_5) ⟨zad (k := 0) rfl (by omega), zad (k := 0) rfl (by omega)⟩ hS (fun _ z => z.elim) (fun r H1 locs hp hF hS1 => ?_)
  obtain ⟨_, rfl, rfl⟩ := hp
  have hP := zpk hP hF
  have hP : va_P G.1 zCl ([]) H1 := hP
  have hD : va_D (zA M0 H0) ([]) := hD
  have hS := hS1
  have hH1 : HM G s0 μ σ th H1 := hh.ext0 hE (zS_F hS)
  have hAk := hH1.al (k := k) (by omega)
  have hn16k := hH1.n (k := k) (by omega)
  have hH1 : HM G s0 μ σ th H1 := hh.ext0 hE (zS_F hS)
  have hxx := hH1.2.2.1.1
  refine z_cast hC (ci := 5) rfl hAk.1 rfl q1539 dX3_matchNow_10 ?_
  refine lv_astore_n (lv' := [(3, .ref (μ (6, k, 0))), (0, .ref (μ (0, 0, 0))), (1, .int (iI ((k : Nat) : Int))), (2, .int (iI ((k2 : Nat) : Int)))]) hx hb dX3_matchNow_13 rfl hl (by decide) rfl (fun ls hl => ?_)
  refine lv_aload_n hx hb dX3_matchNow_14 rfl (lv_at hl 1 rfl) ?_
  refine z_get hC (k := 3) rfl in_X3 hxx (by decide) q1499 (fun _ h => h) rfl dX3_matchNow_15 ?_
  refine lv_iload_n hx hb dX3_matchNow_18 rfl (lv_at hl 3 rfl) ?_
  have hH1 : HM G s0 μ σ th H1 := hh.ext0 hE (zS_F hS)
  obtain ⟨mda, hLa⟩ := id hH1.2.2.1.2.1
  refine z_go5 0 0 (z_runF (n := 1) (As := [.int (iI ((k2 : Nat) : Int))]) (rest := []) (ci := 8) hC hml hl.1 (m_J2_get hE H1 (hO.ext0 (zS_F hS)) (μ (1, 0, 0)) (St_na σ) (fun k => μ (6, k, 0)) (μ (2, 0, 0)) mda k2 hLa (by omega)) q375 q1588 q1591 q373 q65 q1590 q1589 q1593 q1592 q1528 ⟨by decide +kernel, by decide +kernel, by decide +kernel⟩ rfl rfl rfl (z_rv hC (ci := 8) rfl hLa.1 rfl) rfl (Nat.le_of_ble_eq_true rfl) ⟨Nat.le_of_ble_eq_true rfl, Nat.le_of_ble_eq_true rfl⟩ ⟨zfit (k := 0) (z := 0) rfl rfl (by omega), zfit (k := 0) (z := 0) rfl rfl (by omega)⟩ dX3_matchNow_19) ⟨zad (k := 0) rfl (by omega), zad (k := 0) rfl (by omega)⟩ hS (fun _ z => z.elim) (fun r H2 locs hp hF hS1 => ?_)
  obtain ⟨_, rfl, rfl⟩ := hp
  have hP := zpk hP hF
  have hP : va_P G.1 zCl ([]) H2 := hP
  have hD : va_D (zA M0 H0) ([]) := hD
  have hS := hS1
  have hH1 : HM G s0 μ σ th H2 := hh.ext0 hE (zS_F hS)
  have hAk2 := hH1.al (k := k2) (by omega)
  have hn16k2 := hH1.n (k := k2) (by omega)
  have hH1 : HM G s0 μ σ th H2 := hh.ext0 hE (zS_F hS)
  have hAk := hH1.al (k := k) (by omega)
  have hn16k := hH1.n (k := k) (by omega)
  refine z_cast hC (ci := 5) rfl hAk2.1 rfl q1539 dX3_matchNow_24 ?_
  refine lv_astore (lv' := [(4, .ref (μ (6, k2, 0))), (3, .ref (μ (6, k, 0))), (0, .ref (μ (0, 0, 0))), (1, .int (iI ((k : Nat) : Int))), (2, .int (iI ((k2 : Nat) : Int)))]) hx hb dX3_matchNow_27 hl (by decide) rfl (fun ls hl => ?_)
  refine lv_aload_n hx hb dX3_matchNow_29 rfl (lv_at hl 1 rfl) ?_
  refine z_get hC (k := 0) rfl in_X6 hAk.1 (by decide) q1549 (fun _ h => h) rfl dX3_matchNow_30 ?_
  refine z_zeq (tgt := 56) hx hb dX3_matchNow_33 (by decide) (by omega) (fun c3 => ?_) (fun c3 => ?_)
  · refine lv_iconst (v := iI (-1)) hx hb dX3_matchNow_56 rfl ?_
    refine lv_goto (tgt := 69) hx hb dX3_matchNow_57 (by decide) ?_
    exact z_iret hC hrt hlk hQ hS ⟨zle (z := 0) rfl (by omega), zle (z := 0) rfl (by omega)⟩ ⟨_, rfl, (mnw_no (by omega)).symm⟩ dX3_matchNow_69
  · refine lv_aload hx hb dX3_matchNow_36 (lv_at hl 0 rfl) ?_
    refine z_get hC (k := 0) rfl in_X6 hAk2.1 (by decide) q1549 (fun _ h => h) rfl dX3_matchNow_38 ?_
    refine z_zeq (tgt := 56) hx hb dX3_matchNow_41 (by decide) (by omega) (fun c4 => ?_) (fun c4 => ?_)
    · refine lv_iconst (v := iI (-1)) hx hb dX3_matchNow_56 rfl ?_
      refine lv_goto (tgt := 69) hx hb dX3_matchNow_57 (by decide) ?_
      exact z_iret hC hrt hlk hQ hS ⟨zle (z := 0) rfl (by omega), zle (z := 0) rfl (by omega)⟩ ⟨_, rfl, (mnw_no (by omega)).symm⟩ dX3_matchNow_69
    · refine lv_aload_n hx hb dX3_matchNow_44 rfl (lv_at hl 1 rfl) ?_
      refine z_get hC (k := 3) rfl in_X6 hAk.1 (by decide) q1555 (fun _ h => h) rfl dX3_matchNow_45 ?_
      refine lv_aload hx hb dX3_matchNow_48 (lv_at hl 0 rfl) ?_
      refine z_get hC (k := 3) rfl in_X6 hAk2.1 (by decide) q1555 (fun _ h => h) rfl dX3_matchNow_50 ?_
      refine z_ceq (tgt := 60) hx hb dX3_matchNow_53 (by decide) (by omega) (fun c5 => ?_) (fun c5 => ?_)
      · refine lv_aload_n hx hb dX3_matchNow_60 rfl (lv_at hl 2 rfl) ?_
        refine lv_aload_n hx hb dX3_matchNow_61 rfl (lv_at hl 1 rfl) ?_
        refine lv_aload hx hb dX3_matchNow_62 (lv_at hl 0 rfl) ?_
        refine lv_iconst (v := iI 0) hx hb dX3_matchNow_64 rfl ?_
        refine lv_iconst (v := iI 0) hx hb dX3_matchNow_65 rfl ?_
        rcases (show St_d σ k = 0 ∨ St_d σ k = 1 ∨ St_d σ k = 2 ∨ St_d σ k = 3 ∨ St_d σ k = 4 from by omega) with hd9 | hd9 | hd9 | hd9 | hd9
        · have hH1 : HM G s0 μ σ th H2 := hh.ext0 hE (zS_F hS)
          have hH1 : HM G s0 μ σ th H2 := hh.ext0 hE (zS_F hS)
          refine z_go 0 0 (z_runV (As := [.ref (μ (6, k, 0)), .ref (μ (6, k2, 0)), .int (iI 0), .int (iI 0)]) (rest := []) hC hml hl.1 (m_X3_orderNow_0 hE H2 (hO.ext0 (zS_F hS)) μ σ th k k2 0 0 hH1 hk ⟨by omega, by omega⟩ (by omega)) (lw_V q1926 q1928 qs59 q67 q1929) rfl nd_X3_orderNow rfl (z_rv hC (ci := 2) rfl hH1.2.2.1.1 rfl) rfl (Nat.le_of_ble_eq_true rfl) ⟨Nat.le_of_ble_eq_true rfl, Nat.le_of_ble_eq_true rfl⟩ ⟨zfit (k := 0) (z := 0) rfl rfl (by omega), zfit (k := 0) (z := 0) rfl rfl (by omega)⟩ dX3_matchNow_66) ⟨zad (k := 0) rfl (by omega), zad (k := 0) rfl (by omega)⟩ hS (fun _ z => z.elim) (fun r H6 locs hp hF hS1 => ?_)
          obtain ⟨_, rfl, rfl⟩ := hp
          have hP := zpk hP hF
          have hP : va_P G.1 zCl ([]) H6 := hP
          have hD : va_D (zA M0 H0) ([]) := hD
          have hS := hS1
          exact z_iret hC hrt hlk hQ hS ⟨zle (z := 0) rfl (by omega), zle (z := 0) rfl (by omega)⟩ ⟨_, rfl, (mnw_ye ⟨by omega, by omega, by omega⟩ (by omega)).symm⟩ dX3_matchNow_69
        · have hH1 : HM G s0 μ σ th H2 := hh.ext0 hE (zS_F hS)
          have hH1 : HM G s0 μ σ th H2 := hh.ext0 hE (zS_F hS)
          refine z_go 0 0 (z_runV (As := [.ref (μ (6, k, 0)), .ref (μ (6, k2, 0)), .int (iI 0), .int (iI 0)]) (rest := []) hC hml hl.1 (m_X3_orderNow_1 hE H2 (hO.ext0 (zS_F hS)) μ σ th k k2 0 0 hH1 hk ⟨by omega, by omega⟩ (by omega)) (lw_V q1926 q1928 qs59 q67 q1929) rfl nd_X3_orderNow rfl (z_rv hC (ci := 2) rfl hH1.2.2.1.1 rfl) rfl (Nat.le_of_ble_eq_true rfl) ⟨Nat.le_of_ble_eq_true rfl, Nat.le_of_ble_eq_true rfl⟩ ⟨zfit (k := 0) (z := 0) rfl rfl (by omega), zfit (k := 0) (z := 0) rfl rfl (by omega)⟩ dX3_matchNow_66) ⟨zad (k := 0) rfl (by omega), zad (k := 0) rfl (by omega)⟩ hS (fun _ z => z.elim) (fun r H7 locs hp hF hS1 => ?_)
          obtain ⟨_, rfl, rfl⟩ := hp
          have hP := zpk hP hF
          have hP : va_P G.1 zCl ([]) H7 := hP
          have hD : va_D (zA M0 H0) ([]) := hD
          have hS := hS1
          exact z_iret hC hrt hlk hQ hS ⟨zle (z := 0) rfl (by omega), zle (z := 0) rfl (by omega)⟩ ⟨_, rfl, (mnw_ye ⟨by omega, by omega, by omega⟩ (by omega)).symm⟩ dX3_matchNow_69
        · have hH1 : HM G s0 μ σ th H2 := hh.ext0 hE (zS_F hS)
          have hH1 : HM G s0 μ σ th H2 := hh.ext0 hE (zS_F hS)
          refine z_go 0 0 (z_runV (As := [.ref (μ (6, k, 0)), .ref (μ (6, k2, 0)), .int (iI 0), .int (iI 0)]) (rest := []) hC hml hl.1 (m_X3_orderNow_2 hE H2 (hO.ext0 (zS_F hS)) μ σ th k k2 0 0 hH1 hk ⟨by omega, by omega⟩ (by omega)) (lw_V q1926 q1928 qs59 q67 q1929) rfl nd_X3_orderNow rfl (z_rv hC (ci := 2) rfl hH1.2.2.1.1 rfl) rfl (Nat.le_of_ble_eq_true rfl) ⟨Nat.le_of_ble_eq_true rfl, Nat.le_of_ble_eq_true rfl⟩ ⟨zfit (k := 0) (z := 0) rfl rfl (by omega), zfit (k := 0) (z := 0) rfl rfl (by omega)⟩ dX3_matchNow_66) ⟨zad (k := 0) rfl (by omega), zad (k := 0) rfl (by omega)⟩ hS (fun _ z => z.elim) (fun r H8 locs hp hF hS1 => ?_)
          obtain ⟨_, rfl, rfl⟩ := hp
          have hP := zpk hP hF
          have hP : va_P G.1 zCl ([]) H8 := hP
          have hD : va_D (zA M0 H0) ([]) := hD
          have hS := hS1
          exact z_iret hC hrt hlk hQ hS ⟨zle (z := 0) rfl (by omega), zle (z := 0) rfl (by omega)⟩ ⟨_, rfl, (mnw_ye ⟨by omega, by omega, by omega⟩ (by omega)).symm⟩ dX3_matchNow_69
        · have hH1 : HM G s0 μ σ th H2 := hh.ext0 hE (zS_F hS)
          have hH1 : HM G s0 μ σ th H2 := hh.ext0 hE (zS_F hS)
          refine z_go 0 0 (z_runV (As := [.ref (μ (6, k, 0)), .ref (μ (6, k2, 0)), .int (iI 0), .int (iI 0)]) (rest := []) hC hml hl.1 (m_X3_orderNow_3 hE H2 (hO.ext0 (zS_F hS)) μ σ th k k2 0 0 hH1 hk ⟨by omega, by omega⟩ (by omega)) (lw_V q1926 q1928 qs59 q67 q1929) rfl nd_X3_orderNow rfl (z_rv hC (ci := 2) rfl hH1.2.2.1.1 rfl) rfl (Nat.le_of_ble_eq_true rfl) ⟨Nat.le_of_ble_eq_true rfl, Nat.le_of_ble_eq_true rfl⟩ ⟨zfit (k := 0) (z := 0) rfl rfl (by omega), zfit (k := 0) (z := 0) rfl rfl (by omega)⟩ dX3_matchNow_66) ⟨zad (k := 0) rfl (by omega), zad (k := 0) rfl (by omega)⟩ hS (fun _ z => z.elim) (fun r H9 locs hp hF hS1 => ?_)
          obtain ⟨_, rfl, rfl⟩ := hp
          have hP := zpk hP hF
          have hP : va_P G.1 zCl ([]) H9 := hP
          have hD : va_D (zA M0 H0) ([]) := hD
          have hS := hS1
          exact z_iret hC hrt hlk hQ hS ⟨zle (z := 0) rfl (by omega), zle (z := 0) rfl (by omega)⟩ ⟨_, rfl, (mnw_ye ⟨by omega, by omega, by omega⟩ (by omega)).symm⟩ dX3_matchNow_69
        · have hH1 : HM G s0 μ σ th H2 := hh.ext0 hE (zS_F hS)
          have hH1 : HM G s0 μ σ th H2 := hh.ext0 hE (zS_F hS)
          refine z_go 0 0 (z_runV (As := [.ref (μ (6, k, 0)), .ref (μ (6, k2, 0)), .int (iI 0), .int (iI 0)]) (rest := []) hC hml hl.1 (m_X3_orderNow_4 hE H2 (hO.ext0 (zS_F hS)) μ σ th k k2 0 0 hH1 hk ⟨by omega, by omega⟩ (by omega)) (lw_V q1926 q1928 qs59 q67 q1929) rfl nd_X3_orderNow rfl (z_rv hC (ci := 2) rfl hH1.2.2.1.1 rfl) rfl (Nat.le_of_ble_eq_true rfl) ⟨Nat.le_of_ble_eq_true rfl, Nat.le_of_ble_eq_true rfl⟩ ⟨zfit (k := 0) (z := 0) rfl rfl (by omega), zfit (k := 0) (z := 0) rfl rfl (by omega)⟩ dX3_matchNow_66) ⟨zad (k := 0) rfl (by omega), zad (k := 0) rfl (by omega)⟩ hS (fun _ z => z.elim) (fun r H10 locs hp hF hS1 => ?_)
          obtain ⟨_, rfl, rfl⟩ := hp
          have hP := zpk hP hF
          have hP : va_P G.1 zCl ([]) H10 := hP
          have hD : va_D (zA M0 H0) ([]) := hD
          have hS := hS1
          exact z_iret hC hrt hlk hQ hS ⟨zle (z := 0) rfl (by omega), zle (z := 0) rfl (by omega)⟩ ⟨_, rfl, (mnw_ye ⟨by omega, by omega, by omega⟩ (by omega)).symm⟩ dX3_matchNow_69
      · refine lv_iconst (v := iI (-1)) hx hb dX3_matchNow_56 rfl ?_
        refine lv_goto (tgt := 69) hx hb dX3_matchNow_57 (by decide) ?_
        exact z_iret hC hrt hlk hQ hS ⟨zle (z := 0) rfl (by omega), zle (z := 0) rfl (by omega)⟩ ⟨_, rfl, (mnw_no (by omega)).symm⟩ dX3_matchNow_69

abbrev rm_m_X3_match : Room := { frames := 7, cells := 0, slots := 0, locals := 176 }
set_option maxHeartbeats 4000000 in
theorem m_X3_match {l : Launch} {s0 : State} {G : zG} (hE : zE l s0 G) (H0 : Heap) (hO : zO s0 H0) (μ : Ro → Nat) (σ : St) (th : Int) (i j : Int) (hh : HM G s0 μ σ th H0) (hi : zi i ∧ zi j) : zM l s0 yX3_match cX3_match 3 (some FieldType.int) rm_m_X3_match [.ref (μ (0, 0, 0)), .int (iI i), .int (iI j)] H0 (FM G μ σ) (HPM G s0 H0 μ σ [IOB] ((fun y σ' => σ' = σ ∧ (∃ k k2 : Nat, (i = k ∧ k < St_na σ) ∧ (j = k2 ∧ k2 < St_na σ) ∧ y = mnw σ k k2))) ((fun E => E = IOB ∧ ¬ (inA σ i ∧ inA σ j)))) := by
  refine z_met hE (by decide +kernel) (Nat.le_of_ble_eq_true rfl) ?_
  intro pp ee ss mm args below meth cd Q ls hC hml hrt hlk hnm hH hQ hS hl
  have hx := hC.x
  have hb := hC.b
  have hl : lv_has ls 3 [(0, .ref (μ (0, 0, 0))), (1, .int (iI i)), (2, .int (iI j))] := hl
  have hP : va_P G.1 zCl [] H0 := va_nil
  have hD : va_D (zA (FM G μ σ) H0) [] := va_nilD
  have hMo : ∀ z, (FM G μ σ) z → s0.heap.size ≤ z := fun z hz => FM.ge hh.sep hz
  have hH1 := hh
  obtain ⟨hp, hna, hal, hne9, hel9, hmr9⟩ := id hh.ok
  have hp7 : 0 < St_p σ ∧ St_p σ ≤ 7 := by rcases hp with h | h | h <;> rw [h] <;> decide
  have hP : va_P G.1 zCl [((μ (0, 0, 0)), zOb 2 [.int (iI th), .int (iI (St_p σ)), .int (iI ((St_kn σ : Nat) : Int)), .ref (μ (1, 0, 0)), .ref (μ (3, 0, 0))])] H0 := zP1 hh.2.2.1.1
  have hD : va_D (zA (FM G μ σ) H0) [((μ (0, 0, 0)), zOb 2 [.int (iI th), .int (iI (St_p σ)), .int (iI ((St_kn σ : Nat) : Int)), .ref (μ (1, 0, 0)), .ref (μ (3, 0, 0))])] := zD1 (Or.inl (FM.in hE hh.sep (domM0 0 (by omega)) (by simp [rAm])))
  refine lv_aload_n hx hb dX3_match_0 rfl (lv_at hl 0 rfl) ?_
  refine lv_iconst (v := iI 0) hx hb dX3_match_1 rfl ?_
  refine z_putO hC hP hD hS 0 (k := 0) rfl rfl in_X3 tyX3_ok nmX3 (by decide) q1495 (fun _ h => h) rfl rfl rfl rfl (Nat.le_of_ble_eq_true rfl) (ws' := [((μ (0, 0, 0)), zOb 2 [.int (iI 0), .int (iI (St_p σ)), .int (iI ((St_kn σ : Nat) : Int)), .ref (μ (1, 0, 0)), .ref (μ (3, 0, 0))])]) rfl dX3_match_2 (fun H1 locs hP hD hS hZ1 hZ2 => ?_)
  have hH1 : HM G s0 μ σ 0 H1 := HM.thr hE hH1 (zF.one hZ1 hZ2) (hP 0 _ rfl)
  have hP : va_P G.1 zCl [] H1 := va_nil
  have hD : va_D (zA (FM G μ σ) H0) [] := va_nilD
  refine lv_aload_n hx hb dX3_match_5 rfl (lv_at hl 0 rfl) ?_
  refine lv_iload_n hx hb dX3_match_6 rfl (lv_at hl 1 rfl) ?_
  refine z_go 0 0 (z_runV (As := [.int (iI i)]) (rest := []) hC hml hl.1 (m_X3_isAlgebra hE H1 (hO.ext (zS_F hS) hMo) μ σ 0 i hH1 hi.1) (lw_V q1583 q1585 qs30 q67 q1586) rfl nd_X3_isAlgebra rfl (z_rv hC (ci := 2) rfl hH1.2.2.1.1 rfl) rfl (Nat.le_of_ble_eq_true rfl) ⟨Nat.le_of_ble_eq_true rfl, Nat.le_of_ble_eq_true rfl⟩ ⟨zfit (k := 0) (z := 0) rfl rfl (by omega), zfit (k := 0) (z := 0) rfl rfl (by omega)⟩ dX3_match_7) ⟨zad (k := 0) rfl (by omega), zad (k := 0) rfl (by omega)⟩ hS (fun _ z => z.elim) (fun r H2 locs hp hF hS1 => ?_)
  obtain ⟨_, rfl, rfl⟩ := hp
  have hP := zpk hP hF
  have hP : va_P G.1 zCl ([]) H2 := hP
  have hD : va_D (zA (FM G μ σ) H0) ([]) := hD
  have hH1 : HM G s0 μ σ 0 H2 := hH1.ext0 hE hF
  have hS := hS1
  obtain ⟨fl, hfl, hfl2⟩ : ∃ fl : Nat, fl ≤ 1 ∧ (if 0 ≤ i ∧ i < (((St_na σ) : Nat) : Int) then (1 : Int) else 0) = fl ∧ (fl = 1 ↔ 0 ≤ i ∧ i < (((St_na σ) : Nat) : Int)) := by by_cases h : 0 ≤ i ∧ i < (((St_na σ) : Nat) : Int); exact ⟨1, by decide, by rw [if_pos h]; rfl, ⟨fun _ => h, fun _ => rfl⟩⟩; exact ⟨0, by decide, by rw [if_neg h]; rfl, ⟨fun z => absurd z (by decide), fun z => absurd z h⟩⟩
  refine z_top (b := ((fl : Nat) : Int)) (hfl2.1) ?_
  refine z_zeq (tgt := 21) hx hb dX3_match_10 (by decide) (by omega) (fun c3 => ?_) (fun c3 => ?_)
  · refine lv_aload_n hx hb dX3_match_21 rfl (lv_at hl 0 rfl) ?_
    refine lv_iconst (v := iI 1) hx hb dX3_match_22 rfl ?_
    have hHb := hH1
    refine z_go 0 0 (z_runV (As := [.int (iI 1)]) (rest := []) hC hml hl.1 (m_X3_no hE H2 (hO.ext (zS_F hS) hMo) μ σ 0 1 hHb) (lw_V q1520 q1522 qs29 q67 q1523) rfl nd_X3_no rfl (z_rv hC (ci := 2) rfl hHb.2.2.1.1 rfl) rfl (Nat.le_of_ble_eq_true rfl) ⟨Nat.le_of_ble_eq_true rfl, Nat.le_of_ble_eq_true rfl⟩ ⟨zfit (k := 0) (z := 0) rfl rfl (by omega), zfit (k := 0) (z := 0) rfl rfl (by omega)⟩ dX3_match_23) ⟨zad (k := 0) rfl (by omega), zad (k := 0) rfl (by omega)⟩ hS (fun z hz => Or.inl (hz ▸ FM.in hE hh.sep (domM0 0 (by omega)) (by simp [rAm]))) (fun r H4 locs hp hF hS1 => ?_)
    obtain ⟨_, rfl, rfl, hx9⟩ := hp
    have hP : va_P G.1 zCl [] H4 := va_nil
    have hD : va_D (zA (FM G μ σ) H0) [] := va_nilD
    have hP : va_P G.1 zCl ([]) H4 := hP
    have hD : va_D (zA (FM G μ σ) H0) ([]) := hD
    have hS := hS1
    have hH9 : HM G s0 μ σ ((1 : Nat) : Int) H4 := HM.thr hE hHb hF hx9
    exact z_iret hC hrt hlk hQ hS ⟨zle (z := 0) rfl (by omega), zle (z := 0) rfl (by omega)⟩ ⟨_, rfl, 1, σ, PoM.same hH9, Or.inr ⟨by decide, rfl, by decide, rfl, fun z9 => by have h9 := hfl2.2.mpr z9.1; omega⟩⟩ dX3_match_26
  · have hok9 := hfl2.2.mp (by omega)
    obtain ⟨k, rfl⟩ : ∃ k : Nat, i = k := ⟨i.toNat, by omega⟩
    have hk9 : k < St_na σ := by omega
    refine lv_aload_n hx hb dX3_match_13 rfl (lv_at hl 0 rfl) ?_
    refine lv_iload_n hx hb dX3_match_14 rfl (lv_at hl 2 rfl) ?_
    refine z_go 0 0 (z_runV (As := [.int (iI j)]) (rest := []) hC hml hl.1 (m_X3_isAlgebra hE H2 (hO.ext (zS_F hS) hMo) μ σ 0 j hH1 hi.2) (lw_V q1583 q1585 qs30 q67 q1586) rfl nd_X3_isAlgebra rfl (z_rv hC (ci := 2) rfl hH1.2.2.1.1 rfl) rfl (Nat.le_of_ble_eq_true rfl) ⟨Nat.le_of_ble_eq_true rfl, Nat.le_of_ble_eq_true rfl⟩ ⟨zfit (k := 0) (z := 0) rfl rfl (by omega), zfit (k := 0) (z := 0) rfl rfl (by omega)⟩ dX3_match_15) ⟨zad (k := 0) rfl (by omega), zad (k := 0) rfl (by omega)⟩ hS (fun _ z => z.elim) (fun r H5 locs hp hF hS1 => ?_)
    obtain ⟨_, rfl, rfl⟩ := hp
    have hP := zpk hP hF
    have hP : va_P G.1 zCl ([]) H5 := hP
    have hD : va_D (zA (FM G μ σ) H0) ([]) := hD
    have hH1 : HM G s0 μ σ 0 H5 := hH1.ext0 hE hF
    have hS := hS1
    obtain ⟨fl, hfl, hfl2⟩ : ∃ fl : Nat, fl ≤ 1 ∧ (if 0 ≤ j ∧ j < (((St_na σ) : Nat) : Int) then (1 : Int) else 0) = fl ∧ (fl = 1 ↔ 0 ≤ j ∧ j < (((St_na σ) : Nat) : Int)) := by by_cases h : 0 ≤ j ∧ j < (((St_na σ) : Nat) : Int); exact ⟨1, by decide, by rw [if_pos h]; rfl, ⟨fun _ => h, fun _ => rfl⟩⟩; exact ⟨0, by decide, by rw [if_neg h]; rfl, ⟨fun z => absurd z (by decide), fun z => absurd z h⟩⟩
    refine z_top (b := ((fl : Nat) : Int)) (hfl2.1) ?_
    refine z_zne (tgt := 27) hx hb dX3_match_18 (by decide) (by omega) (fun c6 => ?_) (fun c6 => ?_)
    · have hok9 := hfl2.2.mp (by omega)
      obtain ⟨k2, rfl⟩ : ∃ k2 : Nat, j = k2 := ⟨j.toNat, by omega⟩
      have hk29 : k2 < St_na σ := by omega
      refine lv_aload_n hx hb dX3_match_27 rfl (lv_at hl 0 rfl) ?_
      refine lv_iload_n hx hb dX3_match_28 rfl (lv_at hl 1 rfl) ?_
      refine lv_iload_n hx hb dX3_match_29 rfl (lv_at hl 2 rfl) ?_
      refine z_go 0 0 (z_runV (As := [.int (iI ((k : Nat) : Int)), .int (iI ((k2 : Nat) : Int))]) (rest := []) hC hml hl.1 (m_X3_matchNow hE H5 (hO.ext (zS_F hS) hMo) μ σ 0 k k2 hH1 ⟨by omega, by omega⟩) (lw_V q1922 q1924 qs58 q67 q1925) rfl nd_X3_matchNow rfl (z_rv hC (ci := 2) rfl hH1.2.2.1.1 rfl) rfl (Nat.le_of_ble_eq_true rfl) ⟨Nat.le_of_ble_eq_true rfl, Nat.le_of_ble_eq_true rfl⟩ ⟨zfit (k := 0) (z := 0) rfl rfl (by omega), zfit (k := 0) (z := 0) rfl rfl (by omega)⟩ dX3_match_30) ⟨zad (k := 0) rfl (by omega), zad (k := 0) rfl (by omega)⟩ hS (fun _ z => z.elim) (fun r H7 locs hp hF hS1 => ?_)
      obtain ⟨_, rfl, rfl⟩ := hp
      have hP := zpk hP hF
      have hP : va_P G.1 zCl ([]) H7 := hP
      have hD : va_D (zA (FM G μ σ) H0) ([]) := hD
      have hH1 : HM G s0 μ σ 0 H7 := hH1.ext0 hE hF
      have hS := hS1
      exact z_iret hC hrt hlk hQ hS ⟨zle (z := 0) rfl (by omega), zle (z := 0) rfl (by omega)⟩ ⟨_, rfl, 0, σ, PoM.same hH1, Or.inl ⟨rfl, rfl, k, k2, ⟨by omega, by omega⟩, ⟨by omega, by omega⟩, rfl⟩⟩ dX3_match_33
    · refine lv_aload_n hx hb dX3_match_21 rfl (lv_at hl 0 rfl) ?_
      refine lv_iconst (v := iI 1) hx hb dX3_match_22 rfl ?_
      have hHb := hH1
      refine z_go 0 0 (z_runV (As := [.int (iI 1)]) (rest := []) hC hml hl.1 (m_X3_no hE H5 (hO.ext (zS_F hS) hMo) μ σ 0 1 hHb) (lw_V q1520 q1522 qs29 q67 q1523) rfl nd_X3_no rfl (z_rv hC (ci := 2) rfl hHb.2.2.1.1 rfl) rfl (Nat.le_of_ble_eq_true rfl) ⟨Nat.le_of_ble_eq_true rfl, Nat.le_of_ble_eq_true rfl⟩ ⟨zfit (k := 0) (z := 0) rfl rfl (by omega), zfit (k := 0) (z := 0) rfl rfl (by omega)⟩ dX3_match_23) ⟨zad (k := 0) rfl (by omega), zad (k := 0) rfl (by omega)⟩ hS (fun z hz => Or.inl (hz ▸ FM.in hE hh.sep (domM0 0 (by omega)) (by simp [rAm]))) (fun r H8 locs hp hF hS1 => ?_)
      obtain ⟨_, rfl, rfl, hx9⟩ := hp
      have hP : va_P G.1 zCl [] H8 := va_nil
      have hD : va_D (zA (FM G μ σ) H0) [] := va_nilD
      have hP : va_P G.1 zCl ([]) H8 := hP
      have hD : va_D (zA (FM G μ σ) H0) ([]) := hD
      have hS := hS1
      have hH9 : HM G s0 μ σ ((1 : Nat) : Int) H8 := HM.thr hE hHb hF hx9
      exact z_iret hC hrt hlk hQ hS ⟨zle (z := 0) rfl (by omega), zle (z := 0) rfl (by omega)⟩ ⟨_, rfl, 1, σ, PoM.same hH9, Or.inr ⟨by decide, rfl, by decide, rfl, fun z9 => by have h9 := hfl2.2.mpr z9.2; omega⟩⟩ dX3_match_26

abbrev rm_m_X3_scaleOf : Room := { frames := 7, cells := 0, slots := 0, locals := 176 }
set_option maxHeartbeats 4000000 in
theorem m_X3_scaleOf {l : Launch} {s0 : State} {G : zG} (hE : zE l s0 G) (H0 : Heap) (hO : zO s0 H0) (μ : Ro → Nat) (σ : St) (th : Int) (i j g : Int) (hh : HM G s0 μ σ th H0) (hi : zi i ∧ zi j ∧ zi g) : zM l s0 yX3_scaleOf cX3_scaleOf 7 (some FieldType.int) rm_m_X3_scaleOf [.ref (μ (0, 0, 0)), .int (iI i), .int (iI j), .int (iI g)] H0 (FM G μ σ) (HPM G s0 H0 μ σ [IOB] ((fun y σ' => σ' = σ ∧ (∃ k k2 : Nat, (i = k ∧ k < St_na σ) ∧ (j = k2 ∧ k2 < St_na σ) ∧ y = soV σ k k2 g))) ((fun E => E = IOB ∧ ¬ (inA σ i ∧ inA σ j)))) := by
  refine z_met hE (by decide +kernel) (Nat.le_of_ble_eq_true rfl) ?_
  intro pp ee ss mm args below meth cd Q ls hC hml hrt hlk hnm hH hQ hS hl
  have hx := hC.x
  have hb := hC.b
  have hl : lv_has ls 7 [(0, .ref (μ (0, 0, 0))), (1, .int (iI i)), (2, .int (iI j)), (3, .int (iI g))] := hl
  have hP : va_P G.1 zCl [] H0 := va_nil
  have hD : va_D (zA (FM G μ σ) H0) [] := va_nilD
  have hMo : ∀ z, (FM G μ σ) z → s0.heap.size ≤ z := fun z hz => FM.ge hh.sep hz
  have hH1 := hh
  obtain ⟨hp, hna, hal, hne9, hel9, hmr9⟩ := id hh.ok
  have hp7 : 0 < St_p σ ∧ St_p σ ≤ 7 := by rcases hp with h | h | h <;> rw [h] <;> decide
  have hP : va_P G.1 zCl [((μ (0, 0, 0)), zOb 2 [.int (iI th), .int (iI (St_p σ)), .int (iI ((St_kn σ : Nat) : Int)), .ref (μ (1, 0, 0)), .ref (μ (3, 0, 0))])] H0 := zP1 hh.2.2.1.1
  have hD : va_D (zA (FM G μ σ) H0) [((μ (0, 0, 0)), zOb 2 [.int (iI th), .int (iI (St_p σ)), .int (iI ((St_kn σ : Nat) : Int)), .ref (μ (1, 0, 0)), .ref (μ (3, 0, 0))])] := zD1 (Or.inl (FM.in hE hh.sep (domM0 0 (by omega)) (by simp [rAm])))
  refine lv_aload_n hx hb dX3_scaleOf_0 rfl (lv_at hl 0 rfl) ?_
  refine lv_iconst (v := iI 0) hx hb dX3_scaleOf_1 rfl ?_
  refine z_putO hC hP hD hS 0 (k := 0) rfl rfl in_X3 tyX3_ok nmX3 (by decide) q1495 (fun _ h => h) rfl rfl rfl rfl (Nat.le_of_ble_eq_true rfl) (ws' := [((μ (0, 0, 0)), zOb 2 [.int (iI 0), .int (iI (St_p σ)), .int (iI ((St_kn σ : Nat) : Int)), .ref (μ (1, 0, 0)), .ref (μ (3, 0, 0))])]) rfl dX3_scaleOf_2 (fun H1 locs hP hD hS hZ1 hZ2 => ?_)
  have hH1 : HM G s0 μ σ 0 H1 := HM.thr hE hH1 (zF.one hZ1 hZ2) (hP 0 _ rfl)
  have hP : va_P G.1 zCl [] H1 := va_nil
  have hD : va_D (zA (FM G μ σ) H0) [] := va_nilD
  refine lv_aload_n hx hb dX3_scaleOf_5 rfl (lv_at hl 0 rfl) ?_
  refine lv_iload_n hx hb dX3_scaleOf_6 rfl (lv_at hl 1 rfl) ?_
  refine z_go 0 0 (z_runV (As := [.int (iI i)]) (rest := []) hC hml hl.1 (m_X3_isAlgebra hE H1 (hO.ext (zS_F hS) hMo) μ σ 0 i hH1 hi.1) (lw_V q1583 q1585 qs30 q67 q1586) rfl nd_X3_isAlgebra rfl (z_rv hC (ci := 2) rfl hH1.2.2.1.1 rfl) rfl (Nat.le_of_ble_eq_true rfl) ⟨Nat.le_of_ble_eq_true rfl, Nat.le_of_ble_eq_true rfl⟩ ⟨zfit (k := 0) (z := 0) rfl rfl (by omega), zfit (k := 0) (z := 0) rfl rfl (by omega)⟩ dX3_scaleOf_7) ⟨zad (k := 0) rfl (by omega), zad (k := 0) rfl (by omega)⟩ hS (fun _ z => z.elim) (fun r H2 locs hp hF hS1 => ?_)
  obtain ⟨_, rfl, rfl⟩ := hp
  have hP := zpk hP hF
  have hP : va_P G.1 zCl ([]) H2 := hP
  have hD : va_D (zA (FM G μ σ) H0) ([]) := hD
  have hH1 : HM G s0 μ σ 0 H2 := hH1.ext0 hE hF
  have hS := hS1
  obtain ⟨fl, hfl, hfl2⟩ : ∃ fl : Nat, fl ≤ 1 ∧ (if 0 ≤ i ∧ i < (((St_na σ) : Nat) : Int) then (1 : Int) else 0) = fl ∧ (fl = 1 ↔ 0 ≤ i ∧ i < (((St_na σ) : Nat) : Int)) := by by_cases h : 0 ≤ i ∧ i < (((St_na σ) : Nat) : Int); exact ⟨1, by decide, by rw [if_pos h]; rfl, ⟨fun _ => h, fun _ => rfl⟩⟩; exact ⟨0, by decide, by rw [if_neg h]; rfl, ⟨fun z => absurd z (by decide), fun z => absurd z h⟩⟩
  refine z_top (b := ((fl : Nat) : Int)) (hfl2.1) ?_
  refine z_zeq (tgt := 21) hx hb dX3_scaleOf_10 (by decide) (by omega) (fun c3 => ?_) (fun c3 => ?_)
  · refine lv_aload_n hx hb dX3_scaleOf_21 rfl (lv_at hl 0 rfl) ?_
    refine lv_iconst (v := iI 1) hx hb dX3_scaleOf_22 rfl ?_
    have hHb := hH1
    refine z_go 0 0 (z_runV (As := [.int (iI 1)]) (rest := []) hC hml hl.1 (m_X3_no hE H2 (hO.ext (zS_F hS) hMo) μ σ 0 1 hHb) (lw_V q1520 q1522 qs29 q67 q1523) rfl nd_X3_no rfl (z_rv hC (ci := 2) rfl hHb.2.2.1.1 rfl) rfl (Nat.le_of_ble_eq_true rfl) ⟨Nat.le_of_ble_eq_true rfl, Nat.le_of_ble_eq_true rfl⟩ ⟨zfit (k := 0) (z := 0) rfl rfl (by omega), zfit (k := 0) (z := 0) rfl rfl (by omega)⟩ dX3_scaleOf_23) ⟨zad (k := 0) rfl (by omega), zad (k := 0) rfl (by omega)⟩ hS (fun z hz => Or.inl (hz ▸ FM.in hE hh.sep (domM0 0 (by omega)) (by simp [rAm]))) (fun r H4 locs hp hF hS1 => ?_)
    obtain ⟨_, rfl, rfl, hx9⟩ := hp
    have hP : va_P G.1 zCl [] H4 := va_nil
    have hD : va_D (zA (FM G μ σ) H0) [] := va_nilD
    have hP : va_P G.1 zCl ([]) H4 := hP
    have hD : va_D (zA (FM G μ σ) H0) ([]) := hD
    have hS := hS1
    have hH9 : HM G s0 μ σ ((1 : Nat) : Int) H4 := HM.thr hE hHb hF hx9
    exact z_iret hC hrt hlk hQ hS ⟨zle (z := 0) rfl (by omega), zle (z := 0) rfl (by omega)⟩ ⟨_, rfl, 1, σ, PoM.same hH9, Or.inr ⟨by decide, rfl, by decide, rfl, fun z9 => by have h9 := hfl2.2.mpr z9.1; omega⟩⟩ dX3_scaleOf_26
  · have hok9 := hfl2.2.mp (by omega)
    obtain ⟨k, rfl⟩ : ∃ k : Nat, i = k := ⟨i.toNat, by omega⟩
    have hk9 : k < St_na σ := by omega
    refine lv_aload_n hx hb dX3_scaleOf_13 rfl (lv_at hl 0 rfl) ?_
    refine lv_iload_n hx hb dX3_scaleOf_14 rfl (lv_at hl 2 rfl) ?_
    refine z_go 0 0 (z_runV (As := [.int (iI j)]) (rest := []) hC hml hl.1 (m_X3_isAlgebra hE H2 (hO.ext (zS_F hS) hMo) μ σ 0 j hH1 hi.2.1) (lw_V q1583 q1585 qs30 q67 q1586) rfl nd_X3_isAlgebra rfl (z_rv hC (ci := 2) rfl hH1.2.2.1.1 rfl) rfl (Nat.le_of_ble_eq_true rfl) ⟨Nat.le_of_ble_eq_true rfl, Nat.le_of_ble_eq_true rfl⟩ ⟨zfit (k := 0) (z := 0) rfl rfl (by omega), zfit (k := 0) (z := 0) rfl rfl (by omega)⟩ dX3_scaleOf_15) ⟨zad (k := 0) rfl (by omega), zad (k := 0) rfl (by omega)⟩ hS (fun _ z => z.elim) (fun r H5 locs hp hF hS1 => ?_)
    obtain ⟨_, rfl, rfl⟩ := hp
    have hP := zpk hP hF
    have hP : va_P G.1 zCl ([]) H5 := hP
    have hD : va_D (zA (FM G μ σ) H0) ([]) := hD
    have hH1 : HM G s0 μ σ 0 H5 := hH1.ext0 hE hF
    have hS := hS1
    obtain ⟨fl, hfl, hfl2⟩ : ∃ fl : Nat, fl ≤ 1 ∧ (if 0 ≤ j ∧ j < (((St_na σ) : Nat) : Int) then (1 : Int) else 0) = fl ∧ (fl = 1 ↔ 0 ≤ j ∧ j < (((St_na σ) : Nat) : Int)) := by by_cases h : 0 ≤ j ∧ j < (((St_na σ) : Nat) : Int); exact ⟨1, by decide, by rw [if_pos h]; rfl, ⟨fun _ => h, fun _ => rfl⟩⟩; exact ⟨0, by decide, by rw [if_neg h]; rfl, ⟨fun z => absurd z (by decide), fun z => absurd z h⟩⟩
    refine z_top (b := ((fl : Nat) : Int)) (hfl2.1) ?_
    refine z_zne (tgt := 27) hx hb dX3_scaleOf_18 (by decide) (by omega) (fun c6 => ?_) (fun c6 => ?_)
    · have hok9 := hfl2.2.mp (by omega)
      obtain ⟨k2, rfl⟩ : ∃ k2 : Nat, j = k2 := ⟨j.toNat, by omega⟩
      have hk29 : k2 < St_na σ := by omega
      have hd4 := (hal k (by omega)).2.1
      have hmn := mnw_dg (σ := σ) (k := k) (k2 := k2) hd4
      refine lv_aload_n hx hb dX3_scaleOf_27 rfl (lv_at hl 0 rfl) ?_
      refine lv_iload_n hx hb dX3_scaleOf_28 rfl (lv_at hl 1 rfl) ?_
      refine lv_iload_n hx hb dX3_scaleOf_29 rfl (lv_at hl 2 rfl) ?_
      refine z_go 0 0 (z_runV (As := [.int (iI ((k : Nat) : Int)), .int (iI ((k2 : Nat) : Int))]) (rest := []) hC hml hl.1 (m_X3_matchNow hE H5 (hO.ext (zS_F hS) hMo) μ σ 0 k k2 hH1 ⟨by omega, by omega⟩) (lw_V q1922 q1924 qs58 q67 q1925) rfl nd_X3_matchNow rfl (z_rv hC (ci := 2) rfl hH1.2.2.1.1 rfl) rfl (Nat.le_of_ble_eq_true rfl) ⟨Nat.le_of_ble_eq_true rfl, Nat.le_of_ble_eq_true rfl⟩ ⟨zfit (k := 0) (z := 0) rfl rfl (by omega), zfit (k := 0) (z := 0) rfl rfl (by omega)⟩ dX3_scaleOf_30) ⟨zad (k := 0) rfl (by omega), zad (k := 0) rfl (by omega)⟩ hS (fun _ z => z.elim) (fun r H7 locs hp hF hS1 => ?_)
      obtain ⟨_, rfl, rfl⟩ := hp
      have hP := zpk hP hF
      have hP : va_P G.1 zCl ([]) H7 := hP
      have hD : va_D (zA (FM G μ σ) H0) ([]) := hD
      have hH1 : HM G s0 μ σ 0 H7 := hH1.ext0 hE hF
      have hS := hS1
      have hmb : -1 ≤ mnw σ k k2 ∧ mnw σ k k2 < 10000 := by rcases hmn with e | ⟨-, w, e, hw, -⟩ <;> omega
      have hxx := hH1.2.2.1.1
      refine lv_istore (lv' := [(4, .int (iI (mnw σ k k2))), (0, .ref (μ (0, 0, 0))), (1, .int (iI ((k : Nat) : Int))), (2, .int (iI ((k2 : Nat) : Int))), (3, .int (iI g))]) hx hb dX3_scaleOf_33 hl (by decide) rfl (fun ls hl => ?_)
      refine lv_aload_n hx hb dX3_scaleOf_35 rfl (lv_at hl 1 rfl) ?_
      refine z_get hC (k := 3) rfl in_X3 hxx (by decide) q1499 (fun _ h => h) rfl dX3_scaleOf_36 ?_
      refine lv_iload_n hx hb dX3_scaleOf_39 rfl (lv_at hl 2 rfl) ?_
      obtain ⟨mda, hLa⟩ := id hH1.2.2.1.2.1
      refine z_go5 0 0 (z_runF (n := 1) (As := [.int (iI ((k : Nat) : Int))]) (rest := []) (ci := 8) hC hml hl.1 (m_J2_get hE H7 (hO.ext (zS_F hS) hMo) (μ (1, 0, 0)) (St_na σ) (fun k => μ (6, k, 0)) (μ (2, 0, 0)) mda k hLa (by omega)) q375 q1588 q1591 q373 q65 q1590 q1589 q1593 q1592 q1528 ⟨by decide +kernel, by decide +kernel, by decide +kernel⟩ rfl rfl rfl (z_rv hC (ci := 8) rfl hLa.1 rfl) rfl (Nat.le_of_ble_eq_true rfl) ⟨Nat.le_of_ble_eq_true rfl, Nat.le_of_ble_eq_true rfl⟩ ⟨zfit (k := 0) (z := 0) rfl rfl (by omega), zfit (k := 0) (z := 0) rfl rfl (by omega)⟩ dX3_scaleOf_40) ⟨zad (k := 0) rfl (by omega), zad (k := 0) rfl (by omega)⟩ hS (fun _ z => z.elim) (fun r H8 locs hp hF hS1 => ?_)
      obtain ⟨_, rfl, rfl⟩ := hp
      have hP := zpk hP hF
      have hP : va_P G.1 zCl ([]) H8 := hP
      have hD : va_D (zA (FM G μ σ) H0) ([]) := hD
      have hH1 : HM G s0 μ σ 0 H8 := hH1.ext0 hE hF
      have hS := hS1
      have hAk := hH1.al (k := k) (by omega)
      have hn16k := hH1.n (k := k) (by omega)
      refine z_cast hC (ci := 5) rfl hAk.1 rfl q1539 dX3_scaleOf_45 ?_
      refine lv_astore (lv' := [(5, .ref (μ (6, k, 0))), (4, .int (iI (mnw σ k k2))), (0, .ref (μ (0, 0, 0))), (1, .int (iI ((k : Nat) : Int))), (2, .int (iI ((k2 : Nat) : Int))), (3, .int (iI g))]) hx hb dX3_scaleOf_48 hl (by decide) rfl (fun ls hl => ?_)
      refine lv_iload hx hb dX3_scaleOf_50 (lv_at hl 1 rfl) ?_
      refine lv_iconst (v := iI (-1)) hx hb dX3_scaleOf_52 rfl ?_
      refine z_ceq (tgt := 71) hx hb dX3_scaleOf_53 (by decide) (by omega) (fun c9 => ?_) (fun c9 => ?_)
      · refine lv_iconst (v := iI (-1)) hx hb dX3_scaleOf_71 rfl ?_
        exact z_iret hC hrt hlk hQ hS ⟨zle (z := 0) rfl (by omega), zle (z := 0) rfl (by omega)⟩ ⟨_, rfl, 0, σ, PoM.same hH1, Or.inl ⟨rfl, rfl, k, k2, ⟨by omega, by omega⟩, ⟨by omega, by omega⟩, by unfold soV; rw [if_pos (Or.inl (by assumption))]⟩⟩ dX3_scaleOf_72
      · obtain ⟨hdd, w, ew, hw, hdg⟩ := hmn.resolve_left (by omega)
        rw [ew] at hl
        refine lv_iload_n hx hb dX3_scaleOf_56 rfl (lv_at hl 5 rfl) ?_
        refine lv_iconst (v := iI 0) hx hb dX3_scaleOf_57 rfl ?_
        refine lv_aload hx hb dX3_scaleOf_58 (lv_at hl 0 rfl) ?_
        refine z_get hC (k := 3) rfl in_X6 hAk.1 (by decide) q1555 (fun _ h => h) rfl dX3_scaleOf_60 ?_
        refine lv_iconst (v := iI 1) hx hb dX3_scaleOf_63 rfl ?_
        refine z_sub hx hb (z := ((St_d σ k : Nat) : Int) - 1) dX3_scaleOf_64 rfl ?_
        refine z_go 0 0 (z_runS (As := [.int (iI g), .int (iI 0), .int (iI (((St_d σ k : Nat) : Int) - 1))]) (rest := []) hC hml hl.1 (m_X3_in hE H8 (hO.ext (zS_F hS) hMo) (0) (((St_d σ k : Nat) - 1)) (g) ⟨by omega, by omega, by omega⟩) (lw_S q1536 q1537 q67 q1538) nd_X3_in rfl rfl (Nat.le_of_ble_eq_true rfl) ⟨Nat.le_of_ble_eq_true rfl, Nat.le_of_ble_eq_true rfl⟩ ⟨zfit (k := 0) (z := 0) rfl rfl (by omega), zfit (k := 0) (z := 0) rfl rfl (by omega)⟩ dX3_scaleOf_65) ⟨zad (k := 0) rfl (by omega), zad (k := 0) rfl (by omega)⟩ hS (fun _ z => z.elim) (fun r H10 locs hp hF hS1 => ?_)
        obtain ⟨_, rfl, rfl⟩ := hp
        have hP := zpk hP hF
        have hP : va_P G.1 zCl ([]) H10 := hP
        have hD : va_D (zA (FM G μ σ) H0) ([]) := hD
        have hH1 : HM G s0 μ σ 0 H10 := hH1.ext0 hE hF
        have hS := hS1
        obtain ⟨fl, hfl, hfl2⟩ : ∃ fl : Nat, fl ≤ 1 ∧ (if 0 ≤ g ∧ g ≤ ((St_d σ k : Nat) - 1) then (1 : Int) else 0) = fl ∧ (fl = 1 ↔ 0 ≤ g ∧ g ≤ ((St_d σ k : Nat) - 1)) := by by_cases h : 0 ≤ g ∧ g ≤ ((St_d σ k : Nat) - 1); exact ⟨1, by decide, by rw [if_pos h]; rfl, ⟨fun _ => h, fun _ => rfl⟩⟩; exact ⟨0, by decide, by rw [if_neg h]; rfl, ⟨fun z => absurd z (by decide), fun z => absurd z h⟩⟩
        refine z_top (b := ((fl : Nat) : Int)) (hfl2.1) ?_
        refine z_zne (tgt := 73) hx hb dX3_scaleOf_68 (by decide) (by omega) (fun c11 => ?_) (fun c11 => ?_)
        · have hrg : 0 ≤ g ∧ g ≤ ((St_d σ k : Nat) - 1) := hfl2.2.mp (by omega)
          obtain ⟨gg, rfl⟩ : ∃ gg : Nat, g = gg := ⟨g.toNat, by omega⟩
          have hAk := hH1.al (k := k) (by omega)
          have hn16k := hH1.n (k := k) (by omega)
          refine lv_aload hx hb dX3_scaleOf_73 (lv_at hl 0 rfl) ?_
          refine z_get hC (k := 3) rfl in_X6 hAk.1 (by decide) q1555 (fun _ h => h) rfl dX3_scaleOf_75 ?_
          refine lv_iconst (v := iI 1) hx hb dX3_scaleOf_78 rfl ?_
          refine z_sub hx hb (z := ((St_d σ k : Nat) : Int) - 1) dX3_scaleOf_79 rfl ?_
          refine z_top (b := ((St_d σ k - 1 : Nat) : Int)) (by omega) ?_
          refine lv_istore (lv' := [(6, .int (iI ((St_d σ k - 1 : Nat) : Int))), (5, .ref (μ (6, k, 0))), (4, .int (iI ((w : Nat) : Int))), (0, .ref (μ (0, 0, 0))), (1, .int (iI ((k : Nat) : Int))), (2, .int (iI ((k2 : Nat) : Int))), (3, .int (iI ((gg : Nat) : Int)))]) hx hb dX3_scaleOf_80 hl (by decide) rfl (fun ls hl => ?_)
          have lp12 : ∀ (dlp12 : Nat) (kk : Nat) (o9 : Nat), kk = dlp12 → (gg ≤ kk ∧ kk < St_d σ k) → (o9 = w / 10 ^ (St_d σ k - 1 - kk)) → ∀ (H13 : Heap) (locs : List Loc) (ls : Array Slot), (HM G s0 μ σ 0 H13) → va_P G.1 zCl ([]) H13 → va_D (zA (FM G μ σ) H0) ([]) → va_S (zA (FM G μ σ) H0) H0 H13 locs → lv_has ls 7 [(6, .int (iI ((kk : Nat) : Int))), (5, .ref (μ (6, k, 0))), (4, .int (iI ((o9 : Nat) : Int))), (0, .ref (μ (0, 0, 0))), (1, .int (iI ((k : Nat) : Int))), (2, .int (iI ((k2 : Nat) : Int))), (3, .int (iI ((gg : Nat) : Int)))] → W pp l ee rm_m_X3_scaleOf ss mm args below meth cd H13 locs 0 0 Q (F0 mm 82 ls []) := by
            intro dlp12
            induction dlp12 using Nat.strongRecOn with
            | ind dlp12 ihlp12 =>
              intro kk o9 hdlp12 hkk ho9 H13 locs ls hH1 hP hD hS hl
              have hAk := hH1.al (k := k) (by omega)
              have hn16k := hH1.n (k := k) (by omega)
              have hwl : o9 ≤ w := ho9 ▸ Nat.div_le_self _ _
              refine lv_iload hx hb dX3_scaleOf_82 (lv_at hl 0 rfl) ?_
              refine lv_iload_n hx hb dX3_scaleOf_84 rfl (lv_at hl 6 rfl) ?_
              refine z_cle (tgt := 101) hx hb dX3_scaleOf_85 (by decide) (by omega) (fun c14 => ?_) (fun c14 => ?_)
              · have ekk : kk = gg := by omega
                have hdg9 := hdg (St_d σ k - 1 - kk) (by omega)
                rw [← ho9] at hdg9
                have edf : dvA σ k gg = St_dv σ k gg := if_pos (by omega)
                have edt : dvA σ k2 (o9 % 10) = St_dv σ k2 (o9 % 10) := if_pos (by omega)
                have hdf := (hal k (by omega)).2.2 gg (by omega)
                have hdt := (hal k2 (by omega)).2.2 (o9 % 10) (by omega)
                have hxx := hH1.2.2.1.1
                refine lv_aload_n hx hb dX3_scaleOf_101 rfl (lv_at hl 3 rfl) ?_
                refine lv_aload hx hb dX3_scaleOf_102 (lv_at hl 1 rfl) ?_
                refine z_get hC (k := 1) rfl in_X6 hAk.1 (by decide) q1551 (fun _ h => h) rfl dX3_scaleOf_104 ?_
                refine lv_iload_n hx hb dX3_scaleOf_107 rfl (lv_at hl 6 rfl) ?_
                refine z_iald hC hAk.2.1 (k := gg) rfl (by omega) (y := (dvA σ k) gg) rfl dX3_scaleOf_108 ?_
                refine z_top (b := St_dv σ k gg) (edf) ?_
                refine lv_aload_n hx hb dX3_scaleOf_109 rfl (lv_at hl 3 rfl) ?_
                refine z_get hC (k := 3) rfl in_X3 hxx (by decide) q1499 (fun _ h => h) rfl dX3_scaleOf_110 ?_
                refine lv_iload_n hx hb dX3_scaleOf_113 rfl (lv_at hl 5 rfl) ?_
                obtain ⟨mda, hLa⟩ := id hH1.2.2.1.2.1
                refine z_go5 0 0 (z_runF (n := 1) (As := [.int (iI ((k2 : Nat) : Int))]) (rest := [.int (iI (St_dv σ k gg)), .ref (μ (0, 0, 0))]) (ci := 8) hC hml hl.1 (m_J2_get hE H13 (hO.ext (zS_F hS) hMo) (μ (1, 0, 0)) (St_na σ) (fun k => μ (6, k, 0)) (μ (2, 0, 0)) mda k2 hLa (by omega)) q375 q1588 q1591 q373 q65 q1590 q1589 q1593 q1592 q1528 ⟨by decide +kernel, by decide +kernel, by decide +kernel⟩ rfl rfl rfl (z_rv hC (ci := 8) rfl hLa.1 rfl) rfl (Nat.le_of_ble_eq_true rfl) ⟨Nat.le_of_ble_eq_true rfl, Nat.le_of_ble_eq_true rfl⟩ ⟨zfit (k := 0) (z := 0) rfl rfl (by omega), zfit (k := 0) (z := 0) rfl rfl (by omega)⟩ dX3_scaleOf_114) ⟨zad (k := 0) rfl (by omega), zad (k := 0) rfl (by omega)⟩ hS (fun _ z => z.elim) (fun r H15 locs hp hF hS1 => ?_)
                obtain ⟨_, rfl, rfl⟩ := hp
                have hP := zpk hP hF
                have hP : va_P G.1 zCl ([]) H15 := hP
                have hD : va_D (zA (FM G μ σ) H0) ([]) := hD
                have hH1 : HM G s0 μ σ 0 H15 := hH1.ext0 hE hF
                have hS := hS1
                have hAk2 := hH1.al (k := k2) (by omega)
                have hn16k2 := hH1.n (k := k2) (by omega)
                refine z_cast hC (ci := 5) rfl hAk2.1 rfl q1539 dX3_scaleOf_119 ?_
                refine z_get hC (k := 1) rfl in_X6 hAk2.1 (by decide) q1551 (fun _ h => h) rfl dX3_scaleOf_122 ?_
                refine lv_iload hx hb dX3_scaleOf_125 (lv_at hl 2 rfl) ?_
                refine lv_bipush (v := iI 10) hx hb dX3_scaleOf_127 (by decide) ?_
                refine z_rem hx hb (z := Int.tmod ((o9 : Nat) : Int) 10) dX3_scaleOf_129 (by omega) rfl ?_
                refine z_top (b := ((o9 % 10 : Nat) : Int)) (Int.tmod_eq_emod_of_nonneg (by omega)) ?_
                refine z_iald hC hAk2.2.1 (k := o9 % 10) rfl (by omega) (y := (dvA σ k2) (o9 % 10)) rfl dX3_scaleOf_130 ?_
                refine z_top (b := St_dv σ k2 (o9 % 10)) (edt) ?_
                refine z_go 0 0 (z_runV (As := [.int (iI (St_dv σ k gg)), .int (iI (St_dv σ k2 (o9 % 10)))]) (rest := []) hC hml hl.1 (m_X3_scaleNow hE H15 (hO.ext (zS_F hS) hMo) μ σ 0 (St_dv σ k gg) (St_dv σ k2 (o9 % 10)) hH1 ⟨⟨by omega, by omega⟩, by omega, by omega⟩) (lw_V q1930 q1932 qs60 q67 q1933) rfl nd_X3_scaleNow rfl (z_rv hC (ci := 2) rfl hH1.2.2.1.1 rfl) rfl (Nat.le_of_ble_eq_true rfl) ⟨Nat.le_of_ble_eq_true rfl, Nat.le_of_ble_eq_true rfl⟩ ⟨zfit (k := 0) (z := 0) rfl rfl (by omega), zfit (k := 0) (z := 0) rfl rfl (by omega)⟩ dX3_scaleOf_131) ⟨zad (k := 0) rfl (by omega), zad (k := 0) rfl (by omega)⟩ hS (fun _ z => z.elim) (fun r H16 locs hp hF hS1 => ?_)
                obtain ⟨_, rfl, rfl⟩ := hp
                have hP := zpk hP hF
                have hP : va_P G.1 zCl ([]) H16 := hP
                have hD : va_D (zA (FM G μ σ) H0) ([]) := hD
                have hH1 : HM G s0 μ σ 0 H16 := hH1.ext0 hE hF
                have hS := hS1
                exact z_iret hC hrt hlk hQ hS ⟨zle (z := 0) rfl (by omega), zle (z := 0) rfl (by omega)⟩ ⟨_, rfl, 0, σ, PoM.same hH1, Or.inl ⟨rfl, rfl, k, k2, ⟨by omega, by omega⟩, ⟨by omega, by omega⟩, by unfold soV; rw [if_neg (by omega), ew, ho9, ekk]; rfl⟩⟩ dX3_scaleOf_134
              · refine lv_iload hx hb dX3_scaleOf_88 (lv_at hl 2 rfl) ?_
                refine lv_bipush (v := iI 10) hx hb dX3_scaleOf_90 (by decide) ?_
                refine z_div hx hb (z := Int.tdiv ((o9 : Nat) : Int) 10) dX3_scaleOf_92 (by omega) rfl ?_
                refine z_top (b := ((o9 / 10 : Nat) : Int)) (Int.tdiv_eq_ediv_of_nonneg (by omega)) ?_
                refine lv_istore (lv' := [(4, .int (iI ((o9 / 10 : Nat) : Int))), (6, .int (iI ((kk : Nat) : Int))), (5, .ref (μ (6, k, 0))), (0, .ref (μ (0, 0, 0))), (1, .int (iI ((k : Nat) : Int))), (2, .int (iI ((k2 : Nat) : Int))), (3, .int (iI ((gg : Nat) : Int)))]) hx hb dX3_scaleOf_93 hl (by decide) rfl (fun ls hl => ?_)
                refine z_iinc (z := ((kk - 1 : Nat) : Int)) (lv' := [(6, .int (iI ((kk - 1 : Nat) : Int))), (4, .int (iI ((o9 / 10 : Nat) : Int))), (5, .ref (μ (6, k, 0))), (0, .ref (μ (0, 0, 0))), (1, .int (iI ((k : Nat) : Int))), (2, .int (iI ((k2 : Nat) : Int))), (3, .int (iI ((gg : Nat) : Int)))]) hx hb dX3_scaleOf_95 hl (k := 1) rfl (by omega) (by decide) rfl (fun ls hl => ?_)
                refine lv_goto (tgt := 82) hx hb dX3_scaleOf_98 (by decide) ?_
                exact W.widen (by omega) (by omega) (ihlp12 ((kk - 1)) (by omega) (kk - 1) (o9 / 10) rfl (by omega) (by rw [ho9]; exact pw_div (by omega) (by omega)) _ _ _ hH1 hP hD hS (lv_sub hl [0, 2, 1, 3, 4, 5, 6] rfl))
          exact W.widen (by omega) (by omega) (lp12 _ (St_d σ k - 1) w rfl (by omega) (by rw [Nat.sub_self]; simp) _ _ _ hH1 hP hD hS hl)
        · refine lv_iconst (v := iI (-1)) hx hb dX3_scaleOf_71 rfl ?_
          exact z_iret hC hrt hlk hQ hS ⟨zle (z := 0) rfl (by omega), zle (z := 0) rfl (by omega)⟩ ⟨_, rfl, 0, σ, PoM.same hH1, Or.inl ⟨rfl, rfl, k, k2, ⟨by omega, by omega⟩, ⟨by omega, by omega⟩, by unfold soV; rw [if_pos (Or.inr (by omega))]⟩⟩ dX3_scaleOf_72
    · refine lv_aload_n hx hb dX3_scaleOf_21 rfl (lv_at hl 0 rfl) ?_
      refine lv_iconst (v := iI 1) hx hb dX3_scaleOf_22 rfl ?_
      have hHb := hH1
      refine z_go 0 0 (z_runV (As := [.int (iI 1)]) (rest := []) hC hml hl.1 (m_X3_no hE H5 (hO.ext (zS_F hS) hMo) μ σ 0 1 hHb) (lw_V q1520 q1522 qs29 q67 q1523) rfl nd_X3_no rfl (z_rv hC (ci := 2) rfl hHb.2.2.1.1 rfl) rfl (Nat.le_of_ble_eq_true rfl) ⟨Nat.le_of_ble_eq_true rfl, Nat.le_of_ble_eq_true rfl⟩ ⟨zfit (k := 0) (z := 0) rfl rfl (by omega), zfit (k := 0) (z := 0) rfl rfl (by omega)⟩ dX3_scaleOf_23) ⟨zad (k := 0) rfl (by omega), zad (k := 0) rfl (by omega)⟩ hS (fun z hz => Or.inl (hz ▸ FM.in hE hh.sep (domM0 0 (by omega)) (by simp [rAm]))) (fun r H17 locs hp hF hS1 => ?_)
      obtain ⟨_, rfl, rfl, hx9⟩ := hp
      have hP : va_P G.1 zCl [] H17 := va_nil
      have hD : va_D (zA (FM G μ σ) H0) [] := va_nilD
      have hP : va_P G.1 zCl ([]) H17 := hP
      have hD : va_D (zA (FM G μ σ) H0) ([]) := hD
      have hS := hS1
      have hH9 : HM G s0 μ σ ((1 : Nat) : Int) H17 := HM.thr hE hHb hF hx9
      exact z_iret hC hrt hlk hQ hS ⟨zle (z := 0) rfl (by omega), zle (z := 0) rfl (by omega)⟩ ⟨_, rfl, 1, σ, PoM.same hH9, Or.inr ⟨by decide, rfl, by decide, rfl, fun z9 => by have h9 := hfl2.2.mpr z9.2; omega⟩⟩ dX3_scaleOf_26

