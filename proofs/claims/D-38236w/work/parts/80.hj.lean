/-! THE MODEL: what is free; kernels -/
set_option maxRecDepth 100000
abbrev rm_m_X3_free_0 : Room := { frames := 2, cells := 1, slots := 16, locals := 45 }
set_option maxHeartbeats 4000000 in
theorem m_X3_free_0 {l : Launch} {s0 : State} {G : zG} (hE : zE l s0 G) (H0 : Heap) (hO : zO s0 H0) (μ : Ro → Nat) (σ : St) (th : Int) (q n : Nat) (ro : Nat → Nat) (F M : Nat → Nat → Int) (wy : Nat) (hh : HM G s0 μ σ th H0) (hn : 1 ≤ n ∧ n ≤ 16) (hP0 : va_P G.1 zCl ([(q, zII G n (fun i => some (ro i)))] ++ (zRows G n n ro F ++ [])) H0) (hD0 : va_D (fun z => s0.heap.size ≤ z ∧ ∀ c, dmMo σ c → μ c ≠ G.2 12 → μ c ≠ z) ([(q, zII G n (fun i => some (ro i)))] ++ (zRows G n n ro F ++ []))) (hFr : ∀ c, c < n → rw_ok (St_p σ) n (F c)) (hFM : ∀ c i, c < n → i < n → F c i = M i c) : zM l s0 yX3_free cX3_free 10 (some FieldType.int) rm_m_X3_free_0 [.ref (μ (0, 0, 0)), .ref q, .ref wy, .int (iI 0)] H0 (fun z => ∃ e, (z, e) ∈ ([(q, zII G n (fun i => some (ro i)))] ++ (zRows G n n ro F ++ []))) (ri (fun y _ => y = (rkM (St_p σ) n M : Nat))) := by
  refine z_met hE (by decide +kernel) (Nat.le_of_ble_eq_true rfl) ?_
  intro pp ee ss mm args below meth cd Q ls hC hml hrt hlk hnm hH hQ hS hl
  have hx := hC.x
  have hb := hC.b
  have hl : lv_has ls 10 [(0, .ref (μ (0, 0, 0))), (1, .ref q), (2, .ref wy), (3, .int (iI 0))] := hl
  have hP : va_P G.1 zCl ([(q, zII G n (fun i => some (ro i)))] ++ (zRows G n n ro F ++ [])) H0 := hP0
  have hD : va_D (zA (fun z => ∃ e, (z, e) ∈ ([(q, zII G n (fun i => some (ro i)))] ++ (zRows G n n ro F ++ []))) H0) ([(q, zII G n (fun i => some (ro i)))] ++ (zRows G n n ro F ++ [])) := va_D.weaken hD0 (fun k x hx _ => Or.inl ⟨x.2, List.mem_of_getElem? hx⟩)
  have hMo : ∀ z, (fun z => ∃ e, (z, e) ∈ ([(q, zII G n (fun i => some (ro i)))] ++ (zRows G n n ro F ++ []))) z → s0.heap.size ≤ z := fun z hz => by obtain ⟨e, he⟩ := hz; obtain ⟨i, hi⟩ := List.mem_iff_getElem?.mp he; exact (hD0.2 i _ hi).1
  have hnm9 : ∀ a, dmMo σ a → μ a ≠ G.2 12 → ¬ (fun z => ∃ e, (z, e) ∈ ([(q, zII G n (fun i => some (ro i)))] ++ (zRows G n n ro F ++ []))) (μ a) := fun a ha h12 hz => by obtain ⟨e, he⟩ := hz; obtain ⟨i, hi⟩ := List.mem_iff_getElem?.mp he; exact (hD0.2 i _ hi).2 a ha h12 rfl
  obtain ⟨hp, hna, hal, hne9, hel9, hmr9⟩ := id hh.ok
  have hp7 : 0 < St_p σ ∧ St_p σ ≤ 7 := by rcases hp with h | h | h <;> rw [h] <;> decide
  refine lv_aload_n hx hb dX3_free_0 rfl (lv_at hl 1 rfl) ?_
  refine z_alen hC 4 (hP 0 _ rfl) rfl (y := ((n : Nat) : Int)) rfl dX3_free_1 ?_
  refine lv_istore (lv' := [(4, .int (iI ((n : Nat) : Int))), (0, .ref (μ (0, 0, 0))), (1, .ref q), (2, .ref wy), (3, .int (iI 0))]) hx hb dX3_free_2 hl (by decide) rfl (fun ls hl => ?_)
  refine lv_iconst (v := iI 0) hx hb dX3_free_4 rfl ?_
  refine lv_istore (lv' := [(5, .int (iI 0)), (4, .int (iI ((n : Nat) : Int))), (0, .ref (μ (0, 0, 0))), (1, .ref q), (2, .ref wy), (3, .int (iI 0))]) hx hb dX3_free_5 hl (by decide) rfl (fun ls hl => ?_)
  refine lv_iload hx hb dX3_free_7 (lv_at hl 1 rfl) ?_
  refine z_newi hC hP hD hS (N := n) (c1 := 1) (s1 := 16) rfl (by omega) ⟨zle (z := 1) rfl (by omega), zle (z := 16) rfl (by omega)⟩ ⟨by omega, by omega⟩ (ws' := fun q1 => ([(q, zII G n (fun i => some (ro i)))] ++ (zRows G n n ro F ++ [])) ++ [(q1, zI G n (fun _ => 0))]) (fun _ => rfl) dX3_free_9 (fun q1 H2 hq0q1 hq1q1 hP hD hS hF => ?_)
  have hP : va_P G.1 zCl ([(q, zII G n (fun i => some (ro i))), (q1, zI G n (fun _ => 0))] ++ (zRows G n n ro F ++ [])) H2 := zswapP hP
  have hD : va_D (zA (fun z => ∃ e, (z, e) ∈ ([(q, zII G n (fun i => some (ro i)))] ++ (zRows G n n ro F ++ []))) H0) ([(q, zII G n (fun i => some (ro i))), (q1, zI G n (fun _ => 0))] ++ (zRows G n n ro F ++ [])) := zswapD hD
  refine lv_astore (lv' := [(6, .ref q1), (5, .int (iI 0)), (4, .int (iI ((n : Nat) : Int))), (0, .ref (μ (0, 0, 0))), (1, .ref q), (2, .ref wy), (3, .int (iI 0))]) hx hb dX3_free_11 hl (by decide) rfl (fun ls hl => ?_)
  refine lv_iconst (v := iI 0) hx hb dX3_free_13 rfl ?_
  refine lv_istore (lv' := [(7, .int (iI 0)), (6, .ref q1), (5, .int (iI 0)), (4, .int (iI ((n : Nat) : Int))), (0, .ref (μ (0, 0, 0))), (1, .ref q), (2, .ref wy), (3, .int (iI 0))]) hx hb dX3_free_14 hl (by decide) rfl (fun ls hl => ?_)
  have lp3 : ∀ (dlp3 : Nat) (k : Nat) (f : Nat → Int) (rk : Nat) (C : Nat → Nat → Int) (Ww : Nat → Nat → Int), n - k = dlp3 → (k ≤ n) → (fcA (St_p σ) n M C Ww) → (fcB n C f k) → (rk = cnt f k) → ∀ (H4 : Heap) (locs : List Loc) (ls : Array Slot), va_P G.1 zCl ([(q, zII G n (fun i => some (ro i))), (q1, zI G n f)] ++ (zRows G n n ro C ++ [])) H4 → va_D (zA (fun z => ∃ e, (z, e) ∈ ([(q, zII G n (fun i => some (ro i)))] ++ (zRows G n n ro F ++ []))) H0) ([(q, zII G n (fun i => some (ro i))), (q1, zI G n f)] ++ (zRows G n n ro C ++ [])) → va_S (zA (fun z => ∃ e, (z, e) ∈ ([(q, zII G n (fun i => some (ro i)))] ++ (zRows G n n ro F ++ []))) H0) H0 H4 locs → lv_has ls 10 [(7, .int (iI ((k : Nat) : Int))), (6, .ref q1), (5, .int (iI ((rk : Nat) : Int))), (4, .int (iI ((n : Nat) : Int))), (0, .ref (μ (0, 0, 0))), (1, .ref q), (2, .ref wy), (3, .int (iI 0))] → W pp l ee rm_m_X3_free_0 ss mm args below meth cd H4 locs 1 16 Q (F0 mm 16 ls []) := by
    intro dlp3
    induction dlp3 using Nat.strongRecOn with
    | ind dlp3 ihlp3 =>
      intro k f rk C Ww hdlp3 hk hA hB hrk H4 locs ls  hP hD hS hl
      refine lv_iload hx hb dX3_free_16 (lv_at hl 0 rfl) ?_
      refine lv_iload hx hb dX3_free_18 (lv_at hl 3 rfl) ?_
      refine z_cge (tgt := 195) hx hb dX3_free_20 (by decide) (by omega) (fun c5 => ?_) (fun c5 => ?_)
      · have ek : k = n := by omega
        refine lv_iload_n hx hb dX3_free_195 rfl (lv_at hl 7 rfl) ?_
        refine z_zeq (tgt := 204) hx hb dX3_free_196 (by decide) (by omega) (fun c6 => ?_) (fun c6 => ?_)
        · refine lv_iload hx hb dX3_free_204 (lv_at hl 2 rfl) ?_
          exact z_iret hC hrt hlk hQ hS ⟨zle (z := 1) rfl (by omega), zle (z := 16) rfl (by omega)⟩ ⟨_, rfl, by rw [hrk, ek]; exact congrArg Nat.cast (rkM_eq (fun c hc => ⟨fun e => ⟨Ww c, (fcYes hA hc (hB.2.1 c (by omega) e)).1, (fcYes hA hc (hB.2.1 c (by omega) e)).2.1, (fcYes hA hc (hB.2.1 c (by omega) e)).2.2.2⟩, fun e => Classical.byContradiction (fun h9 => fcNot hp hA ⟨fun r hr => hB.1 r (by omega), fun r hr => hB.2.1 r (by omega), fun r hr => hB.2.2.1 r (by omega), fun r s hrs hs => hB.2.2.2 r s hrs (by omega)⟩ hc h9 e)⟩))⟩ dX3_free_206
        · omega
      · refine lv_iconst (v := iI 0) hx hb dX3_free_23 rfl ?_
        refine lv_istore (lv' := [(8, .int (iI 0)), (7, .int (iI ((k : Nat) : Int))), (6, .ref q1), (5, .int (iI ((rk : Nat) : Int))), (4, .int (iI ((n : Nat) : Int))), (0, .ref (μ (0, 0, 0))), (1, .ref q), (2, .ref wy), (3, .int (iI 0))]) hx hb dX3_free_24 hl (by decide) rfl (fun ls hl => ?_)
        have lp7 : ∀ (dlp7 : Nat) (r : Nat) (C2 : Nat → Nat → Int) (W2 : Nat → Nat → Int), k - r = dlp7 → (r ≤ k) → (fcA (St_p σ) n M C2 W2) → (fcB n C2 f k) → (fcD C2 f k r) → ∀ (H8 : Heap) (locs : List Loc) (ls : Array Slot), va_P G.1 zCl ([(q, zII G n (fun i => some (ro i))), (q1, zI G n f)] ++ (zRows G n n ro C2 ++ [])) H8 → va_D (zA (fun z => ∃ e, (z, e) ∈ ([(q, zII G n (fun i => some (ro i)))] ++ (zRows G n n ro F ++ []))) H0) ([(q, zII G n (fun i => some (ro i))), (q1, zI G n f)] ++ (zRows G n n ro C2 ++ [])) → va_S (zA (fun z => ∃ e, (z, e) ∈ ([(q, zII G n (fun i => some (ro i)))] ++ (zRows G n n ro F ++ []))) H0) H0 H8 locs → lv_has ls 10 [(8, .int (iI ((r : Nat) : Int))), (7, .int (iI ((k : Nat) : Int))), (6, .ref q1), (5, .int (iI ((rk : Nat) : Int))), (4, .int (iI ((n : Nat) : Int))), (0, .ref (μ (0, 0, 0))), (1, .ref q), (2, .ref wy), (3, .int (iI 0))] → W pp l ee rm_m_X3_free_0 ss mm args below meth cd H8 locs 1 16 Q (F0 mm 26 ls []) := by
          intro dlp7
          induction dlp7 using Nat.strongRecOn with
          | ind dlp7 ihlp7 =>
            intro r C2 W2 hdlp7 hr hA2 hB2 hDk H8 locs ls  hP hD hS hl
            refine lv_iload hx hb dX3_free_26 (lv_at hl 0 rfl) ?_
            refine lv_iload hx hb dX3_free_28 (lv_at hl 1 rfl) ?_
            refine z_cge (tgt := 114) hx hb dX3_free_30 (by decide) (by omega) (fun c9 => ?_) (fun c9 => ?_)
            · have er : r = k := by omega
              rw [er] at hDk
              refine lv_aload hx hb dX3_free_114 (lv_at hl 2 rfl) ?_
              refine lv_iload hx hb dX3_free_116 (lv_at hl 1 rfl) ?_
              refine lv_iconst (v := iI (-1)) hx hb dX3_free_118 rfl ?_
              refine z_iast hC hP hD hS 1 (k := k) rfl rfl (by omega) (ws' := [(q, zII G n (fun i => some (ro i))), (q1, zI G n (va_up f k (-1)))] ++ (zRows G n n ro C2 ++ [])) rfl dX3_free_119 (fun H10 locs hP hD hS => ?_)
              refine lv_iload hx hb dX3_free_120 (lv_at hl 4 rfl) ?_
              refine lv_iconst (v := iI 1) hx hb dX3_free_122 rfl ?_
              refine z_sub hx hb (z := ((n : Nat) : Int) - 1) dX3_free_123 rfl ?_
              refine lv_istore (lv' := [(8, .int (iI (((n : Nat) : Int) - 1))), (7, .int (iI ((k : Nat) : Int))), (6, .ref q1), (5, .int (iI ((rk : Nat) : Int))), (4, .int (iI ((n : Nat) : Int))), (0, .ref (μ (0, 0, 0))), (1, .ref q), (2, .ref wy), (3, .int (iI 0))]) hx hb dX3_free_124 hl (by decide) rfl (fun ls hl => ?_)
              have lp11 : ∀ (dlp11 : Nat) (at_ : Nat) (g : Nat → Int) (fk : Int), at_ = dlp11 → (at_ ≤ n) → (∀ c, c < n → g c = (if c = k then fk else f c)) → ((fk = -1 ∨ (0 ≤ fk ∧ fk < n)) ∧ (fk = -1 → ∀ i, at_ ≤ i → i < n → C2 k i = 0) ∧ (fk ≠ -1 → C2 k fk.toNat ≠ 0)) → ∀ (H12 : Heap) (locs : List Loc) (ls : Array Slot), va_P G.1 zCl ([(q, zII G n (fun i => some (ro i))), (q1, zI G n g)] ++ (zRows G n n ro C2 ++ [])) H12 → va_D (zA (fun z => ∃ e, (z, e) ∈ ([(q, zII G n (fun i => some (ro i)))] ++ (zRows G n n ro F ++ []))) H0) ([(q, zII G n (fun i => some (ro i))), (q1, zI G n g)] ++ (zRows G n n ro C2 ++ [])) → va_S (zA (fun z => ∃ e, (z, e) ∈ ([(q, zII G n (fun i => some (ro i)))] ++ (zRows G n n ro F ++ []))) H0) H0 H12 locs → lv_has ls 10 [(8, .int (iI (((at_ : Nat) : Int) - 1))), (7, .int (iI ((k : Nat) : Int))), (6, .ref q1), (5, .int (iI ((rk : Nat) : Int))), (4, .int (iI ((n : Nat) : Int))), (0, .ref (μ (0, 0, 0))), (1, .ref q), (2, .ref wy), (3, .int (iI 0))] → W pp l ee rm_m_X3_free_0 ss mm args below meth cd H12 locs 1 16 Q (F0 mm 126 ls []) := by
                intro dlp11
                induction dlp11 using Nat.strongRecOn with
                | ind dlp11 ihlp11 =>
                  intro at_ g fk hdlp11 hat hg hfk H12 locs ls  hP hD hS hl
                  refine lv_iload hx hb dX3_free_126 (lv_at hl 0 rfl) ?_
                  refine z_zlt (tgt := 154) hx hb dX3_free_128 (by decide) (by omega) (fun c13 => ?_) (fun c13 => ?_)
                  · have ea : at_ = 0 := by omega
                    have hg9 := hg k (by omega)
                    rw [if_pos rfl] at hg9
                    have hfkb : -1 ≤ fk ∧ fk < 16 := by omega
                    have hB3 : fcB n C2 g (k + 1) := hB2.next hDk (fun c hc => by rw [hg c (by omega), if_neg (by omega)]) (by rw [hg9]; omega) (fun e i hi => hfk.2.1 (by omega) i (by omega) hi) (fun e => by rw [hg9] at e ⊢; exact hfk.2.2 e)
                    have hgb : -1 ≤ g k ∧ g k < 16 := by omega
                    refine lv_aload hx hb dX3_free_154 (lv_at hl 2 rfl) ?_
                    refine lv_iload hx hb dX3_free_156 (lv_at hl 1 rfl) ?_
                    refine z_iald hC (hP 1 _ rfl) (k := k) rfl (by omega) (y := g k) rfl dX3_free_158 ?_
                    refine lv_iconst (v := iI (-1)) hx hb dX3_free_159 rfl ?_
                    refine z_cne (tgt := 170) hx hb dX3_free_160 (by decide) (by omega) (fun c14 => ?_) (fun c14 => ?_)
                    · refine lv_iload hx hb dX3_free_170 (lv_at hl 3 rfl) ?_
                      refine lv_aload hx hb dX3_free_172 (lv_at hl 2 rfl) ?_
                      refine lv_iload hx hb dX3_free_174 (lv_at hl 1 rfl) ?_
                      refine z_iald hC (hP 1 _ rfl) (k := k) rfl (by omega) (y := g k) rfl dX3_free_176 ?_
                      refine lv_iconst (v := iI (-1)) hx hb dX3_free_177 rfl ?_
                      have hcl := cnt_le f k
                      have hcc : cnt g k = cnt f k := cnt_congr (fun c hc => by rw [hg c (by omega), if_neg (by omega)])
                      refine z_cne (tgt := 185) hx hb dX3_free_178 (by decide) (by omega) (fun c15 => ?_) (fun c15 => ?_)
                      · refine lv_iconst (v := iI 1) hx hb dX3_free_185 rfl ?_
                        refine z_add hx hb (z := ((rk : Nat) : Int) + 1) dX3_free_186 rfl ?_
                        refine z_top (b := ((rk + 1 : Nat) : Int)) (by omega) ?_
                        refine lv_istore (lv' := [(5, .int (iI ((rk + 1 : Nat) : Int))), (8, .int (iI (((at_ : Nat) : Int) - 1))), (7, .int (iI ((k : Nat) : Int))), (6, .ref q1), (4, .int (iI ((n : Nat) : Int))), (0, .ref (μ (0, 0, 0))), (1, .ref q), (2, .ref wy), (3, .int (iI 0))]) hx hb dX3_free_187 hl (by decide) rfl (fun ls hl => ?_)
                        refine z_iinc (z := ((k + 1 : Nat) : Int)) (lv' := [(7, .int (iI ((k + 1 : Nat) : Int))), (5, .int (iI ((rk + 1 : Nat) : Int))), (8, .int (iI (((at_ : Nat) : Int) - 1))), (6, .ref q1), (4, .int (iI ((n : Nat) : Int))), (0, .ref (μ (0, 0, 0))), (1, .ref q), (2, .ref wy), (3, .int (iI 0))]) hx hb dX3_free_189 hl (k := 2) rfl (by omega) (by decide) rfl (fun ls hl => ?_)
                        refine lv_goto (tgt := 16) hx hb dX3_free_192 (by decide) ?_
                        exact W.widen (by omega) (by omega) (ihlp3 (n - (k + 1)) (by omega) (k + 1) g (rk + 1) C2 W2 rfl (by omega) hA2 hB3 (by simp only [cnt]; rw [hcc, ← hrk, if_neg (by omega)]) _ _ _  hP hD hS (lv_sub hl [0, 3, 1, 4, 5, 6, 7, 8] rfl))
                      · refine lv_iconst (v := iI 0) hx hb dX3_free_181 rfl ?_
                        refine lv_goto (tgt := 186) hx hb dX3_free_182 (by decide) ?_
                        refine z_add hx hb (z := ((rk : Nat) : Int) + 0) dX3_free_186 rfl ?_
                        refine z_top (b := ((rk + 0 : Nat) : Int)) (by omega) ?_
                        refine lv_istore (lv' := [(5, .int (iI ((rk + 0 : Nat) : Int))), (8, .int (iI (((at_ : Nat) : Int) - 1))), (7, .int (iI ((k : Nat) : Int))), (6, .ref q1), (4, .int (iI ((n : Nat) : Int))), (0, .ref (μ (0, 0, 0))), (1, .ref q), (2, .ref wy), (3, .int (iI 0))]) hx hb dX3_free_187 hl (by decide) rfl (fun ls hl => ?_)
                        refine z_iinc (z := ((k + 1 : Nat) : Int)) (lv' := [(7, .int (iI ((k + 1 : Nat) : Int))), (5, .int (iI ((rk + 0 : Nat) : Int))), (8, .int (iI (((at_ : Nat) : Int) - 1))), (6, .ref q1), (4, .int (iI ((n : Nat) : Int))), (0, .ref (μ (0, 0, 0))), (1, .ref q), (2, .ref wy), (3, .int (iI 0))]) hx hb dX3_free_189 hl (k := 2) rfl (by omega) (by decide) rfl (fun ls hl => ?_)
                        refine lv_goto (tgt := 16) hx hb dX3_free_192 (by decide) ?_
                        exact W.widen (by omega) (by omega) (ihlp3 (n - (k + 1)) (by omega) (k + 1) g (rk + 0) C2 W2 rfl (by omega) hA2 hB3 (by simp only [cnt]; rw [hcc, ← hrk, if_pos (by omega)]) _ _ _  hP hD hS (lv_sub hl [0, 3, 1, 4, 5, 6, 7, 8] rfl))
                    · refine lv_iload_n hx hb dX3_free_163 rfl (lv_at hl 8 rfl) ?_
                      refine z_zeq (tgt := 170) hx hb dX3_free_164 (by decide) (by omega) (fun c16 => ?_) (fun c16 => ?_)
                      · refine lv_iload hx hb dX3_free_170 (lv_at hl 3 rfl) ?_
                        refine lv_aload hx hb dX3_free_172 (lv_at hl 2 rfl) ?_
                        refine lv_iload hx hb dX3_free_174 (lv_at hl 1 rfl) ?_
                        refine z_iald hC (hP 1 _ rfl) (k := k) rfl (by omega) (y := g k) rfl dX3_free_176 ?_
                        refine lv_iconst (v := iI (-1)) hx hb dX3_free_177 rfl ?_
                        have hcl := cnt_le f k
                        have hcc : cnt g k = cnt f k := cnt_congr (fun c hc => by rw [hg c (by omega), if_neg (by omega)])
                        refine z_cne (tgt := 185) hx hb dX3_free_178 (by decide) (by omega) (fun c17 => ?_) (fun c17 => ?_)
                        · refine lv_iconst (v := iI 1) hx hb dX3_free_185 rfl ?_
                          refine z_add hx hb (z := ((rk : Nat) : Int) + 1) dX3_free_186 rfl ?_
                          refine z_top (b := ((rk + 1 : Nat) : Int)) (by omega) ?_
                          refine lv_istore (lv' := [(5, .int (iI ((rk + 1 : Nat) : Int))), (8, .int (iI (((at_ : Nat) : Int) - 1))), (7, .int (iI ((k : Nat) : Int))), (6, .ref q1), (4, .int (iI ((n : Nat) : Int))), (0, .ref (μ (0, 0, 0))), (1, .ref q), (2, .ref wy), (3, .int (iI 0))]) hx hb dX3_free_187 hl (by decide) rfl (fun ls hl => ?_)
                          refine z_iinc (z := ((k + 1 : Nat) : Int)) (lv' := [(7, .int (iI ((k + 1 : Nat) : Int))), (5, .int (iI ((rk + 1 : Nat) : Int))), (8, .int (iI (((at_ : Nat) : Int) - 1))), (6, .ref q1), (4, .int (iI ((n : Nat) : Int))), (0, .ref (μ (0, 0, 0))), (1, .ref q), (2, .ref wy), (3, .int (iI 0))]) hx hb dX3_free_189 hl (k := 2) rfl (by omega) (by decide) rfl (fun ls hl => ?_)
                          refine lv_goto (tgt := 16) hx hb dX3_free_192 (by decide) ?_
                          exact W.widen (by omega) (by omega) (ihlp3 (n - (k + 1)) (by omega) (k + 1) g (rk + 1) C2 W2 rfl (by omega) hA2 hB3 (by simp only [cnt]; rw [hcc, ← hrk, if_neg (by omega)]) _ _ _  hP hD hS (lv_sub hl [0, 3, 1, 4, 5, 6, 7, 8] rfl))
                        · refine lv_iconst (v := iI 0) hx hb dX3_free_181 rfl ?_
                          refine lv_goto (tgt := 186) hx hb dX3_free_182 (by decide) ?_
                          refine z_add hx hb (z := ((rk : Nat) : Int) + 0) dX3_free_186 rfl ?_
                          refine z_top (b := ((rk + 0 : Nat) : Int)) (by omega) ?_
                          refine lv_istore (lv' := [(5, .int (iI ((rk + 0 : Nat) : Int))), (8, .int (iI (((at_ : Nat) : Int) - 1))), (7, .int (iI ((k : Nat) : Int))), (6, .ref q1), (4, .int (iI ((n : Nat) : Int))), (0, .ref (μ (0, 0, 0))), (1, .ref q), (2, .ref wy), (3, .int (iI 0))]) hx hb dX3_free_187 hl (by decide) rfl (fun ls hl => ?_)
                          refine z_iinc (z := ((k + 1 : Nat) : Int)) (lv' := [(7, .int (iI ((k + 1 : Nat) : Int))), (5, .int (iI ((rk + 0 : Nat) : Int))), (8, .int (iI (((at_ : Nat) : Int) - 1))), (6, .ref q1), (4, .int (iI ((n : Nat) : Int))), (0, .ref (μ (0, 0, 0))), (1, .ref q), (2, .ref wy), (3, .int (iI 0))]) hx hb dX3_free_189 hl (k := 2) rfl (by omega) (by decide) rfl (fun ls hl => ?_)
                          refine lv_goto (tgt := 16) hx hb dX3_free_192 (by decide) ?_
                          exact W.widen (by omega) (by omega) (ihlp3 (n - (k + 1)) (by omega) (k + 1) g (rk + 0) C2 W2 rfl (by omega) hA2 hB3 (by simp only [cnt]; rw [hcc, ← hrk, if_pos (by omega)]) _ _ _  hP hD hS (lv_sub hl [0, 3, 1, 4, 5, 6, 7, 8] rfl))
                      · omega
                  · obtain ⟨a1, ea⟩ : ∃ a1, at_ = a1 + 1 := ⟨at_ - 1, by omega⟩
                    subst ea
                    rw [show (((a1 + 1 : Nat) : Int) - 1) = (a1 : Int) by omega] at hl
                    have hck := (hA2 k (by omega)).2.1 a1 (by omega)
                    refine lv_aload_n hx hb dX3_free_131 rfl (lv_at hl 6 rfl) ?_
                    refine lv_iload hx hb dX3_free_132 (lv_at hl 1 rfl) ?_
                    refine z_aald hC (hP 0 _ rfl) (k := k) rfl (by omega) (q := (ro k)) rfl dX3_free_134 ?_
                    refine lv_iload hx hb dX3_free_135 (lv_at hl 0 rfl) ?_
                    refine z_iald hC (hP (2 + k) _ (zR_at (L := 2) rfl (by omega))) (k := a1) rfl (by omega) (y := (C2 k) a1) rfl dX3_free_137 ?_
                    refine z_zle (tgt := 148) hx hb dX3_free_138 (by decide) (by omega) (fun c18 => ?_) (fun c18 => ?_)
                    · refine z_iinc (z := ((a1 : Nat) : Int) - 1) (lv' := [(8, .int (iI (((a1 : Nat) : Int) - 1))), (7, .int (iI ((k : Nat) : Int))), (6, .ref q1), (5, .int (iI ((rk : Nat) : Int))), (4, .int (iI ((n : Nat) : Int))), (0, .ref (μ (0, 0, 0))), (1, .ref q), (2, .ref wy), (3, .int (iI 0))]) hx hb dX3_free_148 hl (k := 0) rfl (by omega) (by decide) rfl (fun ls hl => ?_)
                      refine lv_goto (tgt := 126) hx hb dX3_free_151 (by decide) ?_
                      exact W.widen (by omega) (by omega) (ihlp11 (a1) (by omega) a1 g fk rfl (by omega) hg (⟨by omega, fun e i h1 h2 => by by_cases e2 : i = a1; (subst e2; omega); exact hfk.2.1 e i (by omega) h2, hfk.2.2⟩) _ _ _  hP hD hS hl)
                    · refine lv_aload hx hb dX3_free_141 (lv_at hl 2 rfl) ?_
                      refine lv_iload hx hb dX3_free_143 (lv_at hl 1 rfl) ?_
                      refine lv_iload hx hb dX3_free_145 (lv_at hl 0 rfl) ?_
                      refine z_iast hC hP hD hS 1 (k := k) rfl rfl (by omega) (ws' := [(q, zII G n (fun i => some (ro i))), (q1, zI G n (va_up g k ((a1 : Nat) : Int)))] ++ (zRows G n n ro C2 ++ [])) rfl dX3_free_147 (fun H19 locs hP hD hS => ?_)
                      refine z_iinc (z := ((a1 : Nat) : Int) - 1) (lv' := [(8, .int (iI (((a1 : Nat) : Int) - 1))), (7, .int (iI ((k : Nat) : Int))), (6, .ref q1), (5, .int (iI ((rk : Nat) : Int))), (4, .int (iI ((n : Nat) : Int))), (0, .ref (μ (0, 0, 0))), (1, .ref q), (2, .ref wy), (3, .int (iI 0))]) hx hb dX3_free_148 hl (k := 0) rfl (by omega) (by decide) rfl (fun ls hl => ?_)
                      refine lv_goto (tgt := 126) hx hb dX3_free_151 (by decide) ?_
                      exact W.widen (by omega) (by omega) (ihlp11 (a1) (by omega) a1 (va_up g k ((a1 : Nat) : Int)) (a1 : Int) rfl (by omega) (fun c hc => by by_cases e : c = k; (subst e; rw [va_up_self, if_pos rfl]); (rw [va_up_ne _ _ e, if_neg e, hg c hc, if_neg e])) (⟨by omega, fun e => absurd e (by omega), fun _ => by show C2 k ((a1 : Int)).toNat ≠ 0; rw [show ((a1 : Int)).toNat = a1 by omega]; omega⟩) _ _ _  hP hD hS hl)
              exact W.widen (by omega) (by omega) (lp11 _ n (va_up f k (-1)) (-1) rfl (Nat.le_refl _) (fun c hc => by by_cases e : c = k; (subst e; rw [va_up_self, if_pos rfl]); (rw [va_up_ne _ _ e, if_neg e])) (⟨Or.inl rfl, fun _ i h1 h2 => by omega, fun e => absurd rfl e⟩) _ _ _  hP hD hS hl)
            · have hfr := hB2.1 r (by omega)
              have hfb : -1 ≤ f r ∧ f r < 16 := by omega
              refine lv_aload hx hb dX3_free_33 (lv_at hl 2 rfl) ?_
              refine lv_iload hx hb dX3_free_35 (lv_at hl 0 rfl) ?_
              refine z_iald hC (hP 1 _ rfl) (k := r) rfl (by omega) (y := f r) rfl dX3_free_37 ?_
              refine lv_iconst (v := iI (-1)) hx hb dX3_free_38 rfl ?_
              refine z_cne (tgt := 45) hx hb dX3_free_39 (by decide) (by omega) (fun c20 => ?_) (fun c20 => ?_)
              · obtain ⟨fr, hfr2⟩ : ∃ fr : Nat, f r = fr := ⟨(f r).toNat, by omega⟩
                have hfrn : fr < n := by omega
                have hC9 : ∀ c, c < n → rw_ok (St_p σ) n (C2 c) := fun c hc => (hA2 c hc).2.1
                have hW9 : ∀ c, c < n → rw_ok (St_p σ) n (W2 c) := fun c hc => (hA2 c hc).1.2.2
                have hck := hC9 k (by omega) fr hfrn
                have hcr := hC9 r (by omega) fr hfrn
                have hcz : C2 r fr ≠ 0 := by have h9 := hB2.2.2.1 r (by omega) (by omega); rw [hfr2] at h9; exact h9
                have hcm : C2 r fr % St_p σ ≠ 0 := by rw [md_le hp hcr]; exact hcz
                have hi9 := iv_ex hp hcm
                have ge9 : ∀ (i : Nat) (x : Nat × va_E), ([(q, zII G n (fun i => some (ro i))), (q1, zI G n f)] ++ (zRows G n n ro C2 ++ []))[i]? = some x → s0.heap.size ≤ x.1 := fun i x hx => (hD.2 i x hx).elim (fun w => hMo _ w) (fun w => Nat.le_trans hO.1 w)
                have na9 : ∀ (i : Nat) (x : Nat × va_E), ([(q, zII G n (fun i => some (ro i))), (q1, zI G n f)] ++ (zRows G n n ro C2 ++ []))[i]? = some x → ∀ c, dmMo σ c → μ c ≠ G.2 12 → μ c ≠ x.1 := fun i x hx c hc h12 e => (hD.2 i x hx).elim (fun w => hnm9 c hc h12 (e ▸ w)) (fun w => by have := hh.lt hE hO c hc; omega)
                refine lv_aload_n hx hb dX3_free_45 rfl (lv_at hl 5 rfl) ?_
                refine lv_aload_n hx hb dX3_free_46 rfl (lv_at hl 6 rfl) ?_
                refine lv_iload hx hb dX3_free_47 (lv_at hl 1 rfl) ?_
                refine z_aald hC (hP 0 _ rfl) (k := k) rfl (by omega) (q := (ro k)) rfl dX3_free_49 ?_
                refine lv_aload hx hb dX3_free_50 (lv_at hl 2 rfl) ?_
                refine lv_iload hx hb dX3_free_52 (lv_at hl 0 rfl) ?_
                refine z_iald hC (hP 1 _ rfl) (k := r) rfl (by omega) (y := f r) rfl dX3_free_54 ?_
                refine z_top (b := ((fr : Nat) : Int)) (hfr2) ?_
                refine z_iald hC (hP (2 + k) _ (zR_at (L := 2) rfl (by omega))) (k := fr) rfl (by omega) (y := (C2 k) fr) rfl dX3_free_55 ?_
                refine lv_aload_n hx hb dX3_free_56 rfl (lv_at hl 5 rfl) ?_
                refine lv_aload_n hx hb dX3_free_57 rfl (lv_at hl 6 rfl) ?_
                refine lv_iload hx hb dX3_free_58 (lv_at hl 0 rfl) ?_
                refine z_aald hC (hP 0 _ rfl) (k := r) rfl (by omega) (q := (ro r)) rfl dX3_free_60 ?_
                refine lv_aload hx hb dX3_free_61 (lv_at hl 2 rfl) ?_
                refine lv_iload hx hb dX3_free_63 (lv_at hl 0 rfl) ?_
                refine z_iald hC (hP 1 _ rfl) (k := r) rfl (by omega) (y := f r) rfl dX3_free_65 ?_
                refine z_top (b := ((fr : Nat) : Int)) (hfr2) ?_
                refine z_iald hC (hP (2 + r) _ (zR_at (L := 2) rfl (by omega))) (k := fr) rfl (by omega) (y := (C2 r) fr) rfl dX3_free_66 ?_
                have hH1 : HM G s0 μ σ th H8 := hh.ext hE (zS_F hS) hnm9
                refine z_go 1 16 (z_runV (As := [.int (iI ((C2 r) fr))]) (rest := [.int (iI ((C2 k) fr)), .ref (μ (0, 0, 0))]) hC hml hl.1 (m_X3_inverse hE H8 (hO.ext (zS_F hS) hMo) (μ (0, 0, 0)) (μ (1, 0, 0)) (μ (3, 0, 0)) th (St_p σ) (St_kn σ) (C2 r fr) hH1.2.2.1.1 hp hcm (by omega)) (lw_V q1726 q1728 qs41 q67 q1729) rfl nd_X3_inverse rfl (z_rv hC (ci := 2) rfl hH1.2.2.1.1 rfl) rfl (Nat.le_of_ble_eq_true rfl) ⟨Nat.le_of_ble_eq_true rfl, Nat.le_of_ble_eq_true rfl⟩ ⟨zfit (k := 0) (z := 1) rfl rfl (by omega), zfit (k := 0) (z := 16) rfl rfl (by omega)⟩ dX3_free_67) ⟨zad (k := 0) rfl (by omega), zad (k := 0) rfl (by omega)⟩ hS (fun _ z => z.elim) (fun r H21 locs hp hF hS1 => ?_)
                obtain ⟨_, rfl, rfl⟩ := hp
                have hP := zpk hP hF
                have hP : va_P G.1 zCl ([(q, zII G n (fun i => some (ro i))), (q1, zI G n f)] ++ (zRows G n n ro C2 ++ [])) H21 := hP
                have hD : va_D (zA (fun z => ∃ e, (z, e) ∈ ([(q, zII G n (fun i => some (ro i)))] ++ (zRows G n n ro F ++ []))) H0) ([(q, zII G n (fun i => some (ro i))), (q1, zI G n f)] ++ (zRows G n n ro C2 ++ [])) := hD
                have hS := hS1
                have hb9 := zmul6 (k := ivS (St_p σ) (C2 r fr)) (z := C2 k fr) (w := 6) ⟨hi9.2.1, hi9.2.2.1⟩ (by omega)
                have hb8 : C2 k fr * ivS (St_p σ) (C2 r fr) = ivS (St_p σ) (C2 r fr) * C2 k fr := Int.mul_comm _ _
                refine z_mul hx hb (z := ((C2 k) fr) * (ivS (St_p σ) (C2 r fr))) dX3_free_70 rfl ?_
                have hH1 : HM G s0 μ σ th H21 := hh.ext hE (zS_F hS) hnm9
                refine z_go 1 16 (z_runV (As := [.int (iI (((C2 k) fr) * (ivS (St_p σ) (C2 r fr))))]) (rest := []) hC hml hl.1 (m_X3_mod hE H21 (hO.ext (zS_F hS) hMo) (μ (0, 0, 0)) (μ (1, 0, 0)) (μ (3, 0, 0)) th (St_p σ) (St_kn σ) (C2 k fr * ivS (St_p σ) (C2 r fr)) hH1.2.2.1.1 hp (by omega)) (lw_V q1670 q1621 qs33 q67 q1622) rfl nd_X3_mod rfl (z_rv hC (ci := 2) rfl hH1.2.2.1.1 rfl) rfl (Nat.le_of_ble_eq_true rfl) ⟨Nat.le_of_ble_eq_true rfl, Nat.le_of_ble_eq_true rfl⟩ ⟨zfit (k := 0) (z := 1) rfl rfl (by omega), zfit (k := 0) (z := 16) rfl rfl (by omega)⟩ dX3_free_71) ⟨zad (k := 0) rfl (by omega), zad (k := 0) rfl (by omega)⟩ hS (fun _ z => z.elim) (fun r H22 locs hp hF hS1 => ?_)
                obtain ⟨_, rfl, rfl⟩ := hp
                have hP := zpk hP hF
                have hP : va_P G.1 zCl ([(q, zII G n (fun i => some (ro i))), (q1, zI G n f)] ++ (zRows G n n ro C2 ++ [])) H22 := hP
                have hD : va_D (zA (fun z => ∃ e, (z, e) ∈ ([(q, zII G n (fun i => some (ro i)))] ++ (zRows G n n ro F ++ []))) H0) ([(q, zII G n (fun i => some (ro i))), (q1, zI G n f)] ++ (zRows G n n ro C2 ++ [])) := hD
                have hS := hS1
                have htm := md_in hp (C2 k fr * ivS (St_p σ) (C2 r fr))
                obtain ⟨t9, ht9⟩ : ∃ t9 : Int, (C2 k fr * ivS (St_p σ) (C2 r fr)) % St_p σ = t9 := ⟨_, rfl⟩
                refine z_top (b := t9) (ht9) ?_
                rw [ht9] at htm
                refine lv_istore (lv' := [(9, .int (iI t9)), (8, .int (iI ((r : Nat) : Int))), (7, .int (iI ((k : Nat) : Int))), (6, .ref q1), (5, .int (iI ((rk : Nat) : Int))), (4, .int (iI ((n : Nat) : Int))), (0, .ref (μ (0, 0, 0))), (1, .ref q), (2, .ref wy), (3, .int (iI 0))]) hx hb dX3_free_74 hl (by decide) rfl (fun ls hl => ?_)
                refine lv_aload_n hx hb dX3_free_76 rfl (lv_at hl 6 rfl) ?_
                refine lv_aload_n hx hb dX3_free_77 rfl (lv_at hl 7 rfl) ?_
                refine lv_iload hx hb dX3_free_78 (lv_at hl 2 rfl) ?_
                refine z_aald hC (hP 0 _ rfl) (k := k) rfl (by omega) (q := (ro k)) rfl dX3_free_80 ?_
                refine lv_aload_n hx hb dX3_free_81 rfl (lv_at hl 7 rfl) ?_
                refine lv_iload hx hb dX3_free_82 (lv_at hl 1 rfl) ?_
                refine z_aald hC (hP 0 _ rfl) (k := r) rfl (by omega) (q := (ro r)) rfl dX3_free_84 ?_
                refine lv_iload hx hb dX3_free_85 (lv_at hl 0 rfl) ?_
                have hH1 : HM G s0 μ σ th H22 := hh.ext hE (zS_F hS) hnm9
                have hA1 := hD.2 (2 + k) _ (zR_at (L := 2) rfl (by omega))
                refine z_go 1 16 (z_runV (As := [.ref (ro k), .ref (ro r), .int (iI t9)]) (rest := []) hC hml hl.1 (m_X3_less hE H22 (hO.ext (zS_F hS) hMo) μ σ th (ro k) (ro r) n (C2 k) (C2 r) (t9) hH1 (hP (2 + k) _ (zR_at (L := 2) rfl (by omega))) (hP (2 + r) _ (zR_at (L := 2) rfl (by omega))) ⟨ge9 (2 + k) _ (zR_at (L := 2) rfl (by omega)), fun e => absurd (hD.1 (2 + r) (2 + k) _ _ (zR_at (L := 2) rfl (by omega)) (zR_at (L := 2) rfl (by omega)) e) (by omega)⟩ ⟨hC9 k (by omega), hC9 r (by omega), hn.2⟩ (by omega) (fun c hc h12 e => na9 (2 + k) _ (zR_at (L := 2) rfl (by omega)) c hc h12 e)) (lw_V q1753 q1755 qs45 q67 q1756) rfl nd_X3_less rfl (z_rv hC (ci := 2) rfl hH1.2.2.1.1 rfl) rfl (Nat.le_of_ble_eq_true rfl) ⟨Nat.le_of_ble_eq_true rfl, Nat.le_of_ble_eq_true rfl⟩ ⟨zfit (k := 0) (z := 1) rfl rfl (by omega), zfit (k := 0) (z := 16) rfl rfl (by omega)⟩ dX3_free_87) ⟨zad (k := 0) rfl (by omega), zad (k := 0) rfl (by omega)⟩ hS (fun z hz => by subst hz; exact hD.2 (2 + k) _ (zR_at (L := 2) rfl (by omega))) (fun r H23 locs hp hF hS1 => ?_)
                obtain ⟨rfl, hm9⟩ := hp
                obtain ⟨hP, hD⟩ := zjm hP hD hF (2 + k) (zR_at (L := 2) rfl (by omega)) hm9
                rw [zR_set (L := 2) rfl (by omega)] at hP hD
                have hP : va_P G.1 zCl ([(q, zII G n (fun i => some (ro i))), (q1, zI G n f)] ++ (zRows G n n ro (upR C2 k (ltV (St_p σ) (t9) (C2 k) (C2 r))) ++ [])) H23 := hP
                have hD : va_D (zA (fun z => ∃ e, (z, e) ∈ ([(q, zII G n (fun i => some (ro i)))] ++ (zRows G n n ro F ++ []))) H0) ([(q, zII G n (fun i => some (ro i))), (q1, zI G n f)] ++ (zRows G n n ro (upR C2 k (ltV (St_p σ) (t9) (C2 k) (C2 r))) ++ [])) := hD
                have hS := hS1
                refine lv_iload_n hx hb dX3_free_90 rfl (lv_at hl 9 rfl) ?_
                refine z_zeq (tgt := 108) hx hb dX3_free_91 (by decide) (by omega) (fun c24 => ?_) (fun c24 => ?_)
                · refine z_iinc (z := ((r + 1 : Nat) : Int)) (lv' := [(8, .int (iI ((r + 1 : Nat) : Int))), (9, .int (iI t9)), (7, .int (iI ((k : Nat) : Int))), (6, .ref q1), (5, .int (iI ((rk : Nat) : Int))), (4, .int (iI ((n : Nat) : Int))), (0, .ref (μ (0, 0, 0))), (1, .ref q), (2, .ref wy), (3, .int (iI 0))]) hx hb dX3_free_108 hl (k := 1) rfl (by omega) (by decide) rfl (fun ls hl => ?_)
                  refine lv_goto (tgt := 26) hx hb dX3_free_111 (by decide) ?_
                  exact W.widen (by omega) (by omega) (ihlp7 (k - (r + 1)) (by omega) (r + 1) (upR C2 k (ltV (St_p σ) t9 (C2 k) (C2 r))) (upR W2 k (ltV (St_p σ) t9 (W2 k) (W2 r))) rfl (by omega) (fcA.step hp hA2 (by omega) (by omega)) (fcB.frame hB2) (by have h9 := fcD.step hp hDk hB2 hC9 (by omega) (by omega) (by omega : f r ≠ -1); rw [hfr2] at h9; rw [← ht9]; exact h9) _ _ _  hP hD hS (lv_sub hl [0, 2, 3, 4, 5, 6, 7, 8, 9] rfl))
                · omega
              · refine lv_goto (tgt := 108) hx hb dX3_free_42 (by decide) ?_
                refine z_iinc (z := ((r + 1 : Nat) : Int)) (lv' := [(8, .int (iI ((r + 1 : Nat) : Int))), (7, .int (iI ((k : Nat) : Int))), (6, .ref q1), (5, .int (iI ((rk : Nat) : Int))), (4, .int (iI ((n : Nat) : Int))), (0, .ref (μ (0, 0, 0))), (1, .ref q), (2, .ref wy), (3, .int (iI 0))]) hx hb dX3_free_108 hl (k := 0) rfl (by omega) (by decide) rfl (fun ls hl => ?_)
                refine lv_goto (tgt := 26) hx hb dX3_free_111 (by decide) ?_
                exact W.widen (by omega) (by omega) (ihlp7 (k - (r + 1)) (by omega) (r + 1) C2 W2 rfl (by omega) hA2 hB2 (hDk.skip (by omega)) _ _ _  hP hD hS hl)
        exact W.widen (by omega) (by omega) (lp7 _ 0 C Ww rfl (Nat.zero_le _) hA hB (fun s hs => absurd hs (Nat.not_lt_zero s)) _ _ _  hP hD hS hl)
  exact W.widen (by omega) (by omega) (lp3 _ 0 (fun _ => 0) 0 F eyeV rfl (Nat.zero_le _) (fcA.start hp hFr hFM) fcB.zero rfl _ _ _  hP hD hS hl)

abbrev rm_m_X3_free_1 : Room := { frames := 2, cells := 1, slots := 16, locals := 45 }
set_option maxHeartbeats 4000000 in
theorem m_X3_free_1 {l : Launch} {s0 : State} {G : zG} (hE : zE l s0 G) (H0 : Heap) (hO : zO s0 H0) (μ : Ro → Nat) (σ : St) (th : Int) (q n : Nat) (ro : Nat → Nat) (F M : Nat → Nat → Int) (wy : Nat) (rw : Nat → Nat) (hh : HM G s0 μ σ th H0) (hn : 1 ≤ n ∧ n ≤ 16) (hP0 : va_P G.1 zCl ([(q, zII G n (fun i => some (ro i))), (wy, zII G n (fun i => some (rw i)))] ++ (zRows G n n ro F ++ (zRows G n n rw eyeV ++ []))) H0) (hD0 : va_D (fun z => s0.heap.size ≤ z ∧ ∀ c, dmMo σ c → μ c ≠ G.2 12 → μ c ≠ z) ([(q, zII G n (fun i => some (ro i))), (wy, zII G n (fun i => some (rw i)))] ++ (zRows G n n ro F ++ (zRows G n n rw eyeV ++ [])))) (hFr : ∀ c, c < n → rw_ok (St_p σ) n (F c)) (hFM : ∀ c i, c < n → i < n → F c i = M i c) : zM l s0 yX3_free cX3_free 10 (some FieldType.int) rm_m_X3_free_1 [.ref (μ (0, 0, 0)), .ref q, .ref wy, .int (iI 1)] H0 (fun z => ∃ e, (z, e) ∈ ([(q, zII G n (fun i => some (ro i))), (wy, zII G n (fun i => some (rw i)))] ++ (zRows G n n ro F ++ (zRows G n n rw eyeV ++ [])))) (ri (fun y h1 => (y = n ∧ ∀ c, c < n → ¬ freeCol (St_p σ) n M c) ∨ ∃ (c : Nat) (w : Nat → Int), y = c ∧ KIL (St_p σ) n M c w ∧ zAt G (rw c) (zI G n w) h1 ∧ zAt G wy (zII G n (fun i => some (rw i))) h1)) := by
  refine z_met hE (by decide +kernel) (Nat.le_of_ble_eq_true rfl) ?_
  intro pp ee ss mm args below meth cd Q ls hC hml hrt hlk hnm hH hQ hS hl
  have hx := hC.x
  have hb := hC.b
  have hl : lv_has ls 10 [(0, .ref (μ (0, 0, 0))), (1, .ref q), (2, .ref wy), (3, .int (iI 1))] := hl
  have hP : va_P G.1 zCl ([(q, zII G n (fun i => some (ro i))), (wy, zII G n (fun i => some (rw i)))] ++ (zRows G n n ro F ++ (zRows G n n rw eyeV ++ []))) H0 := hP0
  have hD : va_D (zA (fun z => ∃ e, (z, e) ∈ ([(q, zII G n (fun i => some (ro i))), (wy, zII G n (fun i => some (rw i)))] ++ (zRows G n n ro F ++ (zRows G n n rw eyeV ++ [])))) H0) ([(q, zII G n (fun i => some (ro i))), (wy, zII G n (fun i => some (rw i)))] ++ (zRows G n n ro F ++ (zRows G n n rw eyeV ++ []))) := va_D.weaken hD0 (fun k x hx _ => Or.inl ⟨x.2, List.mem_of_getElem? hx⟩)
  have hMo : ∀ z, (fun z => ∃ e, (z, e) ∈ ([(q, zII G n (fun i => some (ro i))), (wy, zII G n (fun i => some (rw i)))] ++ (zRows G n n ro F ++ (zRows G n n rw eyeV ++ [])))) z → s0.heap.size ≤ z := fun z hz => by obtain ⟨e, he⟩ := hz; obtain ⟨i, hi⟩ := List.mem_iff_getElem?.mp he; exact (hD0.2 i _ hi).1
  have hnm9 : ∀ a, dmMo σ a → μ a ≠ G.2 12 → ¬ (fun z => ∃ e, (z, e) ∈ ([(q, zII G n (fun i => some (ro i))), (wy, zII G n (fun i => some (rw i)))] ++ (zRows G n n ro F ++ (zRows G n n rw eyeV ++ [])))) (μ a) := fun a ha h12 hz => by obtain ⟨e, he⟩ := hz; obtain ⟨i, hi⟩ := List.mem_iff_getElem?.mp he; exact (hD0.2 i _ hi).2 a ha h12 rfl
  obtain ⟨hp, hna, hal, hne9, hel9, hmr9⟩ := id hh.ok
  have hp7 : 0 < St_p σ ∧ St_p σ ≤ 7 := by rcases hp with h | h | h <;> rw [h] <;> decide
  refine lv_aload_n hx hb dX3_free_0 rfl (lv_at hl 1 rfl) ?_
  refine z_alen hC 4 (hP 0 _ rfl) rfl (y := ((n : Nat) : Int)) rfl dX3_free_1 ?_
  refine lv_istore (lv' := [(4, .int (iI ((n : Nat) : Int))), (0, .ref (μ (0, 0, 0))), (1, .ref q), (2, .ref wy), (3, .int (iI 1))]) hx hb dX3_free_2 hl (by decide) rfl (fun ls hl => ?_)
  refine lv_iconst (v := iI 0) hx hb dX3_free_4 rfl ?_
  refine lv_istore (lv' := [(5, .int (iI 0)), (4, .int (iI ((n : Nat) : Int))), (0, .ref (μ (0, 0, 0))), (1, .ref q), (2, .ref wy), (3, .int (iI 1))]) hx hb dX3_free_5 hl (by decide) rfl (fun ls hl => ?_)
  refine lv_iload hx hb dX3_free_7 (lv_at hl 1 rfl) ?_
  refine z_newi hC hP hD hS (N := n) (c1 := 1) (s1 := 16) rfl (by omega) ⟨zle (z := 1) rfl (by omega), zle (z := 16) rfl (by omega)⟩ ⟨by omega, by omega⟩ (ws' := fun q1 => ([(q, zII G n (fun i => some (ro i))), (wy, zII G n (fun i => some (rw i)))] ++ (zRows G n n ro F ++ (zRows G n n rw eyeV ++ []))) ++ [(q1, zI G n (fun _ => 0))]) (fun _ => rfl) dX3_free_9 (fun q1 H2 hq0q1 hq1q1 hP hD hS hF => ?_)
  have hP : va_P G.1 zCl ([(q, zII G n (fun i => some (ro i))), (wy, zII G n (fun i => some (rw i))), (q1, zI G n (fun _ => 0))] ++ (zRows G n n ro F ++ (zRows G n n rw eyeV ++ []))) H2 := zswapP hP
  have hD : va_D (zA (fun z => ∃ e, (z, e) ∈ ([(q, zII G n (fun i => some (ro i))), (wy, zII G n (fun i => some (rw i)))] ++ (zRows G n n ro F ++ (zRows G n n rw eyeV ++ [])))) H0) ([(q, zII G n (fun i => some (ro i))), (wy, zII G n (fun i => some (rw i))), (q1, zI G n (fun _ => 0))] ++ (zRows G n n ro F ++ (zRows G n n rw eyeV ++ []))) := zswapD hD
  refine lv_astore (lv' := [(6, .ref q1), (5, .int (iI 0)), (4, .int (iI ((n : Nat) : Int))), (0, .ref (μ (0, 0, 0))), (1, .ref q), (2, .ref wy), (3, .int (iI 1))]) hx hb dX3_free_11 hl (by decide) rfl (fun ls hl => ?_)
  refine lv_iconst (v := iI 0) hx hb dX3_free_13 rfl ?_
  refine lv_istore (lv' := [(7, .int (iI 0)), (6, .ref q1), (5, .int (iI 0)), (4, .int (iI ((n : Nat) : Int))), (0, .ref (μ (0, 0, 0))), (1, .ref q), (2, .ref wy), (3, .int (iI 1))]) hx hb dX3_free_14 hl (by decide) rfl (fun ls hl => ?_)
  have lp3 : ∀ (dlp3 : Nat) (k : Nat) (f : Nat → Int) (rk : Nat) (C : Nat → Nat → Int) (Ww : Nat → Nat → Int), n - k = dlp3 → (k ≤ n) → (fcA (St_p σ) n M C Ww) → (fcB n C f k) → (rk = cnt f k) → (∀ c, c < k → f c ≠ -1) → ∀ (H4 : Heap) (locs : List Loc) (ls : Array Slot), va_P G.1 zCl ([(q, zII G n (fun i => some (ro i))), (wy, zII G n (fun i => some (rw i))), (q1, zI G n f)] ++ (zRows G n n ro C ++ (zRows G n n rw Ww ++ []))) H4 → va_D (zA (fun z => ∃ e, (z, e) ∈ ([(q, zII G n (fun i => some (ro i))), (wy, zII G n (fun i => some (rw i)))] ++ (zRows G n n ro F ++ (zRows G n n rw eyeV ++ [])))) H0) ([(q, zII G n (fun i => some (ro i))), (wy, zII G n (fun i => some (rw i))), (q1, zI G n f)] ++ (zRows G n n ro C ++ (zRows G n n rw Ww ++ []))) → va_S (zA (fun z => ∃ e, (z, e) ∈ ([(q, zII G n (fun i => some (ro i))), (wy, zII G n (fun i => some (rw i)))] ++ (zRows G n n ro F ++ (zRows G n n rw eyeV ++ [])))) H0) H0 H4 locs → lv_has ls 10 [(7, .int (iI ((k : Nat) : Int))), (6, .ref q1), (5, .int (iI ((rk : Nat) : Int))), (4, .int (iI ((n : Nat) : Int))), (0, .ref (μ (0, 0, 0))), (1, .ref q), (2, .ref wy), (3, .int (iI 1))] → W pp l ee rm_m_X3_free_1 ss mm args below meth cd H4 locs 1 16 Q (F0 mm 16 ls []) := by
    intro dlp3
    induction dlp3 using Nat.strongRecOn with
    | ind dlp3 ihlp3 =>
      intro k f rk C Ww hdlp3 hk hA hB hrk hno H4 locs ls  hP hD hS hl
      refine lv_iload hx hb dX3_free_16 (lv_at hl 0 rfl) ?_
      refine lv_iload hx hb dX3_free_18 (lv_at hl 3 rfl) ?_
      refine z_cge (tgt := 195) hx hb dX3_free_20 (by decide) (by omega) (fun c5 => ?_) (fun c5 => ?_)
      · have ek : k = n := by omega
        refine lv_iload_n hx hb dX3_free_195 rfl (lv_at hl 7 rfl) ?_
        refine z_zeq (tgt := 204) hx hb dX3_free_196 (by decide) (by omega) (fun c6 => ?_) (fun c6 => ?_)
        · omega
        · refine lv_iload hx hb dX3_free_199 (lv_at hl 3 rfl) ?_
          refine lv_goto (tgt := 206) hx hb dX3_free_201 (by decide) ?_
          exact z_iret hC hrt hlk hQ hS ⟨zle (z := 1) rfl (by omega), zle (z := 16) rfl (by omega)⟩ ⟨_, rfl, Or.inl ⟨rfl, fun c hc => fcNot hp hA ⟨fun r hr => hB.1 r (by omega), fun r hr => hB.2.1 r (by omega), fun r hr => hB.2.2.1 r (by omega), fun r s hrs hs => hB.2.2.2 r s hrs (by omega)⟩ hc (hno c (by omega))⟩⟩ dX3_free_206
      · refine lv_iconst (v := iI 0) hx hb dX3_free_23 rfl ?_
        refine lv_istore (lv' := [(8, .int (iI 0)), (7, .int (iI ((k : Nat) : Int))), (6, .ref q1), (5, .int (iI ((rk : Nat) : Int))), (4, .int (iI ((n : Nat) : Int))), (0, .ref (μ (0, 0, 0))), (1, .ref q), (2, .ref wy), (3, .int (iI 1))]) hx hb dX3_free_24 hl (by decide) rfl (fun ls hl => ?_)
        have lp7 : ∀ (dlp7 : Nat) (r : Nat) (C2 : Nat → Nat → Int) (W2 : Nat → Nat → Int), k - r = dlp7 → (r ≤ k) → (fcA (St_p σ) n M C2 W2) → (fcB n C2 f k) → (fcD C2 f k r) → ∀ (H8 : Heap) (locs : List Loc) (ls : Array Slot), va_P G.1 zCl ([(q, zII G n (fun i => some (ro i))), (wy, zII G n (fun i => some (rw i))), (q1, zI G n f)] ++ (zRows G n n ro C2 ++ (zRows G n n rw W2 ++ []))) H8 → va_D (zA (fun z => ∃ e, (z, e) ∈ ([(q, zII G n (fun i => some (ro i))), (wy, zII G n (fun i => some (rw i)))] ++ (zRows G n n ro F ++ (zRows G n n rw eyeV ++ [])))) H0) ([(q, zII G n (fun i => some (ro i))), (wy, zII G n (fun i => some (rw i))), (q1, zI G n f)] ++ (zRows G n n ro C2 ++ (zRows G n n rw W2 ++ []))) → va_S (zA (fun z => ∃ e, (z, e) ∈ ([(q, zII G n (fun i => some (ro i))), (wy, zII G n (fun i => some (rw i)))] ++ (zRows G n n ro F ++ (zRows G n n rw eyeV ++ [])))) H0) H0 H8 locs → lv_has ls 10 [(8, .int (iI ((r : Nat) : Int))), (7, .int (iI ((k : Nat) : Int))), (6, .ref q1), (5, .int (iI ((rk : Nat) : Int))), (4, .int (iI ((n : Nat) : Int))), (0, .ref (μ (0, 0, 0))), (1, .ref q), (2, .ref wy), (3, .int (iI 1))] → W pp l ee rm_m_X3_free_1 ss mm args below meth cd H8 locs 1 16 Q (F0 mm 26 ls []) := by
          intro dlp7
          induction dlp7 using Nat.strongRecOn with
          | ind dlp7 ihlp7 =>
            intro r C2 W2 hdlp7 hr hA2 hB2 hDk H8 locs ls  hP hD hS hl
            refine lv_iload hx hb dX3_free_26 (lv_at hl 0 rfl) ?_
            refine lv_iload hx hb dX3_free_28 (lv_at hl 1 rfl) ?_
            refine z_cge (tgt := 114) hx hb dX3_free_30 (by decide) (by omega) (fun c9 => ?_) (fun c9 => ?_)
            · have er : r = k := by omega
              rw [er] at hDk
              refine lv_aload hx hb dX3_free_114 (lv_at hl 2 rfl) ?_
              refine lv_iload hx hb dX3_free_116 (lv_at hl 1 rfl) ?_
              refine lv_iconst (v := iI (-1)) hx hb dX3_free_118 rfl ?_
              refine z_iast hC hP hD hS 2 (k := k) rfl rfl (by omega) (ws' := [(q, zII G n (fun i => some (ro i))), (wy, zII G n (fun i => some (rw i))), (q1, zI G n (va_up f k (-1)))] ++ (zRows G n n ro C2 ++ (zRows G n n rw W2 ++ []))) rfl dX3_free_119 (fun H10 locs hP hD hS => ?_)
              refine lv_iload hx hb dX3_free_120 (lv_at hl 4 rfl) ?_
              refine lv_iconst (v := iI 1) hx hb dX3_free_122 rfl ?_
              refine z_sub hx hb (z := ((n : Nat) : Int) - 1) dX3_free_123 rfl ?_
              refine lv_istore (lv' := [(8, .int (iI (((n : Nat) : Int) - 1))), (7, .int (iI ((k : Nat) : Int))), (6, .ref q1), (5, .int (iI ((rk : Nat) : Int))), (4, .int (iI ((n : Nat) : Int))), (0, .ref (μ (0, 0, 0))), (1, .ref q), (2, .ref wy), (3, .int (iI 1))]) hx hb dX3_free_124 hl (by decide) rfl (fun ls hl => ?_)
              have lp11 : ∀ (dlp11 : Nat) (at_ : Nat) (g : Nat → Int) (fk : Int), at_ = dlp11 → (at_ ≤ n) → (∀ c, c < n → g c = (if c = k then fk else f c)) → ((fk = -1 ∨ (0 ≤ fk ∧ fk < n)) ∧ (fk = -1 → ∀ i, at_ ≤ i → i < n → C2 k i = 0) ∧ (fk ≠ -1 → C2 k fk.toNat ≠ 0)) → ∀ (H12 : Heap) (locs : List Loc) (ls : Array Slot), va_P G.1 zCl ([(q, zII G n (fun i => some (ro i))), (wy, zII G n (fun i => some (rw i))), (q1, zI G n g)] ++ (zRows G n n ro C2 ++ (zRows G n n rw W2 ++ []))) H12 → va_D (zA (fun z => ∃ e, (z, e) ∈ ([(q, zII G n (fun i => some (ro i))), (wy, zII G n (fun i => some (rw i)))] ++ (zRows G n n ro F ++ (zRows G n n rw eyeV ++ [])))) H0) ([(q, zII G n (fun i => some (ro i))), (wy, zII G n (fun i => some (rw i))), (q1, zI G n g)] ++ (zRows G n n ro C2 ++ (zRows G n n rw W2 ++ []))) → va_S (zA (fun z => ∃ e, (z, e) ∈ ([(q, zII G n (fun i => some (ro i))), (wy, zII G n (fun i => some (rw i)))] ++ (zRows G n n ro F ++ (zRows G n n rw eyeV ++ [])))) H0) H0 H12 locs → lv_has ls 10 [(8, .int (iI (((at_ : Nat) : Int) - 1))), (7, .int (iI ((k : Nat) : Int))), (6, .ref q1), (5, .int (iI ((rk : Nat) : Int))), (4, .int (iI ((n : Nat) : Int))), (0, .ref (μ (0, 0, 0))), (1, .ref q), (2, .ref wy), (3, .int (iI 1))] → W pp l ee rm_m_X3_free_1 ss mm args below meth cd H12 locs 1 16 Q (F0 mm 126 ls []) := by
                intro dlp11
                induction dlp11 using Nat.strongRecOn with
                | ind dlp11 ihlp11 =>
                  intro at_ g fk hdlp11 hat hg hfk H12 locs ls  hP hD hS hl
                  refine lv_iload hx hb dX3_free_126 (lv_at hl 0 rfl) ?_
                  refine z_zlt (tgt := 154) hx hb dX3_free_128 (by decide) (by omega) (fun c13 => ?_) (fun c13 => ?_)
                  · have ea : at_ = 0 := by omega
                    have hg9 := hg k (by omega)
                    rw [if_pos rfl] at hg9
                    have hfkb : -1 ≤ fk ∧ fk < 16 := by omega
                    have hB3 : fcB n C2 g (k + 1) := hB2.next hDk (fun c hc => by rw [hg c (by omega), if_neg (by omega)]) (by rw [hg9]; omega) (fun e i hi => hfk.2.1 (by omega) i (by omega) hi) (fun e => by rw [hg9] at e ⊢; exact hfk.2.2 e)
                    have hgb : -1 ≤ g k ∧ g k < 16 := by omega
                    refine lv_aload hx hb dX3_free_154 (lv_at hl 2 rfl) ?_
                    refine lv_iload hx hb dX3_free_156 (lv_at hl 1 rfl) ?_
                    refine z_iald hC (hP 2 _ rfl) (k := k) rfl (by omega) (y := g k) rfl dX3_free_158 ?_
                    refine lv_iconst (v := iI (-1)) hx hb dX3_free_159 rfl ?_
                    refine z_cne (tgt := 170) hx hb dX3_free_160 (by decide) (by omega) (fun c14 => ?_) (fun c14 => ?_)
                    · refine lv_iload hx hb dX3_free_170 (lv_at hl 3 rfl) ?_
                      refine lv_aload hx hb dX3_free_172 (lv_at hl 2 rfl) ?_
                      refine lv_iload hx hb dX3_free_174 (lv_at hl 1 rfl) ?_
                      refine z_iald hC (hP 2 _ rfl) (k := k) rfl (by omega) (y := g k) rfl dX3_free_176 ?_
                      refine lv_iconst (v := iI (-1)) hx hb dX3_free_177 rfl ?_
                      have hcl := cnt_le f k
                      have hcc : cnt g k = cnt f k := cnt_congr (fun c hc => by rw [hg c (by omega), if_neg (by omega)])
                      refine z_cne (tgt := 185) hx hb dX3_free_178 (by decide) (by omega) (fun c15 => ?_) (fun c15 => ?_)
                      · refine lv_iconst (v := iI 1) hx hb dX3_free_185 rfl ?_
                        refine z_add hx hb (z := ((rk : Nat) : Int) + 1) dX3_free_186 rfl ?_
                        refine z_top (b := ((rk + 1 : Nat) : Int)) (by omega) ?_
                        refine lv_istore (lv' := [(5, .int (iI ((rk + 1 : Nat) : Int))), (8, .int (iI (((at_ : Nat) : Int) - 1))), (7, .int (iI ((k : Nat) : Int))), (6, .ref q1), (4, .int (iI ((n : Nat) : Int))), (0, .ref (μ (0, 0, 0))), (1, .ref q), (2, .ref wy), (3, .int (iI 1))]) hx hb dX3_free_187 hl (by decide) rfl (fun ls hl => ?_)
                        refine z_iinc (z := ((k + 1 : Nat) : Int)) (lv' := [(7, .int (iI ((k + 1 : Nat) : Int))), (5, .int (iI ((rk + 1 : Nat) : Int))), (8, .int (iI (((at_ : Nat) : Int) - 1))), (6, .ref q1), (4, .int (iI ((n : Nat) : Int))), (0, .ref (μ (0, 0, 0))), (1, .ref q), (2, .ref wy), (3, .int (iI 1))]) hx hb dX3_free_189 hl (k := 2) rfl (by omega) (by decide) rfl (fun ls hl => ?_)
                        refine lv_goto (tgt := 16) hx hb dX3_free_192 (by decide) ?_
                        exact W.widen (by omega) (by omega) (ihlp3 (n - (k + 1)) (by omega) (k + 1) g (rk + 1) C2 W2 rfl (by omega) hA2 hB3 (by simp only [cnt]; rw [hcc, ← hrk, if_neg (by omega)]) (fun c hc => by by_cases e : c = k; (subst e; omega); (rw [hg c (by omega), if_neg e]; exact hno c (by omega))) _ _ _  hP hD hS (lv_sub hl [0, 3, 1, 4, 5, 6, 7, 8] rfl))
                      · omega
                    · refine lv_iload_n hx hb dX3_free_163 rfl (lv_at hl 8 rfl) ?_
                      refine z_zeq (tgt := 170) hx hb dX3_free_164 (by decide) (by omega) (fun c16 => ?_) (fun c16 => ?_)
                      · omega
                      · refine lv_iload hx hb dX3_free_167 (lv_at hl 1 rfl) ?_
                        exact z_iret hC hrt hlk hQ hS ⟨zle (z := 1) rfl (by omega), zle (z := 16) rfl (by omega)⟩ ⟨_, rfl, Or.inr ⟨k, W2 k, rfl, ⟨by omega, fun c hc => fcNot hp hA2 ⟨fun r hr => hB2.1 r (by omega), fun r hr => hB2.2.1 r (by omega), fun r hr => hB2.2.2.1 r (by omega), fun r s hrs hs => hB2.2.2.2 r s hrs (by omega)⟩ (by omega) (hno c hc), fcYes hA2 (by omega) (fun i hi => hfk.2.1 (by omega) i (by omega) hi)⟩, hP (3 + n + k) _ (zR_at2 (L := 3) rfl (by omega)), hP 1 _ rfl⟩⟩ dX3_free_169
                  · obtain ⟨a1, ea⟩ : ∃ a1, at_ = a1 + 1 := ⟨at_ - 1, by omega⟩
                    subst ea
                    rw [show (((a1 + 1 : Nat) : Int) - 1) = (a1 : Int) by omega] at hl
                    have hck := (hA2 k (by omega)).2.1 a1 (by omega)
                    refine lv_aload_n hx hb dX3_free_131 rfl (lv_at hl 6 rfl) ?_
                    refine lv_iload hx hb dX3_free_132 (lv_at hl 1 rfl) ?_
                    refine z_aald hC (hP 0 _ rfl) (k := k) rfl (by omega) (q := (ro k)) rfl dX3_free_134 ?_
                    refine lv_iload hx hb dX3_free_135 (lv_at hl 0 rfl) ?_
                    refine z_iald hC (hP (3 + k) _ (zR_at (L := 3) rfl (by omega))) (k := a1) rfl (by omega) (y := (C2 k) a1) rfl dX3_free_137 ?_
                    refine z_zle (tgt := 148) hx hb dX3_free_138 (by decide) (by omega) (fun c17 => ?_) (fun c17 => ?_)
                    · refine z_iinc (z := ((a1 : Nat) : Int) - 1) (lv' := [(8, .int (iI (((a1 : Nat) : Int) - 1))), (7, .int (iI ((k : Nat) : Int))), (6, .ref q1), (5, .int (iI ((rk : Nat) : Int))), (4, .int (iI ((n : Nat) : Int))), (0, .ref (μ (0, 0, 0))), (1, .ref q), (2, .ref wy), (3, .int (iI 1))]) hx hb dX3_free_148 hl (k := 0) rfl (by omega) (by decide) rfl (fun ls hl => ?_)
                      refine lv_goto (tgt := 126) hx hb dX3_free_151 (by decide) ?_
                      exact W.widen (by omega) (by omega) (ihlp11 (a1) (by omega) a1 g fk rfl (by omega) hg (⟨by omega, fun e i h1 h2 => by by_cases e2 : i = a1; (subst e2; omega); exact hfk.2.1 e i (by omega) h2, hfk.2.2⟩) _ _ _  hP hD hS hl)
                    · refine lv_aload hx hb dX3_free_141 (lv_at hl 2 rfl) ?_
                      refine lv_iload hx hb dX3_free_143 (lv_at hl 1 rfl) ?_
                      refine lv_iload hx hb dX3_free_145 (lv_at hl 0 rfl) ?_
                      refine z_iast hC hP hD hS 2 (k := k) rfl rfl (by omega) (ws' := [(q, zII G n (fun i => some (ro i))), (wy, zII G n (fun i => some (rw i))), (q1, zI G n (va_up g k ((a1 : Nat) : Int)))] ++ (zRows G n n ro C2 ++ (zRows G n n rw W2 ++ []))) rfl dX3_free_147 (fun H18 locs hP hD hS => ?_)
                      refine z_iinc (z := ((a1 : Nat) : Int) - 1) (lv' := [(8, .int (iI (((a1 : Nat) : Int) - 1))), (7, .int (iI ((k : Nat) : Int))), (6, .ref q1), (5, .int (iI ((rk : Nat) : Int))), (4, .int (iI ((n : Nat) : Int))), (0, .ref (μ (0, 0, 0))), (1, .ref q), (2, .ref wy), (3, .int (iI 1))]) hx hb dX3_free_148 hl (k := 0) rfl (by omega) (by decide) rfl (fun ls hl => ?_)
                      refine lv_goto (tgt := 126) hx hb dX3_free_151 (by decide) ?_
                      exact W.widen (by omega) (by omega) (ihlp11 (a1) (by omega) a1 (va_up g k ((a1 : Nat) : Int)) (a1 : Int) rfl (by omega) (fun c hc => by by_cases e : c = k; (subst e; rw [va_up_self, if_pos rfl]); (rw [va_up_ne _ _ e, if_neg e, hg c hc, if_neg e])) (⟨by omega, fun e => absurd e (by omega), fun _ => by show C2 k ((a1 : Int)).toNat ≠ 0; rw [show ((a1 : Int)).toNat = a1 by omega]; omega⟩) _ _ _  hP hD hS hl)
              exact W.widen (by omega) (by omega) (lp11 _ n (va_up f k (-1)) (-1) rfl (Nat.le_refl _) (fun c hc => by by_cases e : c = k; (subst e; rw [va_up_self, if_pos rfl]); (rw [va_up_ne _ _ e, if_neg e])) (⟨Or.inl rfl, fun _ i h1 h2 => by omega, fun e => absurd rfl e⟩) _ _ _  hP hD hS hl)
            · have hfr := hB2.1 r (by omega)
              have hfb : -1 ≤ f r ∧ f r < 16 := by omega
              refine lv_aload hx hb dX3_free_33 (lv_at hl 2 rfl) ?_
              refine lv_iload hx hb dX3_free_35 (lv_at hl 0 rfl) ?_
              refine z_iald hC (hP 2 _ rfl) (k := r) rfl (by omega) (y := f r) rfl dX3_free_37 ?_
              refine lv_iconst (v := iI (-1)) hx hb dX3_free_38 rfl ?_
              refine z_cne (tgt := 45) hx hb dX3_free_39 (by decide) (by omega) (fun c19 => ?_) (fun c19 => ?_)
              · obtain ⟨fr, hfr2⟩ : ∃ fr : Nat, f r = fr := ⟨(f r).toNat, by omega⟩
                have hfrn : fr < n := by omega
                have hC9 : ∀ c, c < n → rw_ok (St_p σ) n (C2 c) := fun c hc => (hA2 c hc).2.1
                have hW9 : ∀ c, c < n → rw_ok (St_p σ) n (W2 c) := fun c hc => (hA2 c hc).1.2.2
                have hck := hC9 k (by omega) fr hfrn
                have hcr := hC9 r (by omega) fr hfrn
                have hcz : C2 r fr ≠ 0 := by have h9 := hB2.2.2.1 r (by omega) (by omega); rw [hfr2] at h9; exact h9
                have hcm : C2 r fr % St_p σ ≠ 0 := by rw [md_le hp hcr]; exact hcz
                have hi9 := iv_ex hp hcm
                have ge9 : ∀ (i : Nat) (x : Nat × va_E), ([(q, zII G n (fun i => some (ro i))), (wy, zII G n (fun i => some (rw i))), (q1, zI G n f)] ++ (zRows G n n ro C2 ++ (zRows G n n rw W2 ++ [])))[i]? = some x → s0.heap.size ≤ x.1 := fun i x hx => (hD.2 i x hx).elim (fun w => hMo _ w) (fun w => Nat.le_trans hO.1 w)
                have na9 : ∀ (i : Nat) (x : Nat × va_E), ([(q, zII G n (fun i => some (ro i))), (wy, zII G n (fun i => some (rw i))), (q1, zI G n f)] ++ (zRows G n n ro C2 ++ (zRows G n n rw W2 ++ [])))[i]? = some x → ∀ c, dmMo σ c → μ c ≠ G.2 12 → μ c ≠ x.1 := fun i x hx c hc h12 e => (hD.2 i x hx).elim (fun w => hnm9 c hc h12 (e ▸ w)) (fun w => by have := hh.lt hE hO c hc; omega)
                refine lv_aload_n hx hb dX3_free_45 rfl (lv_at hl 5 rfl) ?_
                refine lv_aload_n hx hb dX3_free_46 rfl (lv_at hl 6 rfl) ?_
                refine lv_iload hx hb dX3_free_47 (lv_at hl 1 rfl) ?_
                refine z_aald hC (hP 0 _ rfl) (k := k) rfl (by omega) (q := (ro k)) rfl dX3_free_49 ?_
                refine lv_aload hx hb dX3_free_50 (lv_at hl 2 rfl) ?_
                refine lv_iload hx hb dX3_free_52 (lv_at hl 0 rfl) ?_
                refine z_iald hC (hP 2 _ rfl) (k := r) rfl (by omega) (y := f r) rfl dX3_free_54 ?_
                refine z_top (b := ((fr : Nat) : Int)) (hfr2) ?_
                refine z_iald hC (hP (3 + k) _ (zR_at (L := 3) rfl (by omega))) (k := fr) rfl (by omega) (y := (C2 k) fr) rfl dX3_free_55 ?_
                refine lv_aload_n hx hb dX3_free_56 rfl (lv_at hl 5 rfl) ?_
                refine lv_aload_n hx hb dX3_free_57 rfl (lv_at hl 6 rfl) ?_
                refine lv_iload hx hb dX3_free_58 (lv_at hl 0 rfl) ?_
                refine z_aald hC (hP 0 _ rfl) (k := r) rfl (by omega) (q := (ro r)) rfl dX3_free_60 ?_
                refine lv_aload hx hb dX3_free_61 (lv_at hl 2 rfl) ?_
                refine lv_iload hx hb dX3_free_63 (lv_at hl 0 rfl) ?_
                refine z_iald hC (hP 2 _ rfl) (k := r) rfl (by omega) (y := f r) rfl dX3_free_65 ?_
                refine z_top (b := ((fr : Nat) : Int)) (hfr2) ?_
                refine z_iald hC (hP (3 + r) _ (zR_at (L := 3) rfl (by omega))) (k := fr) rfl (by omega) (y := (C2 r) fr) rfl dX3_free_66 ?_
                have hH1 : HM G s0 μ σ th H8 := hh.ext hE (zS_F hS) hnm9
                refine z_go 1 16 (z_runV (As := [.int (iI ((C2 r) fr))]) (rest := [.int (iI ((C2 k) fr)), .ref (μ (0, 0, 0))]) hC hml hl.1 (m_X3_inverse hE H8 (hO.ext (zS_F hS) hMo) (μ (0, 0, 0)) (μ (1, 0, 0)) (μ (3, 0, 0)) th (St_p σ) (St_kn σ) (C2 r fr) hH1.2.2.1.1 hp hcm (by omega)) (lw_V q1726 q1728 qs41 q67 q1729) rfl nd_X3_inverse rfl (z_rv hC (ci := 2) rfl hH1.2.2.1.1 rfl) rfl (Nat.le_of_ble_eq_true rfl) ⟨Nat.le_of_ble_eq_true rfl, Nat.le_of_ble_eq_true rfl⟩ ⟨zfit (k := 0) (z := 1) rfl rfl (by omega), zfit (k := 0) (z := 16) rfl rfl (by omega)⟩ dX3_free_67) ⟨zad (k := 0) rfl (by omega), zad (k := 0) rfl (by omega)⟩ hS (fun _ z => z.elim) (fun r H20 locs hp hF hS1 => ?_)
                obtain ⟨_, rfl, rfl⟩ := hp
                have hP := zpk hP hF
                have hP : va_P G.1 zCl ([(q, zII G n (fun i => some (ro i))), (wy, zII G n (fun i => some (rw i))), (q1, zI G n f)] ++ (zRows G n n ro C2 ++ (zRows G n n rw W2 ++ []))) H20 := hP
                have hD : va_D (zA (fun z => ∃ e, (z, e) ∈ ([(q, zII G n (fun i => some (ro i))), (wy, zII G n (fun i => some (rw i)))] ++ (zRows G n n ro F ++ (zRows G n n rw eyeV ++ [])))) H0) ([(q, zII G n (fun i => some (ro i))), (wy, zII G n (fun i => some (rw i))), (q1, zI G n f)] ++ (zRows G n n ro C2 ++ (zRows G n n rw W2 ++ []))) := hD
                have hS := hS1
                have hb9 := zmul6 (k := ivS (St_p σ) (C2 r fr)) (z := C2 k fr) (w := 6) ⟨hi9.2.1, hi9.2.2.1⟩ (by omega)
                have hb8 : C2 k fr * ivS (St_p σ) (C2 r fr) = ivS (St_p σ) (C2 r fr) * C2 k fr := Int.mul_comm _ _
                refine z_mul hx hb (z := ((C2 k) fr) * (ivS (St_p σ) (C2 r fr))) dX3_free_70 rfl ?_
                have hH1 : HM G s0 μ σ th H20 := hh.ext hE (zS_F hS) hnm9
                refine z_go 1 16 (z_runV (As := [.int (iI (((C2 k) fr) * (ivS (St_p σ) (C2 r fr))))]) (rest := []) hC hml hl.1 (m_X3_mod hE H20 (hO.ext (zS_F hS) hMo) (μ (0, 0, 0)) (μ (1, 0, 0)) (μ (3, 0, 0)) th (St_p σ) (St_kn σ) (C2 k fr * ivS (St_p σ) (C2 r fr)) hH1.2.2.1.1 hp (by omega)) (lw_V q1670 q1621 qs33 q67 q1622) rfl nd_X3_mod rfl (z_rv hC (ci := 2) rfl hH1.2.2.1.1 rfl) rfl (Nat.le_of_ble_eq_true rfl) ⟨Nat.le_of_ble_eq_true rfl, Nat.le_of_ble_eq_true rfl⟩ ⟨zfit (k := 0) (z := 1) rfl rfl (by omega), zfit (k := 0) (z := 16) rfl rfl (by omega)⟩ dX3_free_71) ⟨zad (k := 0) rfl (by omega), zad (k := 0) rfl (by omega)⟩ hS (fun _ z => z.elim) (fun r H21 locs hp hF hS1 => ?_)
                obtain ⟨_, rfl, rfl⟩ := hp
                have hP := zpk hP hF
                have hP : va_P G.1 zCl ([(q, zII G n (fun i => some (ro i))), (wy, zII G n (fun i => some (rw i))), (q1, zI G n f)] ++ (zRows G n n ro C2 ++ (zRows G n n rw W2 ++ []))) H21 := hP
                have hD : va_D (zA (fun z => ∃ e, (z, e) ∈ ([(q, zII G n (fun i => some (ro i))), (wy, zII G n (fun i => some (rw i)))] ++ (zRows G n n ro F ++ (zRows G n n rw eyeV ++ [])))) H0) ([(q, zII G n (fun i => some (ro i))), (wy, zII G n (fun i => some (rw i))), (q1, zI G n f)] ++ (zRows G n n ro C2 ++ (zRows G n n rw W2 ++ []))) := hD
                have hS := hS1
                have htm := md_in hp (C2 k fr * ivS (St_p σ) (C2 r fr))
                obtain ⟨t9, ht9⟩ : ∃ t9 : Int, (C2 k fr * ivS (St_p σ) (C2 r fr)) % St_p σ = t9 := ⟨_, rfl⟩
                refine z_top (b := t9) (ht9) ?_
                rw [ht9] at htm
                refine lv_istore (lv' := [(9, .int (iI t9)), (8, .int (iI ((r : Nat) : Int))), (7, .int (iI ((k : Nat) : Int))), (6, .ref q1), (5, .int (iI ((rk : Nat) : Int))), (4, .int (iI ((n : Nat) : Int))), (0, .ref (μ (0, 0, 0))), (1, .ref q), (2, .ref wy), (3, .int (iI 1))]) hx hb dX3_free_74 hl (by decide) rfl (fun ls hl => ?_)
                refine lv_aload_n hx hb dX3_free_76 rfl (lv_at hl 6 rfl) ?_
                refine lv_aload_n hx hb dX3_free_77 rfl (lv_at hl 7 rfl) ?_
                refine lv_iload hx hb dX3_free_78 (lv_at hl 2 rfl) ?_
                refine z_aald hC (hP 0 _ rfl) (k := k) rfl (by omega) (q := (ro k)) rfl dX3_free_80 ?_
                refine lv_aload_n hx hb dX3_free_81 rfl (lv_at hl 7 rfl) ?_
                refine lv_iload hx hb dX3_free_82 (lv_at hl 1 rfl) ?_
                refine z_aald hC (hP 0 _ rfl) (k := r) rfl (by omega) (q := (ro r)) rfl dX3_free_84 ?_
                refine lv_iload hx hb dX3_free_85 (lv_at hl 0 rfl) ?_
                have hH1 : HM G s0 μ σ th H21 := hh.ext hE (zS_F hS) hnm9
                have hA1 := hD.2 (3 + k) _ (zR_at (L := 3) rfl (by omega))
                refine z_go 1 16 (z_runV (As := [.ref (ro k), .ref (ro r), .int (iI t9)]) (rest := []) hC hml hl.1 (m_X3_less hE H21 (hO.ext (zS_F hS) hMo) μ σ th (ro k) (ro r) n (C2 k) (C2 r) (t9) hH1 (hP (3 + k) _ (zR_at (L := 3) rfl (by omega))) (hP (3 + r) _ (zR_at (L := 3) rfl (by omega))) ⟨ge9 (3 + k) _ (zR_at (L := 3) rfl (by omega)), fun e => absurd (hD.1 (3 + r) (3 + k) _ _ (zR_at (L := 3) rfl (by omega)) (zR_at (L := 3) rfl (by omega)) e) (by omega)⟩ ⟨hC9 k (by omega), hC9 r (by omega), hn.2⟩ (by omega) (fun c hc h12 e => na9 (3 + k) _ (zR_at (L := 3) rfl (by omega)) c hc h12 e)) (lw_V q1753 q1755 qs45 q67 q1756) rfl nd_X3_less rfl (z_rv hC (ci := 2) rfl hH1.2.2.1.1 rfl) rfl (Nat.le_of_ble_eq_true rfl) ⟨Nat.le_of_ble_eq_true rfl, Nat.le_of_ble_eq_true rfl⟩ ⟨zfit (k := 0) (z := 1) rfl rfl (by omega), zfit (k := 0) (z := 16) rfl rfl (by omega)⟩ dX3_free_87) ⟨zad (k := 0) rfl (by omega), zad (k := 0) rfl (by omega)⟩ hS (fun z hz => by subst hz; exact hD.2 (3 + k) _ (zR_at (L := 3) rfl (by omega))) (fun r H22 locs hp hF hS1 => ?_)
                obtain ⟨rfl, hm9⟩ := hp
                obtain ⟨hP, hD⟩ := zjm hP hD hF (3 + k) (zR_at (L := 3) rfl (by omega)) hm9
                rw [zR_set (L := 3) rfl (by omega)] at hP hD
                have hP : va_P G.1 zCl ([(q, zII G n (fun i => some (ro i))), (wy, zII G n (fun i => some (rw i))), (q1, zI G n f)] ++ (zRows G n n ro (upR C2 k (ltV (St_p σ) (t9) (C2 k) (C2 r))) ++ (zRows G n n rw W2 ++ []))) H22 := hP
                have hD : va_D (zA (fun z => ∃ e, (z, e) ∈ ([(q, zII G n (fun i => some (ro i))), (wy, zII G n (fun i => some (rw i)))] ++ (zRows G n n ro F ++ (zRows G n n rw eyeV ++ [])))) H0) ([(q, zII G n (fun i => some (ro i))), (wy, zII G n (fun i => some (rw i))), (q1, zI G n f)] ++ (zRows G n n ro (upR C2 k (ltV (St_p σ) (t9) (C2 k) (C2 r))) ++ (zRows G n n rw W2 ++ []))) := hD
                have hS := hS1
                refine lv_iload_n hx hb dX3_free_90 rfl (lv_at hl 9 rfl) ?_
                refine z_zeq (tgt := 108) hx hb dX3_free_91 (by decide) (by omega) (fun c23 => ?_) (fun c23 => ?_)
                · omega
                · refine lv_aload_n hx hb dX3_free_94 rfl (lv_at hl 6 rfl) ?_
                  refine lv_aload_n hx hb dX3_free_95 rfl (lv_at hl 8 rfl) ?_
                  refine lv_iload hx hb dX3_free_96 (lv_at hl 2 rfl) ?_
                  refine z_aald hC (hP 1 _ rfl) (k := k) rfl (by omega) (q := (rw k)) rfl dX3_free_98 ?_
                  refine lv_aload_n hx hb dX3_free_99 rfl (lv_at hl 8 rfl) ?_
                  refine lv_iload hx hb dX3_free_100 (lv_at hl 1 rfl) ?_
                  refine z_aald hC (hP 1 _ rfl) (k := r) rfl (by omega) (q := (rw r)) rfl dX3_free_102 ?_
                  refine lv_iload hx hb dX3_free_103 (lv_at hl 0 rfl) ?_
                  have hH1 : HM G s0 μ σ th H22 := hh.ext hE (zS_F hS) hnm9
                  have hA1 := hD.2 (3 + n + k) _ (zR_at2 (L := 3) rfl (by omega))
                  refine z_go 1 16 (z_runV (As := [.ref (rw k), .ref (rw r), .int (iI t9)]) (rest := []) hC hml hl.1 (m_X3_less hE H22 (hO.ext (zS_F hS) hMo) μ σ th (rw k) (rw r) n (W2 k) (W2 r) (t9) hH1 (hP (3 + n + k) _ (zR_at2 (L := 3) rfl (by omega))) (hP (3 + n + r) _ (zR_at2 (L := 3) rfl (by omega))) ⟨ge9 (3 + n + k) _ (zR_at2 (L := 3) rfl (by omega)), fun e => absurd (hD.1 (3 + n + r) (3 + n + k) _ _ (zR_at2 (L := 3) rfl (by omega)) (zR_at2 (L := 3) rfl (by omega)) e) (by omega)⟩ ⟨hW9 k (by omega), hW9 r (by omega), hn.2⟩ (by omega) (fun c hc h12 e => na9 (3 + n + k) _ (zR_at2 (L := 3) rfl (by omega)) c hc h12 e)) (lw_V q1753 q1755 qs45 q67 q1756) rfl nd_X3_less rfl (z_rv hC (ci := 2) rfl hH1.2.2.1.1 rfl) rfl (Nat.le_of_ble_eq_true rfl) ⟨Nat.le_of_ble_eq_true rfl, Nat.le_of_ble_eq_true rfl⟩ ⟨zfit (k := 0) (z := 1) rfl rfl (by omega), zfit (k := 0) (z := 16) rfl rfl (by omega)⟩ dX3_free_105) ⟨zad (k := 0) rfl (by omega), zad (k := 0) rfl (by omega)⟩ hS (fun z hz => by subst hz; exact hD.2 (3 + n + k) _ (zR_at2 (L := 3) rfl (by omega))) (fun r H24 locs hp hF hS1 => ?_)
                  obtain ⟨rfl, hm9⟩ := hp
                  obtain ⟨hP, hD⟩ := zjm hP hD hF (3 + n + k) (zR_at2 (L := 3) rfl (by omega)) hm9
                  rw [zR_set2 (L := 3) rfl (by omega)] at hP hD
                  have hP : va_P G.1 zCl ([(q, zII G n (fun i => some (ro i))), (wy, zII G n (fun i => some (rw i))), (q1, zI G n f)] ++ (zRows G n n ro (upR C2 k (ltV (St_p σ) (t9) (C2 k) (C2 r))) ++ (zRows G n n rw (upR W2 k (ltV (St_p σ) (t9) (W2 k) (W2 r))) ++ []))) H24 := hP
                  have hD : va_D (zA (fun z => ∃ e, (z, e) ∈ ([(q, zII G n (fun i => some (ro i))), (wy, zII G n (fun i => some (rw i)))] ++ (zRows G n n ro F ++ (zRows G n n rw eyeV ++ [])))) H0) ([(q, zII G n (fun i => some (ro i))), (wy, zII G n (fun i => some (rw i))), (q1, zI G n f)] ++ (zRows G n n ro (upR C2 k (ltV (St_p σ) (t9) (C2 k) (C2 r))) ++ (zRows G n n rw (upR W2 k (ltV (St_p σ) (t9) (W2 k) (W2 r))) ++ []))) := hD
                  have hS := hS1
                  refine z_iinc (z := ((r + 1 : Nat) : Int)) (lv' := [(8, .int (iI ((r + 1 : Nat) : Int))), (9, .int (iI t9)), (7, .int (iI ((k : Nat) : Int))), (6, .ref q1), (5, .int (iI ((rk : Nat) : Int))), (4, .int (iI ((n : Nat) : Int))), (0, .ref (μ (0, 0, 0))), (1, .ref q), (2, .ref wy), (3, .int (iI 1))]) hx hb dX3_free_108 hl (k := 1) rfl (by omega) (by decide) rfl (fun ls hl => ?_)
                  refine lv_goto (tgt := 26) hx hb dX3_free_111 (by decide) ?_
                  exact W.widen (by omega) (by omega) (ihlp7 (k - (r + 1)) (by omega) (r + 1) (upR C2 k (ltV (St_p σ) t9 (C2 k) (C2 r))) (upR W2 k (ltV (St_p σ) t9 (W2 k) (W2 r))) rfl (by omega) (fcA.step hp hA2 (by omega) (by omega)) (fcB.frame hB2) (by have h9 := fcD.step hp hDk hB2 hC9 (by omega) (by omega) (by omega : f r ≠ -1); rw [hfr2] at h9; rw [← ht9]; exact h9) _ _ _  hP hD hS (lv_sub hl [0, 2, 3, 4, 5, 6, 7, 8, 9] rfl))
              · refine lv_goto (tgt := 108) hx hb dX3_free_42 (by decide) ?_
                refine z_iinc (z := ((r + 1 : Nat) : Int)) (lv' := [(8, .int (iI ((r + 1 : Nat) : Int))), (7, .int (iI ((k : Nat) : Int))), (6, .ref q1), (5, .int (iI ((rk : Nat) : Int))), (4, .int (iI ((n : Nat) : Int))), (0, .ref (μ (0, 0, 0))), (1, .ref q), (2, .ref wy), (3, .int (iI 1))]) hx hb dX3_free_108 hl (k := 0) rfl (by omega) (by decide) rfl (fun ls hl => ?_)
                refine lv_goto (tgt := 26) hx hb dX3_free_111 (by decide) ?_
                exact W.widen (by omega) (by omega) (ihlp7 (k - (r + 1)) (by omega) (r + 1) C2 W2 rfl (by omega) hA2 hB2 (hDk.skip (by omega)) _ _ _  hP hD hS hl)
        exact W.widen (by omega) (by omega) (lp7 _ 0 C Ww rfl (Nat.zero_le _) hA hB (fun s hs => absurd hs (Nat.not_lt_zero s)) _ _ _  hP hD hS hl)
  exact W.widen (by omega) (by omega) (lp3 _ 0 (fun _ => 0) 0 F eyeV rfl (Nat.zero_le _) (fcA.start hp hFr hFM) fcB.zero rfl (fun c hc => absurd hc (Nat.not_lt_zero c)) _ _ _  hP hD hS hl)

