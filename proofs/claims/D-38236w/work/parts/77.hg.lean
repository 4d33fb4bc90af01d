/-! THE MODEL: vectors and mirrors -/
set_option maxRecDepth 100000
/-- a vector -/
def veB (n kd : Nat) (v : Nat → Int) : Bool := decide (kd ≠ 0) && (!(zeV n v) && vcV v n)
theorem veB_sq {p : Int} {n kd : Nat} {sg : Nat → Nat → Int} {v : Nat → Int} (hp : pr357 p) : 0 < sqV p n kd sg v ↔ veB n kd v = true ∧ tmV p n sg v v 0 ≠ 0 := by
  have h := md_in hp (sm n (fun i => v i * v (i ^^^ 0) * sg i (i ^^^ 0)))
  have h0 : 0 ≤ tmV p n sg v v 0 := h.1
  unfold sqV veB
  by_cases c : kd = 0 ∨ zeV n v = true ∨ vcV v n = false
  · rw [if_pos c]
    refine ⟨fun z => absurd z (by decide), fun z => ?_⟩
    rcases c with c | c | c <;> simp [c] at z
  · rw [if_neg c]
    have c1 : kd ≠ 0 := fun z => c (Or.inl z)
    have c2 : zeV n v = false := by cases e : zeV n v; rfl; exact absurd (Or.inr (Or.inl e)) c
    have c3 : vcV v n = true := by cases e : vcV v n; exact absurd (Or.inr (Or.inr e)) c; rfl
    simp only [c1, c2, c3]
    simp
    omega
theorem veB_v {p : Int} {n kd : Nat} {sg : Nat → Nat → Int} {v : Nat → Int} : sqV p n kd sg v = if veB n kd v = true then tmV p n sg v v 0 else -1 := by
  unfold sqV veB
  by_cases c : kd = 0 ∨ zeV n v = true ∨ vcV v n = false
  · rw [if_pos c, if_neg]
    rcases c with c | c | c <;> simp [c]
  · have c1 : kd ≠ 0 := fun z => c (Or.inl z)
    have c2 : zeV n v = false := by cases e : zeV n v; rfl; exact absurd (Or.inr (Or.inl e)) c
    have c3 : vcV v n = true := by cases e : vcV v n; exact absurd (Or.inr (Or.inr e)) c; rfl
    rw [if_neg c, if_pos (by simp [c1, c2, c3])]
theorem veB_t {n kd : Nat} {v : Nat → Int} (h : kd ≠ 0) (h2 : szV v n ≠ 0) (h3 : vcV v n = true) : veB n kd v = true := by simp [veB, h, zeV, h2, h3]
theorem veB_f {n kd : Nat} {v : Nat → Int} (h : kd = 0 ∨ szV v n = 0 ∨ vcV v n = false) : veB n kd v = false := by
  rcases h with h | h | h <;> simp [veB, h, zeV]
theorem sc1 {p : Int} {n : Nat} {v : Nat → Int} (hp : pr357 p) (hv : rw_ok p n v) (j : Nat) (hj : j < n) : scV p 1 v j = v j := by
  unfold scV
  rw [Int.one_mul]
  exact md_le hp (hv j hj)
abbrev rm_m_X3_isVector : Room := { frames := 4, cells := 0, slots := 0, locals := 85 }
set_option maxHeartbeats 4000000 in
theorem m_X3_isVector {l : Launch} {s0 : State} {G : zG} (hE : zE l s0 G) (H0 : Heap) (hO : zO s0 H0) (μ : Ro → Nat) (σ : St) (th : Int) (j : Nat) (hh : HM G s0 μ σ th H0) (hj : j < St_ne σ) : zM l s0 yX3_isVector cX3_isVector 4 (some FieldType.boolean) rm_m_X3_isVector [.ref (μ (0, 0, 0)), .int (iI ((j : Nat) : Int))] H0 M0 (ri (fun y _ => y = b2i (veB (St_n σ (St_ea σ j)) (St_kd σ (St_ea σ j)) (St_ev σ j)))) := by
  refine z_met hE (by decide +kernel) (Nat.le_of_ble_eq_true rfl) ?_
  intro pp ee ss mm args below meth cd Q ls hC hml hrt hlk hnm hH hQ hS hl
  have hx := hC.x
  have hb := hC.b
  have hl : lv_has ls 4 [(0, .ref (μ (0, 0, 0))), (1, .int (iI ((j : Nat) : Int)))] := hl
  have hP : va_P G.1 zCl [] H0 := va_nil
  have hD : va_D (zA M0 H0) [] := va_nilD
  have hH1 := hh
  obtain ⟨hp, hna, hal, hne9, hel9, hmr9⟩ := id hh.ok
  have hp7 : 0 < St_p σ ∧ St_p σ ≤ 7 := by rcases hp with h | h | h <;> rw [h] <;> decide
  refine lv_aload_n hx hb dX3_isVector_0 rfl (lv_at hl 0 rfl) ?_
  refine lv_iload_n hx hb dX3_isVector_1 rfl (lv_at hl 1 rfl) ?_
  have hH1 : HM G s0 μ σ th H0 := hh.ext0 hE (zS_F hS)
  refine z_go 0 0 (z_runV (As := [.int (iI ((j : Nat) : Int))]) (rest := []) hC hml hl.1 (m_X3_row hE H0 (hO.ext0 (zS_F hS)) μ σ th j hH1 hj) (lw_V q1654 q1656 qs36 q67 q1657) rfl nd_X3_row rfl (z_rv hC (ci := 2) rfl hH1.2.2.1.1 rfl) rfl (Nat.le_of_ble_eq_true rfl) ⟨Nat.le_of_ble_eq_true rfl, Nat.le_of_ble_eq_true rfl⟩ ⟨zfit (k := 0) (z := 0) rfl rfl (by omega), zfit (k := 0) (z := 0) rfl rfl (by omega)⟩ dX3_isVector_2) ⟨zad (k := 0) rfl (by omega), zad (k := 0) rfl (by omega)⟩ hS (fun _ z => z.elim) (fun r H1 locs hp hF hS1 => ?_)
  obtain ⟨_, rfl, rfl⟩ := hp
  have hP := zpk hP hF
  have hP : va_P G.1 zCl ([]) H1 := hP
  have hD : va_D (zA M0 H0) ([]) := hD
  have hS := hS1
  refine lv_astore_n (lv' := [(2, .ref (μ (14, j, 0))), (0, .ref (μ (0, 0, 0))), (1, .int (iI ((j : Nat) : Int)))]) hx hb dX3_isVector_5 rfl hl (by decide) rfl (fun ls hl => ?_)
  refine lv_aload_n hx hb dX3_isVector_6 rfl (lv_at hl 1 rfl) ?_
  refine lv_iload_n hx hb dX3_isVector_7 rfl (lv_at hl 2 rfl) ?_
  have hH1 : HM G s0 μ σ th H1 := hh.ext0 hE (zS_F hS)
  refine z_go 0 0 (z_runV (As := [.int (iI ((j : Nat) : Int))]) (rest := []) hC hml hl.1 (m_X3_home hE H1 (hO.ext0 (zS_F hS)) μ σ th j hH1 hj) (lw_V q1682 q1684 qs40 q67 q1685) rfl nd_X3_home rfl (z_rv hC (ci := 2) rfl hH1.2.2.1.1 rfl) rfl (Nat.le_of_ble_eq_true rfl) ⟨Nat.le_of_ble_eq_true rfl, Nat.le_of_ble_eq_true rfl⟩ ⟨zfit (k := 0) (z := 0) rfl rfl (by omega), zfit (k := 0) (z := 0) rfl rfl (by omega)⟩ dX3_isVector_8) ⟨zad (k := 0) rfl (by omega), zad (k := 0) rfl (by omega)⟩ hS (fun _ z => z.elim) (fun r H2 locs hp hF hS1 => ?_)
  obtain ⟨_, rfl, rfl⟩ := hp
  have hP := zpk hP hF
  have hP : va_P G.1 zCl ([]) H2 := hP
  have hD : va_D (zA M0 H0) ([]) := hD
  have hS := hS1
  have heaj := hh.ea hj
  have hH1 : HM G s0 μ σ th H2 := hh.ext0 hE (zS_F hS)
  have hASt_eaσj := hH1.al (k := St_ea σ j) heaj
  have hn16St_eaσj := hH1.n (k := St_ea σ j) heaj
  have hnn := hh.n heaj
  have hkd9 := (hal _ heaj).1
  refine z_get hC (k := 0) rfl in_X6 hASt_eaσj.1 (by decide) q1549 (fun _ h => h) rfl dX3_isVector_11 ?_
  refine z_zeq (tgt := 24) hx hb dX3_isVector_14 (by decide) (by omega) (fun c3 => ?_) (fun c3 => ?_)
  · refine lv_iconst (v := iI 0) hx hb dX3_isVector_24 rfl ?_
    exact z_zret hC hrt hlk hQ hS ⟨zle (z := 0) rfl (by omega), zle (z := 0) rfl (by omega)⟩ (by omega) ⟨_, rfl, b2i_f (veB_f (Or.inl (by omega)))⟩ dX3_isVector_25
  · have hH1 : HM G s0 μ σ th H2 := hh.ext0 hE (zS_F hS)
    have hRj := (hH1.el (j := j) (by omega)).2
    have hVj := hH1.row (j := j) (by omega)
    refine lv_aload_n hx hb dX3_isVector_17 rfl (lv_at hl 0 rfl) ?_
    refine z_go 0 0 (z_runS (As := [.ref (μ (14, j, 0))]) (rest := []) hC hml hl.1 (m_X3_size hE H2 (hO.ext0 (zS_F hS)) (μ (14, j, 0)) (St_n σ (St_ea σ j)) (St_ev σ j) hRj (fun j9 hj9 => by have := hVj j9 hj9; omega) hnn) (lw_S q1675 q1676 q67 q1677) nd_X3_size rfl rfl (Nat.le_of_ble_eq_true rfl) ⟨Nat.le_of_ble_eq_true rfl, Nat.le_of_ble_eq_true rfl⟩ ⟨zfit (k := 0) (z := 0) rfl rfl (by omega), zfit (k := 0) (z := 0) rfl rfl (by omega)⟩ dX3_isVector_18) ⟨zad (k := 0) rfl (by omega), zad (k := 0) rfl (by omega)⟩ hS (fun _ z => z.elim) (fun r H4 locs hp hF hS1 => ?_)
    obtain ⟨_, rfl, rfl⟩ := hp
    have hP := zpk hP hF
    have hP : va_P G.1 zCl ([]) H4 := hP
    have hD : va_D (zA M0 H0) ([]) := hD
    have hS := hS1
    have hsz9 := szV_le (St_ev σ j) (St_n σ (St_ea σ j))
    refine z_zne (tgt := 26) hx hb dX3_isVector_21 (by decide) (by omega) (fun c5 => ?_) (fun c5 => ?_)
    · refine lv_iconst (v := iI 0) hx hb dX3_isVector_26 rfl ?_
      refine lv_istore_n (lv' := [(3, .int (iI 0)), (2, .ref (μ (14, j, 0))), (0, .ref (μ (0, 0, 0))), (1, .int (iI ((j : Nat) : Int)))]) hx hb dX3_isVector_27 rfl hl (by decide) rfl (fun ls hl => ?_)
      have lp6 : ∀ (dlp6 : Nat) (c : Nat), St_n σ (St_ea σ j) - c = dlp6 → (c ≤ St_n σ (St_ea σ j)) → (vcV (St_ev σ j) c = true) → ∀ (H7 : Heap) (locs : List Loc) (ls : Array Slot), va_P G.1 zCl ([]) H7 → va_D (zA M0 H0) ([]) → va_S (zA M0 H0) H0 H7 locs → lv_has ls 4 [(3, .int (iI ((c : Nat) : Int))), (2, .ref (μ (14, j, 0))), (0, .ref (μ (0, 0, 0))), (1, .int (iI ((j : Nat) : Int)))] → W pp l ee rm_m_X3_isVector ss mm args below meth cd H7 locs 0 0 Q (F0 mm 28 ls []) := by
        intro dlp6
        induction dlp6 using Nat.strongRecOn with
        | ind dlp6 ihlp6 =>
          intro c hdlp6 hc hvc H7 locs ls  hP hD hS hl
          have hH1 : HM G s0 μ σ th H7 := hh.ext0 hE (zS_F hS)
          have hRj := (hH1.el (j := j) (by omega)).2
          have hVj := hH1.row (j := j) (by omega)
          refine lv_iload_n hx hb dX3_isVector_28 rfl (lv_at hl 0 rfl) ?_
          refine lv_aload_n hx hb dX3_isVector_29 rfl (lv_at hl 1 rfl) ?_
          refine z_alen hC 0 hRj rfl (y := ((St_n σ (St_ea σ j) : Nat) : Int)) rfl dX3_isVector_30 ?_
          refine z_cge (tgt := 56) hx hb dX3_isVector_31 (by decide) (by omega) (fun c8 => ?_) (fun c8 => ?_)
          · have ec : c = St_n σ (St_ea σ j) := by omega
            refine lv_iconst (v := iI 1) hx hb dX3_isVector_56 rfl ?_
            exact z_zret hC hrt hlk hQ hS ⟨zle (z := 0) rfl (by omega), zle (z := 0) rfl (by omega)⟩ (by omega) ⟨_, rfl, b2i_t (veB_t (by omega) (by omega) (ec ▸ hvc))⟩ dX3_isVector_57
          · have hvk := hVj c (by omega)
            refine lv_aload_n hx hb dX3_isVector_34 rfl (lv_at hl 1 rfl) ?_
            refine lv_iload_n hx hb dX3_isVector_35 rfl (lv_at hl 0 rfl) ?_
            refine z_iald hC hRj (k := c) rfl (by omega) (y := (St_ev σ j) c) rfl dX3_isVector_36 ?_
            refine z_zle (tgt := 50) hx hb dX3_isVector_37 (by decide) (by omega) (fun c9 => ?_) (fun c9 => ?_)
            · refine z_iinc (z := ((c + 1 : Nat) : Int)) (lv' := [(3, .int (iI ((c + 1 : Nat) : Int))), (2, .ref (μ (14, j, 0))), (0, .ref (μ (0, 0, 0))), (1, .int (iI ((j : Nat) : Int)))]) hx hb dX3_isVector_50 hl (k := 0) rfl (by omega) (by decide) rfl (fun ls hl => ?_)
              refine lv_goto (tgt := 28) hx hb dX3_isVector_53 (by decide) ?_
              exact W.widen (by omega) (by omega) (ihlp6 (St_n σ (St_ea σ j) - (c + 1)) (by omega) (c + 1) rfl (by omega) (vcV_s hvc (Or.inl (by omega))) _ _ _  hP hD hS hl)
            · refine lv_iload_n hx hb dX3_isVector_40 rfl (lv_at hl 0 rfl) ?_
              refine z_go 0 0 (z_runS (As := [.int (iI ((c : Nat) : Int))]) (rest := []) hC hml hl.1 (m_X3_grade hE H7 (hO.ext0 (zS_F hS)) c (by omega)) (lw_S q1765 q1617 q67 q1618) nd_X3_grade rfl rfl (Nat.le_of_ble_eq_true rfl) ⟨Nat.le_of_ble_eq_true rfl, Nat.le_of_ble_eq_true rfl⟩ ⟨zfit (k := 0) (z := 0) rfl rfl (by omega), zfit (k := 0) (z := 0) rfl rfl (by omega)⟩ dX3_isVector_41) ⟨zad (k := 0) rfl (by omega), zad (k := 0) rfl (by omega)⟩ hS (fun _ z => z.elim) (fun r H10 locs hp hF hS1 => ?_)
              obtain ⟨_, rfl, rfl⟩ := hp
              have hP := zpk hP hF
              have hP : va_P G.1 zCl ([]) H10 := hP
              have hD : va_D (zA M0 H0) ([]) := hD
              have hS := hS1
              have hbk : bitc c ≤ 4 := by unfold bitc; omega
              refine lv_iconst (v := iI 1) hx hb dX3_isVector_44 rfl ?_
              refine z_ceq (tgt := 50) hx hb dX3_isVector_45 (by decide) (by omega) (fun c11 => ?_) (fun c11 => ?_)
              · refine z_iinc (z := ((c + 1 : Nat) : Int)) (lv' := [(3, .int (iI ((c + 1 : Nat) : Int))), (2, .ref (μ (14, j, 0))), (0, .ref (μ (0, 0, 0))), (1, .int (iI ((j : Nat) : Int)))]) hx hb dX3_isVector_50 hl (k := 0) rfl (by omega) (by decide) rfl (fun ls hl => ?_)
                refine lv_goto (tgt := 28) hx hb dX3_isVector_53 (by decide) ?_
                exact W.widen (by omega) (by omega) (ihlp6 (St_n σ (St_ea σ j) - (c + 1)) (by omega) (c + 1) rfl (by omega) (vcV_s hvc (Or.inr (by omega))) _ _ _  hP hD hS hl)
              · refine lv_iconst (v := iI 0) hx hb dX3_isVector_48 rfl ?_
                exact z_zret hC hrt hlk hQ hS ⟨zle (z := 0) rfl (by omega), zle (z := 0) rfl (by omega)⟩ (by omega) ⟨_, rfl, b2i_f (veB_f (Or.inr (Or.inr (vcV_f (k := c) (by omega) (by omega) _ (by omega)))))⟩ dX3_isVector_49
      exact W.widen (by omega) (by omega) (lp6 _ 0 rfl (Nat.zero_le _) rfl _ _ _  hP hD hS hl)
    · refine lv_iconst (v := iI 0) hx hb dX3_isVector_24 rfl ?_
      exact z_zret hC hrt hlk hQ hS ⟨zle (z := 0) rfl (by omega), zle (z := 0) rfl (by omega)⟩ (by omega) ⟨_, rfl, b2i_f (veB_f (Or.inr (Or.inl (by omega))))⟩ dX3_isVector_25

abbrev rm_m_X3_squareOf : Room := { frames := 4, cells := 1, slots := 16, locals := 85 }
set_option maxHeartbeats 4000000 in
theorem m_X3_squareOf {l : Launch} {s0 : State} {G : zG} (hE : zE l s0 G) (H0 : Heap) (hO : zO s0 H0) (μ : Ro → Nat) (σ : St) (th : Int) (j : Nat) (hh : HM G s0 μ σ th H0) (hj : j < St_ne σ) : zM l s0 yX3_squareOf cX3_squareOf 2 (some FieldType.int) rm_m_X3_squareOf [.ref (μ (0, 0, 0)), .int (iI ((j : Nat) : Int))] H0 M0 (ri (fun y _ => y = tmV (St_p σ) (St_n σ (St_ea σ j)) (St_sg σ (St_ea σ j)) (St_ev σ j) (St_ev σ j) 0)) := by
  refine z_met hE (by decide +kernel) (Nat.le_of_ble_eq_true rfl) ?_
  intro pp ee ss mm args below meth cd Q ls hC hml hrt hlk hnm hH hQ hS hl
  have hx := hC.x
  have hb := hC.b
  have hl : lv_has ls 2 [(0, .ref (μ (0, 0, 0))), (1, .int (iI ((j : Nat) : Int)))] := hl
  have hP : va_P G.1 zCl [] H0 := va_nil
  have hD : va_D (zA M0 H0) [] := va_nilD
  have hH1 := hh
  obtain ⟨hp, hna, hal, hne9, hel9, hmr9⟩ := id hh.ok
  have hp7 : 0 < St_p σ ∧ St_p σ ≤ 7 := by rcases hp with h | h | h <;> rw [h] <;> decide
  have heaj := hh.ea hj
  have hnn := hh.n heaj
  refine lv_aload_n hx hb dX3_squareOf_0 rfl (lv_at hl 0 rfl) ?_
  refine lv_iload_n hx hb dX3_squareOf_1 rfl (lv_at hl 1 rfl) ?_
  have hH1 : HM G s0 μ σ th H0 := hh.ext0 hE (zS_F hS)
  refine z_go 0 0 (z_runV (As := [.int (iI ((j : Nat) : Int))]) (rest := []) hC hml hl.1 (m_X3_home hE H0 (hO.ext0 (zS_F hS)) μ σ th j hH1 hj) (lw_V q1682 q1684 qs40 q67 q1685) rfl nd_X3_home rfl (z_rv hC (ci := 2) rfl hH1.2.2.1.1 rfl) rfl (Nat.le_of_ble_eq_true rfl) ⟨Nat.le_of_ble_eq_true rfl, Nat.le_of_ble_eq_true rfl⟩ ⟨zfit (k := 0) (z := 1) rfl rfl (by omega), zfit (k := 0) (z := 16) rfl rfl (by omega)⟩ dX3_squareOf_2) ⟨zad (k := 0) rfl (by omega), zad (k := 0) rfl (by omega)⟩ hS (fun _ z => z.elim) (fun r H1 locs hp hF hS1 => ?_)
  obtain ⟨_, rfl, rfl⟩ := hp
  have hP := zpk hP hF
  have hP : va_P G.1 zCl ([]) H1 := hP
  have hD : va_D (zA M0 H0) ([]) := hD
  have hS := hS1
  have hH1 : HM G s0 μ σ th H1 := hh.ext0 hE (zS_F hS)
  have hRj := (hH1.el (j := j) (by omega)).2
  have hVj := hH1.row (j := j) (by omega)
  refine lv_aload_n hx hb dX3_squareOf_5 rfl (lv_at hl 0 rfl) ?_
  refine lv_iload_n hx hb dX3_squareOf_6 rfl (lv_at hl 1 rfl) ?_
  have hH1 : HM G s0 μ σ th H1 := hh.ext0 hE (zS_F hS)
  refine z_go 0 0 (z_runV (As := [.int (iI ((j : Nat) : Int))]) (rest := [.ref (μ (6, St_ea σ j, 0))]) hC hml hl.1 (m_X3_row hE H1 (hO.ext0 (zS_F hS)) μ σ th j hH1 (by omega)) (lw_V q1654 q1656 qs36 q67 q1657) rfl nd_X3_row rfl (z_rv hC (ci := 2) rfl hH1.2.2.1.1 rfl) rfl (Nat.le_of_ble_eq_true rfl) ⟨Nat.le_of_ble_eq_true rfl, Nat.le_of_ble_eq_true rfl⟩ ⟨zfit (k := 0) (z := 1) rfl rfl (by omega), zfit (k := 0) (z := 16) rfl rfl (by omega)⟩ dX3_squareOf_7) ⟨zad (k := 0) rfl (by omega), zad (k := 0) rfl (by omega)⟩ hS (fun _ z => z.elim) (fun r H2 locs hp hF hS1 => ?_)
  obtain ⟨_, rfl, rfl⟩ := hp
  have hP := zpk hP hF
  have hP : va_P G.1 zCl ([]) H2 := hP
  have hD : va_D (zA M0 H0) ([]) := hD
  have hS := hS1
  have hH1 : HM G s0 μ σ th H2 := hh.ext0 hE (zS_F hS)
  have hRj := (hH1.el (j := j) (by omega)).2
  have hVj := hH1.row (j := j) (by omega)
  refine lv_aload_n hx hb dX3_squareOf_10 rfl (lv_at hl 0 rfl) ?_
  refine lv_iload_n hx hb dX3_squareOf_11 rfl (lv_at hl 1 rfl) ?_
  have hH1 : HM G s0 μ σ th H2 := hh.ext0 hE (zS_F hS)
  refine z_go 0 0 (z_runV (As := [.int (iI ((j : Nat) : Int))]) (rest := [.ref (μ (14, j, 0)), .ref (μ (6, St_ea σ j, 0))]) hC hml hl.1 (m_X3_row hE H2 (hO.ext0 (zS_F hS)) μ σ th j hH1 (by omega)) (lw_V q1654 q1656 qs36 q67 q1657) rfl nd_X3_row rfl (z_rv hC (ci := 2) rfl hH1.2.2.1.1 rfl) rfl (Nat.le_of_ble_eq_true rfl) ⟨Nat.le_of_ble_eq_true rfl, Nat.le_of_ble_eq_true rfl⟩ ⟨zfit (k := 0) (z := 1) rfl rfl (by omega), zfit (k := 0) (z := 16) rfl rfl (by omega)⟩ dX3_squareOf_12) ⟨zad (k := 0) rfl (by omega), zad (k := 0) rfl (by omega)⟩ hS (fun _ z => z.elim) (fun r H3 locs hp hF hS1 => ?_)
  obtain ⟨_, rfl, rfl⟩ := hp
  have hP := zpk hP hF
  have hP : va_P G.1 zCl ([]) H3 := hP
  have hD : va_D (zA M0 H0) ([]) := hD
  have hS := hS1
  have hH1 : HM G s0 μ σ th H3 := hh.ext0 hE (zS_F hS)
  have hRj := (hH1.el (j := j) (by omega)).2
  have hVj := hH1.row (j := j) (by omega)
  have hH1 : HM G s0 μ σ th H3 := hh.ext0 hE (zS_F hS)
  have hsz9 : H0.size ≤ H3.size := hS.1
  have hUSt_eaσj := hH1.al (k := St_ea σ j) heaj
  refine z_go 1 16 (z_runV (As := [.ref (μ (14, j, 0)), .ref (μ (14, j, 0))]) (rest := []) hC hml hl.1 (m_X6_times hE H3 (hO.ext0 (zS_F hS)) μ σ th (St_ea σ j) (μ (14, j, 0)) (St_ev σ j) (μ (14, j, 0)) (St_ev σ j)  hH1 heaj hRj hVj hRj hVj ) (lw_V q1686 q1687 q1688 q82 q1689) rfl nd_X6_times rfl (z_rv hC (ci := 5) rfl hUSt_eaσj.1 rfl) rfl (Nat.le_of_ble_eq_true rfl) ⟨Nat.le_of_ble_eq_true rfl, Nat.le_of_ble_eq_true rfl⟩ ⟨zfit (k := 1) (z := 1) rfl rfl (by omega), zfit (k := 16) (z := 16) rfl rfl (by omega)⟩ dX3_squareOf_15) ⟨zad (k := 1) rfl (by omega), zad (k := 16) rfl (by omega)⟩ hS (fun _ z => z.elim) (fun r H5 locs hp hF hS1 => ?_)
  obtain ⟨qr4, rfl, hN⟩ := hp
  obtain ⟨hP, hD⟩ := zjn hP hD hS.1 hF hN
  have hP : va_P G.1 zCl ([(qr4, zI G (St_n σ (St_ea σ j)) (tmV (St_p σ) (St_n σ (St_ea σ j)) (St_sg σ (St_ea σ j)) (St_ev σ j) (St_ev σ j)))]) H5 := hP
  have hD : va_D (zA M0 H0) ([(qr4, zI G (St_n σ (St_ea σ j)) (tmV (St_p σ) (St_n σ (St_ea σ j)) (St_sg σ (St_ea σ j)) (St_ev σ j) (St_ev σ j)))]) := hD
  have hS := hS1
  refine lv_iconst (v := iI 0) hx hb dX3_squareOf_18 rfl ?_
  refine z_iald hC (hP 0 _ rfl) (k := 0) rfl (by omega) (y := (tmV (St_p σ) (St_n σ (St_ea σ j)) (St_sg σ (St_ea σ j)) (St_ev σ j) (St_ev σ j)) 0) rfl dX3_squareOf_19 ?_
  exact z_iret hC hrt hlk hQ hS ⟨zle (z := 1) rfl (by omega), zle (z := 16) rfl (by omega)⟩ ⟨_, rfl, rfl⟩ dX3_squareOf_20

abbrev rm_m_X3_mirror : Room := { frames := 5, cells := 5, slots := 80, locals := 108 }
set_option maxHeartbeats 4000000 in
theorem m_X3_mirror {l : Launch} {s0 : State} {G : zG} (hE : zE l s0 G) (H0 : Heap) (hO : zO s0 H0) (μ : Ro → Nat) (σ : St) (th : Int) (i j k : Int) (hh : HM G s0 μ σ th H0) (hi : zi i ∧ zi j ∧ zi k) : zM l s0 yX3_mirror cX3_mirror 4 (some FieldType.int) rm_m_X3_mirror [.ref (μ (0, 0, 0)), .int (iI i), .int (iI j), .int (iI k)] H0 (FM G μ σ) (HPM G s0 H0 μ σ [IOB, IAE, ISE] ((fun y σ' => ∃ a b c : Nat, (i = a ∧ a < St_ne σ) ∧ (j = b ∧ b < St_ne σ) ∧ (k = c ∧ c < St_ne σ) ∧ (St_ea σ a = St_ea σ b ∧ St_ea σ a = St_ea σ c) ∧ 0 < sqV (St_p σ) (St_n σ (St_ea σ a)) (St_kd σ (St_ea σ a)) (St_sg σ (St_ea σ a)) (St_ev σ b) ∧ σ' = stEl σ a (mirV (St_p σ) (St_n σ (St_ea σ a)) (St_kd σ (St_ea σ a)) (St_sg σ (St_ea σ a)) (St_ev σ b) (St_ev σ c)) ∧ y = (szV (mirV (St_p σ) (St_n σ (St_ea σ a)) (St_kd σ (St_ea σ a)) (St_sg σ (St_ea σ a)) (St_ev σ b) (St_ev σ c)) (St_n σ (St_ea σ a)) : Nat))) ((X3s σ i j k (fun b => ¬ 0 < sqV (St_p σ) (St_n σ (St_ea σ b)) (St_kd σ (St_ea σ b)) (St_sg σ (St_ea σ b)) (St_ev σ b))))) := by
  refine z_met hE (by decide +kernel) (Nat.le_of_ble_eq_true rfl) ?_
  intro pp ee ss mm args below meth cd Q ls hC hml hrt hlk hnm hH hQ hS hl
  have hx := hC.x
  have hb := hC.b
  have hl : lv_has ls 4 [(0, .ref (μ (0, 0, 0))), (1, .int (iI i)), (2, .int (iI j)), (3, .int (iI k))] := hl
  have hP : va_P G.1 zCl [] H0 := va_nil
  have hD : va_D (zA (FM G μ σ) H0) [] := va_nilD
  have hMo : ∀ z, (FM G μ σ) z → s0.heap.size ≤ z := fun z hz => FM.ge hh.sep hz
  have hH1 := hh
  obtain ⟨hp, hna, hal, hne9, hel9, hmr9⟩ := id hh.ok
  have hp7 : 0 < St_p σ ∧ St_p σ ≤ 7 := by rcases hp with h | h | h <;> rw [h] <;> decide
  have hP : va_P G.1 zCl [((μ (0, 0, 0)), zOb 2 [.int (iI th), .int (iI (St_p σ)), .int (iI ((St_kn σ : Nat) : Int)), .ref (μ (1, 0, 0)), .ref (μ (3, 0, 0))])] H0 := zP1 hh.2.2.1.1
  have hD : va_D (zA (FM G μ σ) H0) [((μ (0, 0, 0)), zOb 2 [.int (iI th), .int (iI (St_p σ)), .int (iI ((St_kn σ : Nat) : Int)), .ref (μ (1, 0, 0)), .ref (μ (3, 0, 0))])] := zD1 (Or.inl (FM.in hE hh.sep (domM0 0 (by omega)) (by simp [rAm])))
  refine lv_aload_n hx hb dX3_mirror_0 rfl (lv_at hl 0 rfl) ?_
  refine lv_iconst (v := iI 0) hx hb dX3_mirror_1 rfl ?_
  refine z_putO hC hP hD hS 0 (k := 0) rfl rfl in_X3 tyX3_ok nmX3 (by decide) q1495 (fun _ h => h) rfl rfl rfl rfl (Nat.le_of_ble_eq_true rfl) (ws' := [((μ (0, 0, 0)), zOb 2 [.int (iI 0), .int (iI (St_p σ)), .int (iI ((St_kn σ : Nat) : Int)), .ref (μ (1, 0, 0)), .ref (μ (3, 0, 0))])]) rfl dX3_mirror_2 (fun H1 locs hP hD hS hZ1 hZ2 => ?_)
  have hH1 : HM G s0 μ σ 0 H1 := HM.thr hE hH1 (zF.one hZ1 hZ2) (hP 0 _ rfl)
  have hP : va_P G.1 zCl [] H1 := va_nil
  have hD : va_D (zA (FM G μ σ) H0) [] := va_nilD
  refine lv_aload_n hx hb dX3_mirror_5 rfl (lv_at hl 0 rfl) ?_
  refine lv_iload_n hx hb dX3_mirror_6 rfl (lv_at hl 1 rfl) ?_
  refine z_go 0 0 (z_runV (As := [.int (iI i)]) (rest := []) hC hml hl.1 (m_X3_isElement hE H1 (hO.ext (zS_F hS) hMo) μ σ 0 i hH1 hi.1) (lw_V q1650 q1652 qs35 q67 q1653) rfl nd_X3_isElement rfl (z_rv hC (ci := 2) rfl hH1.2.2.1.1 rfl) rfl (Nat.le_of_ble_eq_true rfl) ⟨Nat.le_of_ble_eq_true rfl, Nat.le_of_ble_eq_true rfl⟩ ⟨zfit (k := 0) (z := 5) rfl rfl (by omega), zfit (k := 0) (z := 80) rfl rfl (by omega)⟩ dX3_mirror_7) ⟨zad (k := 0) rfl (by omega), zad (k := 0) rfl (by omega)⟩ hS (fun _ z => z.elim) (fun r H2 locs hp hF hS1 => ?_)
  obtain ⟨_, rfl, rfl⟩ := hp
  have hP := zpk hP hF
  have hP : va_P G.1 zCl ([]) H2 := hP
  have hD : va_D (zA (FM G μ σ) H0) ([]) := hD
  have hH1 : HM G s0 μ σ 0 H2 := hH1.ext0 hE hF
  have hS := hS1
  obtain ⟨fl, hfl, hfl2⟩ : ∃ fl : Nat, fl ≤ 1 ∧ (if 0 ≤ i ∧ i < (((St_ne σ) : Nat) : Int) then (1 : Int) else 0) = fl ∧ (fl = 1 ↔ 0 ≤ i ∧ i < (((St_ne σ) : Nat) : Int)) := by by_cases h : 0 ≤ i ∧ i < (((St_ne σ) : Nat) : Int); exact ⟨1, by decide, by rw [if_pos h]; rfl, ⟨fun _ => h, fun _ => rfl⟩⟩; exact ⟨0, by decide, by rw [if_neg h]; rfl, ⟨fun z => absurd z (by decide), fun z => absurd z h⟩⟩
  refine z_top (b := ((fl : Nat) : Int)) (hfl2.1) ?_
  refine z_zeq (tgt := 29) hx hb dX3_mirror_10 (by decide) (by omega) (fun c3 => ?_) (fun c3 => ?_)
  · refine lv_aload_n hx hb dX3_mirror_29 rfl (lv_at hl 0 rfl) ?_
    refine lv_iconst (v := iI 1) hx hb dX3_mirror_30 rfl ?_
    have hHb := hH1
    refine z_go 0 0 (z_runV (As := [.int (iI 1)]) (rest := []) hC hml hl.1 (m_X3_no hE H2 (hO.ext (zS_F hS) hMo) μ σ 0 1 hHb) (lw_V q1520 q1522 qs29 q67 q1523) rfl nd_X3_no rfl (z_rv hC (ci := 2) rfl hHb.2.2.1.1 rfl) rfl (Nat.le_of_ble_eq_true rfl) ⟨Nat.le_of_ble_eq_true rfl, Nat.le_of_ble_eq_true rfl⟩ ⟨zfit (k := 0) (z := 5) rfl rfl (by omega), zfit (k := 0) (z := 80) rfl rfl (by omega)⟩ dX3_mirror_31) ⟨zad (k := 0) rfl (by omega), zad (k := 0) rfl (by omega)⟩ hS (fun z hz => Or.inl (hz ▸ FM.in hE hh.sep (domM0 0 (by omega)) (by simp [rAm]))) (fun r H4 locs hp hF hS1 => ?_)
    obtain ⟨_, rfl, rfl, hx9⟩ := hp
    have hP : va_P G.1 zCl [] H4 := va_nil
    have hD : va_D (zA (FM G μ σ) H0) [] := va_nilD
    have hP : va_P G.1 zCl ([]) H4 := hP
    have hD : va_D (zA (FM G μ σ) H0) ([]) := hD
    have hS := hS1
    have hH9 : HM G s0 μ σ ((1 : Nat) : Int) H4 := HM.thr hE hHb hF hx9
    exact z_iret hC hrt hlk hQ hS ⟨zle (z := 5) rfl (by omega), zle (z := 80) rfl (by omega)⟩ ⟨_, rfl, 1, σ, PoM.same hH9, Or.inr ⟨by decide, rfl, by decide, Or.inl (Or.inl ⟨rfl, fun z9 => by have h9 := hfl2.2.mpr (z9.1); omega⟩)⟩⟩ dX3_mirror_34
  · have hok9 := hfl2.2.mp (by omega)
    obtain ⟨a, rfl⟩ : ∃ a : Nat, i = a := ⟨i.toNat, by omega⟩
    have ha9 : a < St_ne σ := by omega
    refine lv_aload_n hx hb dX3_mirror_13 rfl (lv_at hl 0 rfl) ?_
    refine lv_iload_n hx hb dX3_mirror_14 rfl (lv_at hl 2 rfl) ?_
    refine z_go 0 0 (z_runV (As := [.int (iI j)]) (rest := []) hC hml hl.1 (m_X3_isElement hE H2 (hO.ext (zS_F hS) hMo) μ σ 0 j hH1 hi.2.1) (lw_V q1650 q1652 qs35 q67 q1653) rfl nd_X3_isElement rfl (z_rv hC (ci := 2) rfl hH1.2.2.1.1 rfl) rfl (Nat.le_of_ble_eq_true rfl) ⟨Nat.le_of_ble_eq_true rfl, Nat.le_of_ble_eq_true rfl⟩ ⟨zfit (k := 0) (z := 5) rfl rfl (by omega), zfit (k := 0) (z := 80) rfl rfl (by omega)⟩ dX3_mirror_15) ⟨zad (k := 0) rfl (by omega), zad (k := 0) rfl (by omega)⟩ hS (fun _ z => z.elim) (fun r H5 locs hp hF hS1 => ?_)
    obtain ⟨_, rfl, rfl⟩ := hp
    have hP := zpk hP hF
    have hP : va_P G.1 zCl ([]) H5 := hP
    have hD : va_D (zA (FM G μ σ) H0) ([]) := hD
    have hH1 : HM G s0 μ σ 0 H5 := hH1.ext0 hE hF
    have hS := hS1
    obtain ⟨fl, hfl, hfl2⟩ : ∃ fl : Nat, fl ≤ 1 ∧ (if 0 ≤ j ∧ j < (((St_ne σ) : Nat) : Int) then (1 : Int) else 0) = fl ∧ (fl = 1 ↔ 0 ≤ j ∧ j < (((St_ne σ) : Nat) : Int)) := by by_cases h : 0 ≤ j ∧ j < (((St_ne σ) : Nat) : Int); exact ⟨1, by decide, by rw [if_pos h]; rfl, ⟨fun _ => h, fun _ => rfl⟩⟩; exact ⟨0, by decide, by rw [if_neg h]; rfl, ⟨fun z => absurd z (by decide), fun z => absurd z h⟩⟩
    refine z_top (b := ((fl : Nat) : Int)) (hfl2.1) ?_
    refine z_zeq (tgt := 29) hx hb dX3_mirror_18 (by decide) (by omega) (fun c6 => ?_) (fun c6 => ?_)
    · refine lv_aload_n hx hb dX3_mirror_29 rfl (lv_at hl 0 rfl) ?_
      refine lv_iconst (v := iI 1) hx hb dX3_mirror_30 rfl ?_
      have hHb := hH1
      refine z_go 0 0 (z_runV (As := [.int (iI 1)]) (rest := []) hC hml hl.1 (m_X3_no hE H5 (hO.ext (zS_F hS) hMo) μ σ 0 1 hHb) (lw_V q1520 q1522 qs29 q67 q1523) rfl nd_X3_no rfl (z_rv hC (ci := 2) rfl hHb.2.2.1.1 rfl) rfl (Nat.le_of_ble_eq_true rfl) ⟨Nat.le_of_ble_eq_true rfl, Nat.le_of_ble_eq_true rfl⟩ ⟨zfit (k := 0) (z := 5) rfl rfl (by omega), zfit (k := 0) (z := 80) rfl rfl (by omega)⟩ dX3_mirror_31) ⟨zad (k := 0) rfl (by omega), zad (k := 0) rfl (by omega)⟩ hS (fun z hz => Or.inl (hz ▸ FM.in hE hh.sep (domM0 0 (by omega)) (by simp [rAm]))) (fun r H7 locs hp hF hS1 => ?_)
      obtain ⟨_, rfl, rfl, hx9⟩ := hp
      have hP : va_P G.1 zCl [] H7 := va_nil
      have hD : va_D (zA (FM G μ σ) H0) [] := va_nilD
      have hP : va_P G.1 zCl ([]) H7 := hP
      have hD : va_D (zA (FM G μ σ) H0) ([]) := hD
      have hS := hS1
      have hH9 : HM G s0 μ σ ((1 : Nat) : Int) H7 := HM.thr hE hHb hF hx9
      exact z_iret hC hrt hlk hQ hS ⟨zle (z := 5) rfl (by omega), zle (z := 80) rfl (by omega)⟩ ⟨_, rfl, 1, σ, PoM.same hH9, Or.inr ⟨by decide, rfl, by decide, Or.inl (Or.inl ⟨rfl, fun z9 => by have h9 := hfl2.2.mpr (z9.2.1); omega⟩)⟩⟩ dX3_mirror_34
    · have hok9 := hfl2.2.mp (by omega)
      obtain ⟨b, rfl⟩ : ∃ b : Nat, j = b := ⟨j.toNat, by omega⟩
      have hb9 : b < St_ne σ := by omega
      refine lv_aload_n hx hb dX3_mirror_21 rfl (lv_at hl 0 rfl) ?_
      refine lv_iload_n hx hb dX3_mirror_22 rfl (lv_at hl 3 rfl) ?_
      refine z_go 0 0 (z_runV (As := [.int (iI k)]) (rest := []) hC hml hl.1 (m_X3_isElement hE H5 (hO.ext (zS_F hS) hMo) μ σ 0 k hH1 hi.2.2) (lw_V q1650 q1652 qs35 q67 q1653) rfl nd_X3_isElement rfl (z_rv hC (ci := 2) rfl hH1.2.2.1.1 rfl) rfl (Nat.le_of_ble_eq_true rfl) ⟨Nat.le_of_ble_eq_true rfl, Nat.le_of_ble_eq_true rfl⟩ ⟨zfit (k := 0) (z := 5) rfl rfl (by omega), zfit (k := 0) (z := 80) rfl rfl (by omega)⟩ dX3_mirror_23) ⟨zad (k := 0) rfl (by omega), zad (k := 0) rfl (by omega)⟩ hS (fun _ z => z.elim) (fun r H8 locs hp hF hS1 => ?_)
      obtain ⟨_, rfl, rfl⟩ := hp
      have hP := zpk hP hF
      have hP : va_P G.1 zCl ([]) H8 := hP
      have hD : va_D (zA (FM G μ σ) H0) ([]) := hD
      have hH1 : HM G s0 μ σ 0 H8 := hH1.ext0 hE hF
      have hS := hS1
      obtain ⟨fl, hfl, hfl2⟩ : ∃ fl : Nat, fl ≤ 1 ∧ (if 0 ≤ k ∧ k < (((St_ne σ) : Nat) : Int) then (1 : Int) else 0) = fl ∧ (fl = 1 ↔ 0 ≤ k ∧ k < (((St_ne σ) : Nat) : Int)) := by by_cases h : 0 ≤ k ∧ k < (((St_ne σ) : Nat) : Int); exact ⟨1, by decide, by rw [if_pos h]; rfl, ⟨fun _ => h, fun _ => rfl⟩⟩; exact ⟨0, by decide, by rw [if_neg h]; rfl, ⟨fun z => absurd z (by decide), fun z => absurd z h⟩⟩
      refine z_top (b := ((fl : Nat) : Int)) (hfl2.1) ?_
      refine z_zne (tgt := 35) hx hb dX3_mirror_26 (by decide) (by omega) (fun c9 => ?_) (fun c9 => ?_)
      · have hok9 := hfl2.2.mp (by omega)
        obtain ⟨c, rfl⟩ : ∃ c : Nat, k = c := ⟨k.toNat, by omega⟩
        have hc9 : c < St_ne σ := by omega
        refine lv_aload_n hx hb dX3_mirror_35 rfl (lv_at hl 0 rfl) ?_
        refine lv_iload_n hx hb dX3_mirror_36 rfl (lv_at hl 1 rfl) ?_
        refine lv_iload_n hx hb dX3_mirror_37 rfl (lv_at hl 2 rfl) ?_
        refine z_go 0 0 (z_runV (As := [.int (iI ((a : Nat) : Int)), .int (iI ((b : Nat) : Int))]) (rest := []) hC hml hl.1 (m_X3_areOne hE H8 (hO.ext (zS_F hS) hMo) μ σ 0 a b hH1 ⟨by omega, by omega⟩) (lw_V q1662 q1664 qs37 q67 q1665) rfl nd_X3_areOne rfl (z_rv hC (ci := 2) rfl hH1.2.2.1.1 rfl) rfl (Nat.le_of_ble_eq_true rfl) ⟨Nat.le_of_ble_eq_true rfl, Nat.le_of_ble_eq_true rfl⟩ ⟨zfit (k := 0) (z := 5) rfl rfl (by omega), zfit (k := 0) (z := 80) rfl rfl (by omega)⟩ dX3_mirror_38) ⟨zad (k := 0) rfl (by omega), zad (k := 0) rfl (by omega)⟩ hS (fun _ z => z.elim) (fun r H10 locs hp hF hS1 => ?_)
        obtain ⟨_, rfl, rfl⟩ := hp
        have hP := zpk hP hF
        have hP : va_P G.1 zCl ([]) H10 := hP
        have hD : va_D (zA (FM G μ σ) H0) ([]) := hD
        have hH1 : HM G s0 μ σ 0 H10 := hH1.ext0 hE hF
        have hS := hS1
        obtain ⟨fl, hfl, hfl2⟩ : ∃ fl : Nat, fl ≤ 1 ∧ (if St_ea σ a = St_ea σ b then (1 : Int) else 0) = fl ∧ (fl = 1 ↔ St_ea σ a = St_ea σ b) := by by_cases h : St_ea σ a = St_ea σ b; exact ⟨1, by decide, by rw [if_pos h]; rfl, ⟨fun _ => h, fun _ => rfl⟩⟩; exact ⟨0, by decide, by rw [if_neg h]; rfl, ⟨fun z => absurd z (by decide), fun z => absurd z h⟩⟩
        refine z_top (b := ((fl : Nat) : Int)) (hfl2.1) ?_
        refine z_zeq (tgt := 53) hx hb dX3_mirror_41 (by decide) (by omega) (fun c11 => ?_) (fun c11 => ?_)
        · refine lv_aload_n hx hb dX3_mirror_53 rfl (lv_at hl 0 rfl) ?_
          refine lv_iconst (v := iI 2) hx hb dX3_mirror_54 rfl ?_
          have hHb := hH1
          refine z_go 0 0 (z_runV (As := [.int (iI 2)]) (rest := []) hC hml hl.1 (m_X3_no hE H10 (hO.ext (zS_F hS) hMo) μ σ 0 2 hHb) (lw_V q1520 q1522 qs29 q67 q1523) rfl nd_X3_no rfl (z_rv hC (ci := 2) rfl hHb.2.2.1.1 rfl) rfl (Nat.le_of_ble_eq_true rfl) ⟨Nat.le_of_ble_eq_true rfl, Nat.le_of_ble_eq_true rfl⟩ ⟨zfit (k := 0) (z := 5) rfl rfl (by omega), zfit (k := 0) (z := 80) rfl rfl (by omega)⟩ dX3_mirror_55) ⟨zad (k := 0) rfl (by omega), zad (k := 0) rfl (by omega)⟩ hS (fun z hz => Or.inl (hz ▸ FM.in hE hh.sep (domM0 0 (by omega)) (by simp [rAm]))) (fun r H12 locs hp hF hS1 => ?_)
          obtain ⟨_, rfl, rfl, hx9⟩ := hp
          have hP : va_P G.1 zCl [] H12 := va_nil
          have hD : va_D (zA (FM G μ σ) H0) [] := va_nilD
          have hP : va_P G.1 zCl ([]) H12 := hP
          have hD : va_D (zA (FM G μ σ) H0) ([]) := hD
          have hS := hS1
          have hH9 : HM G s0 μ σ ((2 : Nat) : Int) H12 := HM.thr hE hHb hF hx9
          exact z_iret hC hrt hlk hQ hS ⟨zle (z := 5) rfl (by omega), zle (z := 80) rfl (by omega)⟩ ⟨_, rfl, 2, σ, PoM.same hH9, Or.inr ⟨by decide, rfl, by decide, Or.inl (Or.inr ⟨rfl, inE_n (by omega), inE_n (by omega), inE_n (by omega), fun z9 => by have h9 := hfl2.2.mpr z9.1; omega⟩)⟩⟩ dX3_mirror_58
        · have hone1 : St_ea σ a = St_ea σ b := hfl2.2.mp (by omega)
          refine lv_aload_n hx hb dX3_mirror_44 rfl (lv_at hl 0 rfl) ?_
          refine lv_iload_n hx hb dX3_mirror_45 rfl (lv_at hl 1 rfl) ?_
          refine lv_iload_n hx hb dX3_mirror_46 rfl (lv_at hl 3 rfl) ?_
          refine z_go 0 0 (z_runV (As := [.int (iI ((a : Nat) : Int)), .int (iI ((c : Nat) : Int))]) (rest := []) hC hml hl.1 (m_X3_areOne hE H10 (hO.ext (zS_F hS) hMo) μ σ 0 a c hH1 ⟨by omega, by omega⟩) (lw_V q1662 q1664 qs37 q67 q1665) rfl nd_X3_areOne rfl (z_rv hC (ci := 2) rfl hH1.2.2.1.1 rfl) rfl (Nat.le_of_ble_eq_true rfl) ⟨Nat.le_of_ble_eq_true rfl, Nat.le_of_ble_eq_true rfl⟩ ⟨zfit (k := 0) (z := 5) rfl rfl (by omega), zfit (k := 0) (z := 80) rfl rfl (by omega)⟩ dX3_mirror_47) ⟨zad (k := 0) rfl (by omega), zad (k := 0) rfl (by omega)⟩ hS (fun _ z => z.elim) (fun r H13 locs hp hF hS1 => ?_)
          obtain ⟨_, rfl, rfl⟩ := hp
          have hP := zpk hP hF
          have hP : va_P G.1 zCl ([]) H13 := hP
          have hD : va_D (zA (FM G μ σ) H0) ([]) := hD
          have hH1 : HM G s0 μ σ 0 H13 := hH1.ext0 hE hF
          have hS := hS1
          obtain ⟨fl, hfl, hfl2⟩ : ∃ fl : Nat, fl ≤ 1 ∧ (if St_ea σ a = St_ea σ c then (1 : Int) else 0) = fl ∧ (fl = 1 ↔ St_ea σ a = St_ea σ c) := by by_cases h : St_ea σ a = St_ea σ c; exact ⟨1, by decide, by rw [if_pos h]; rfl, ⟨fun _ => h, fun _ => rfl⟩⟩; exact ⟨0, by decide, by rw [if_neg h]; rfl, ⟨fun z => absurd z (by decide), fun z => absurd z h⟩⟩
          refine z_top (b := ((fl : Nat) : Int)) (hfl2.1) ?_
          refine z_zne (tgt := 59) hx hb dX3_mirror_50 (by decide) (by omega) (fun c14 => ?_) (fun c14 => ?_)
          · have hone2 : St_ea σ a = St_ea σ c := hfl2.2.mp (by omega)
            have hea := hh.ea (j := a) (by omega)
            refine lv_aload_n hx hb dX3_mirror_59 rfl (lv_at hl 0 rfl) ?_
            refine lv_iload_n hx hb dX3_mirror_60 rfl (lv_at hl 2 rfl) ?_
            refine z_go 0 0 (z_runV (As := [.int (iI ((b : Nat) : Int))]) (rest := []) hC hml hl.1 (m_X3_isVector hE H13 (hO.ext (zS_F hS) hMo) μ σ 0 b hH1 (by omega)) (lw_V q1761 q1763 qs46 q67 q1764) rfl nd_X3_isVector rfl (z_rv hC (ci := 2) rfl hH1.2.2.1.1 rfl) rfl (Nat.le_of_ble_eq_true rfl) ⟨Nat.le_of_ble_eq_true rfl, Nat.le_of_ble_eq_true rfl⟩ ⟨zfit (k := 0) (z := 5) rfl rfl (by omega), zfit (k := 0) (z := 80) rfl rfl (by omega)⟩ dX3_mirror_61) ⟨zad (k := 0) rfl (by omega), zad (k := 0) rfl (by omega)⟩ hS (fun _ z => z.elim) (fun r H15 locs hp hF hS1 => ?_)
            obtain ⟨_, rfl, rfl⟩ := hp
            have hP := zpk hP hF
            have hP : va_P G.1 zCl ([]) H15 := hP
            have hD : va_D (zA (FM G μ σ) H0) ([]) := hD
            have hH1 : HM G s0 μ σ 0 H15 := hH1.ext0 hE hF
            have hS := hS1
            refine z_zeq (tgt := 75) hx hb dX3_mirror_64 (by decide) (by unfold b2i; split <;> omega) (fun cv => ?_) (fun cv => ?_)
            · refine lv_aload_n hx hb dX3_mirror_75 rfl (lv_at hl 0 rfl) ?_
              refine lv_iconst (v := iI 3) hx hb dX3_mirror_76 rfl ?_
              have hHb := hH1
              refine z_go 0 0 (z_runV (As := [.int (iI 3)]) (rest := []) hC hml hl.1 (m_X3_no hE H15 (hO.ext (zS_F hS) hMo) μ σ 0 3 hHb) (lw_V q1520 q1522 qs29 q67 q1523) rfl nd_X3_no rfl (z_rv hC (ci := 2) rfl hHb.2.2.1.1 rfl) rfl (Nat.le_of_ble_eq_true rfl) ⟨Nat.le_of_ble_eq_true rfl, Nat.le_of_ble_eq_true rfl⟩ ⟨zfit (k := 0) (z := 5) rfl rfl (by omega), zfit (k := 0) (z := 80) rfl rfl (by omega)⟩ dX3_mirror_77) ⟨zad (k := 0) rfl (by omega), zad (k := 0) rfl (by omega)⟩ hS (fun z hz => Or.inl (hz ▸ FM.in hE hh.sep (domM0 0 (by omega)) (by simp [rAm]))) (fun r H16 locs hp hF hS1 => ?_)
              obtain ⟨_, rfl, rfl, hx9⟩ := hp
              have hP : va_P G.1 zCl [] H16 := va_nil
              have hD : va_D (zA (FM G μ σ) H0) [] := va_nilD
              have hP : va_P G.1 zCl ([]) H16 := hP
              have hD : va_D (zA (FM G μ σ) H0) ([]) := hD
              have hS := hS1
              have hH9 : HM G s0 μ σ ((3 : Nat) : Int) H16 := HM.thr hE hHb hF hx9
              exact z_iret hC hrt hlk hQ hS ⟨zle (z := 5) rfl (by omega), zle (z := 80) rfl (by omega)⟩ ⟨_, rfl, 3, σ, PoM.same hH9, Or.inr ⟨by decide, rfl, by decide, Or.inr ⟨rfl, inE_n (by omega), inE_n (by omega), inE_n (by omega), ⟨hone1, hone2⟩, fun z9 => by have z9 : 0 < sqV (St_p σ) (St_n σ (St_ea σ b)) (St_kd σ (St_ea σ b)) (St_sg σ (St_ea σ b)) (St_ev σ b) := z9; have h9 := (veB_sq hp).mp z9; have h8 := b2i_z cv; rw [h9.1] at h8; cases h8⟩⟩⟩ dX3_mirror_80
            · have hvb := b2i_nz cv
              refine lv_aload_n hx hb dX3_mirror_67 rfl (lv_at hl 0 rfl) ?_
              refine lv_iload_n hx hb dX3_mirror_68 rfl (lv_at hl 2 rfl) ?_
              refine z_go 1 16 (z_runV (As := [.int (iI ((b : Nat) : Int))]) (rest := []) hC hml hl.1 (m_X3_squareOf hE H15 (hO.ext (zS_F hS) hMo) μ σ 0 b hH1 (by omega)) (lw_V q1766 q1768 qs47 q67 q1769) rfl nd_X3_squareOf rfl (z_rv hC (ci := 2) rfl hH1.2.2.1.1 rfl) rfl (Nat.le_of_ble_eq_true rfl) ⟨Nat.le_of_ble_eq_true rfl, Nat.le_of_ble_eq_true rfl⟩ ⟨zfit (k := 1) (z := 5) rfl rfl (by omega), zfit (k := 16) (z := 80) rfl rfl (by omega)⟩ dX3_mirror_69) ⟨zad (k := 1) rfl (by omega), zad (k := 16) rfl (by omega)⟩ hS (fun _ z => z.elim) (fun r H17 locs hp hF hS1 => ?_)
              obtain ⟨_, rfl, rfl⟩ := hp
              have hP := zpk hP hF
              have hP : va_P G.1 zCl ([]) H17 := hP
              have hD : va_D (zA (FM G μ σ) H0) ([]) := hD
              have hH1 : HM G s0 μ σ 0 H17 := hH1.ext0 hE hF
              have hS := hS1
              have htq : 0 ≤ tmV (St_p σ) (St_n σ (St_ea σ b)) (St_sg σ (St_ea σ b)) (St_ev σ b) (St_ev σ b) 0 ∧ tmV (St_p σ) (St_n σ (St_ea σ b)) (St_sg σ (St_ea σ b)) (St_ev σ b) (St_ev σ b) 0 < St_p σ := md_in hp _
              refine z_zne (tgt := 81) hx hb dX3_mirror_72 (by decide) (by omega) (fun c18 => ?_) (fun c18 => ?_)
              · have hsq9 := (veB_sq (kd := St_kd σ (St_ea σ b)) hp).mpr ⟨hvb, (show tmV (St_p σ) (St_n σ (St_ea σ b)) (St_sg σ (St_ea σ b)) (St_ev σ b) (St_ev σ b) 0 ≠ 0 by omega)⟩
                rw [← hone1] at hsq9
                refine lv_aload_n hx hb dX3_mirror_81 rfl (lv_at hl 0 rfl) ?_
                refine lv_iload_n hx hb dX3_mirror_82 rfl (lv_at hl 1 rfl) ?_
                refine lv_aload_n hx hb dX3_mirror_83 rfl (lv_at hl 0 rfl) ?_
                refine lv_iload_n hx hb dX3_mirror_84 rfl (lv_at hl 1 rfl) ?_
                refine z_go 1 16 (z_runV (As := [.int (iI ((a : Nat) : Int))]) (rest := [.int (iI ((a : Nat) : Int)), .ref (μ (0, 0, 0))]) hC hml hl.1 (m_X3_home hE H17 (hO.ext (zS_F hS) hMo) μ σ 0 a hH1 (by omega)) (lw_V q1682 q1684 qs40 q67 q1685) rfl nd_X3_home rfl (z_rv hC (ci := 2) rfl hH1.2.2.1.1 rfl) rfl (Nat.le_of_ble_eq_true rfl) ⟨Nat.le_of_ble_eq_true rfl, Nat.le_of_ble_eq_true rfl⟩ ⟨zfit (k := 0) (z := 5) rfl rfl (by omega), zfit (k := 0) (z := 80) rfl rfl (by omega)⟩ dX3_mirror_85) ⟨zad (k := 0) rfl (by omega), zad (k := 0) rfl (by omega)⟩ hS (fun _ z => z.elim) (fun r H19 locs hp hF hS1 => ?_)
                obtain ⟨_, rfl, rfl⟩ := hp
                have hP := zpk hP hF
                have hP : va_P G.1 zCl ([]) H19 := hP
                have hD : va_D (zA (FM G μ σ) H0) ([]) := hD
                have hH1 : HM G s0 μ σ 0 H19 := hH1.ext0 hE hF
                have hS := hS1
                have hRb := (hH1.el (j := b) (by omega)).2
                have hVb := hH1.row (j := b) (by omega)
                rw [← hone1] at hRb hVb
                refine lv_aload_n hx hb dX3_mirror_88 rfl (lv_at hl 0 rfl) ?_
                refine lv_iload_n hx hb dX3_mirror_89 rfl (lv_at hl 2 rfl) ?_
                refine z_go 1 16 (z_runV (As := [.int (iI ((b : Nat) : Int))]) (rest := [.ref (μ (6, St_ea σ a, 0)), .int (iI ((a : Nat) : Int)), .ref (μ (0, 0, 0))]) hC hml hl.1 (m_X3_row hE H19 (hO.ext (zS_F hS) hMo) μ σ 0 b hH1 (by omega)) (lw_V q1654 q1656 qs36 q67 q1657) rfl nd_X3_row rfl (z_rv hC (ci := 2) rfl hH1.2.2.1.1 rfl) rfl (Nat.le_of_ble_eq_true rfl) ⟨Nat.le_of_ble_eq_true rfl, Nat.le_of_ble_eq_true rfl⟩ ⟨zfit (k := 0) (z := 5) rfl rfl (by omega), zfit (k := 0) (z := 80) rfl rfl (by omega)⟩ dX3_mirror_90) ⟨zad (k := 0) rfl (by omega), zad (k := 0) rfl (by omega)⟩ hS (fun _ z => z.elim) (fun r H20 locs hp hF hS1 => ?_)
                obtain ⟨_, rfl, rfl⟩ := hp
                have hP := zpk hP hF
                have hP : va_P G.1 zCl ([]) H20 := hP
                have hD : va_D (zA (FM G μ σ) H0) ([]) := hD
                have hH1 : HM G s0 μ σ 0 H20 := hH1.ext0 hE hF
                have hS := hS1
                have hRc := (hH1.el (j := c) (by omega)).2
                have hVc := hH1.row (j := c) (by omega)
                rw [← hone2] at hRc hVc
                refine lv_aload_n hx hb dX3_mirror_93 rfl (lv_at hl 0 rfl) ?_
                refine lv_iload_n hx hb dX3_mirror_94 rfl (lv_at hl 3 rfl) ?_
                refine z_go 1 16 (z_runV (As := [.int (iI ((c : Nat) : Int))]) (rest := [.ref (μ (14, b, 0)), .ref (μ (6, St_ea σ a, 0)), .int (iI ((a : Nat) : Int)), .ref (μ (0, 0, 0))]) hC hml hl.1 (m_X3_row hE H20 (hO.ext (zS_F hS) hMo) μ σ 0 c hH1 (by omega)) (lw_V q1654 q1656 qs36 q67 q1657) rfl nd_X3_row rfl (z_rv hC (ci := 2) rfl hH1.2.2.1.1 rfl) rfl (Nat.le_of_ble_eq_true rfl) ⟨Nat.le_of_ble_eq_true rfl, Nat.le_of_ble_eq_true rfl⟩ ⟨zfit (k := 0) (z := 5) rfl rfl (by omega), zfit (k := 0) (z := 80) rfl rfl (by omega)⟩ dX3_mirror_95) ⟨zad (k := 0) rfl (by omega), zad (k := 0) rfl (by omega)⟩ hS (fun _ z => z.elim) (fun r H21 locs hp hF hS1 => ?_)
                obtain ⟨_, rfl, rfl⟩ := hp
                have hP := zpk hP hF
                have hP : va_P G.1 zCl ([]) H21 := hP
                have hD : va_D (zA (FM G μ σ) H0) ([]) := hD
                have hH1 : HM G s0 μ σ 0 H21 := hH1.ext0 hE hF
                have hS := hS1
                have hRb := (hH1.el (j := b) (by omega)).2
                have hVb := hH1.row (j := b) (by omega)
                rw [← hone1] at hRb hVb
                have hRc := (hH1.el (j := c) (by omega)).2
                have hVc := hH1.row (j := c) (by omega)
                rw [← hone2] at hRc hVc
                have hsz9 : H0.size ≤ H21.size := hS.1
                have hUSt_eaσa := hH1.al (k := St_ea σ a) hea
                refine z_go 5 80 (z_runV (As := [.ref (μ (14, b, 0)), .ref (μ (14, c, 0))]) (rest := [.int (iI ((a : Nat) : Int)), .ref (μ (0, 0, 0))]) hC hml hl.1 (m_X6_mirrored hE H21 (hO.ext (zS_F hS) hMo) μ σ 0 (St_ea σ a) (μ (14, b, 0)) (St_ev σ b) (μ (14, c, 0)) (St_ev σ c)  hH1 hea hRb hVb hRc hVc hsq9) (lw_V q1785 q1786 q1787 q82 q1788) rfl nd_X6_mirrored rfl (z_rv hC (ci := 5) rfl hUSt_eaσa.1 rfl) rfl (Nat.le_of_ble_eq_true rfl) ⟨Nat.le_of_ble_eq_true rfl, Nat.le_of_ble_eq_true rfl⟩ ⟨zfit (k := 4) (z := 5) rfl rfl (by omega), zfit (k := 64) (z := 80) rfl rfl (by omega)⟩ dX3_mirror_98) ⟨zad (k := 4) rfl (by omega), zad (k := 64) rfl (by omega)⟩ hS (fun _ z => z.elim) (fun r H23 locs hp hF hS1 => ?_)
                obtain ⟨qr22, rfl, hN⟩ := hp
                obtain ⟨hP, hD⟩ := zjn hP hD hS.1 hF hN
                have hP : va_P G.1 zCl ([(qr22, zI G (St_n σ (St_ea σ a)) (mirV (St_p σ) (St_n σ (St_ea σ a)) (St_kd σ (St_ea σ a)) (St_sg σ (St_ea σ a)) (St_ev σ b) (St_ev σ c)))]) H23 := hP
                have hD : va_D (zA (FM G μ σ) H0) ([(qr22, zI G (St_n σ (St_ea σ a)) (mirV (St_p σ) (St_n σ (St_ea σ a)) (St_kd σ (St_ea σ a)) (St_sg σ (St_ea σ a)) (St_ev σ b) (St_ev σ c)))]) := hD
                have hH1 : HM G s0 μ σ 0 H23 := hH1.ext0 hE hF
                have hS := hS1
                have hNwqr22 : H0.size ≤ qr22 := Nat.le_trans hsz9 (hN.2.2 0 _ rfl)
                have hHb := hH1
                have hRb := hP 0 _ rfl
                refine z_go 5 80 (z_runV (As := [.int (iI ((a : Nat) : Int)), .ref qr22]) (rest := []) hC hml hl.1 (m_X3_put hE H23 (hO.ext (zS_F hS) hMo) μ σ 0 a qr22 (mirV (St_p σ) (St_n σ (St_ea σ a)) (St_kd σ (St_ea σ a)) (St_sg σ (St_ea σ a)) (St_ev σ b) (St_ev σ c)) hHb (by omega) hRb (scV_ok hp _ _ _)) (lw_V q1671 q1673 qs39 q67 q1674) rfl nd_X3_put rfl (z_rv hC (ci := 2) rfl hHb.2.2.1.1 rfl) rfl (Nat.le_of_ble_eq_true rfl) ⟨Nat.le_of_ble_eq_true rfl, Nat.le_of_ble_eq_true rfl⟩ ⟨zfit (k := 0) (z := 5) rfl rfl (by omega), zfit (k := 0) (z := 80) rfl rfl (by omega)⟩ dX3_mirror_101) ⟨zad (k := 0) rfl (by omega), zad (k := 0) rfl (by omega)⟩ hS (fun z hz => Or.inl (hz ▸ FM.in hE hh.sep (domME 13 a (Or.inl rfl) (by omega)) (by simp [rAm]))) (fun r H24 locs hp hF hS1 => ?_)
                obtain ⟨_, rfl, rfl, hm9⟩ := hp
                have hP : va_P G.1 zCl [] H24 := va_nil
                have hD : va_D (zA (FM G μ σ) H0) [] := va_nilD
                have hP : va_P G.1 zCl ([]) H24 := hP
                have hD : va_D (zA (FM G μ σ) H0) ([]) := hD
                have hS := hS1
                have hPo : PoM G s0 H0 μ σ (stEl σ a (mirV (St_p σ) (St_n σ (St_ea σ a)) (St_kd σ (St_ea σ a)) (St_sg σ (St_ea σ a)) (St_ev σ b) (St_ev σ c))) 0 H24 := HM.put hE hO hh hHb (by omega) hF hm9 (zAt.ext hRb hF (Ne.symm (z_noArr hE (ci := 7) (t := 0) rfl (hHb.el (j := a) (by omega)).1 rfl hRb))) hNwqr22 (scV_ok hp _ _ _)
                exact z_iret hC hrt hlk hQ hS ⟨zle (z := 5) rfl (by omega), zle (z := 80) rfl (by omega)⟩ ⟨_, rfl, 0, stEl σ a (mirV (St_p σ) (St_n σ (St_ea σ a)) (St_kd σ (St_ea σ a)) (St_sg σ (St_ea σ a)) (St_ev σ b) (St_ev σ c)), hPo, Or.inl ⟨rfl, ⟨a, b, c, ⟨by omega, by omega⟩, ⟨by omega, by omega⟩, ⟨by omega, by omega⟩, ⟨hone1, hone2⟩, hsq9, rfl, rfl⟩⟩⟩ dX3_mirror_104
              · refine lv_aload_n hx hb dX3_mirror_75 rfl (lv_at hl 0 rfl) ?_
                refine lv_iconst (v := iI 3) hx hb dX3_mirror_76 rfl ?_
                have hHb := hH1
                refine z_go 1 16 (z_runV (As := [.int (iI 3)]) (rest := []) hC hml hl.1 (m_X3_no hE H17 (hO.ext (zS_F hS) hMo) μ σ 0 3 hHb) (lw_V q1520 q1522 qs29 q67 q1523) rfl nd_X3_no rfl (z_rv hC (ci := 2) rfl hHb.2.2.1.1 rfl) rfl (Nat.le_of_ble_eq_true rfl) ⟨Nat.le_of_ble_eq_true rfl, Nat.le_of_ble_eq_true rfl⟩ ⟨zfit (k := 0) (z := 5) rfl rfl (by omega), zfit (k := 0) (z := 80) rfl rfl (by omega)⟩ dX3_mirror_77) ⟨zad (k := 0) rfl (by omega), zad (k := 0) rfl (by omega)⟩ hS (fun z hz => Or.inl (hz ▸ FM.in hE hh.sep (domM0 0 (by omega)) (by simp [rAm]))) (fun r H25 locs hp hF hS1 => ?_)
                obtain ⟨_, rfl, rfl, hx9⟩ := hp
                have hP : va_P G.1 zCl [] H25 := va_nil
                have hD : va_D (zA (FM G μ σ) H0) [] := va_nilD
                have hP : va_P G.1 zCl ([]) H25 := hP
                have hD : va_D (zA (FM G μ σ) H0) ([]) := hD
                have hS := hS1
                have hH9 : HM G s0 μ σ ((3 : Nat) : Int) H25 := HM.thr hE hHb hF hx9
                exact z_iret hC hrt hlk hQ hS ⟨zle (z := 5) rfl (by omega), zle (z := 80) rfl (by omega)⟩ ⟨_, rfl, 3, σ, PoM.same hH9, Or.inr ⟨by decide, rfl, by decide, Or.inr ⟨rfl, inE_n (by omega), inE_n (by omega), inE_n (by omega), ⟨hone1, hone2⟩, fun z9 => by have z9 : 0 < sqV (St_p σ) (St_n σ (St_ea σ b)) (St_kd σ (St_ea σ b)) (St_sg σ (St_ea σ b)) (St_ev σ b) := z9; have h9 := (veB_sq hp).mp z9; exact h9.2 (by omega)⟩⟩⟩ dX3_mirror_80
          · refine lv_aload_n hx hb dX3_mirror_53 rfl (lv_at hl 0 rfl) ?_
            refine lv_iconst (v := iI 2) hx hb dX3_mirror_54 rfl ?_
            have hHb := hH1
            refine z_go 0 0 (z_runV (As := [.int (iI 2)]) (rest := []) hC hml hl.1 (m_X3_no hE H13 (hO.ext (zS_F hS) hMo) μ σ 0 2 hHb) (lw_V q1520 q1522 qs29 q67 q1523) rfl nd_X3_no rfl (z_rv hC (ci := 2) rfl hHb.2.2.1.1 rfl) rfl (Nat.le_of_ble_eq_true rfl) ⟨Nat.le_of_ble_eq_true rfl, Nat.le_of_ble_eq_true rfl⟩ ⟨zfit (k := 0) (z := 5) rfl rfl (by omega), zfit (k := 0) (z := 80) rfl rfl (by omega)⟩ dX3_mirror_55) ⟨zad (k := 0) rfl (by omega), zad (k := 0) rfl (by omega)⟩ hS (fun z hz => Or.inl (hz ▸ FM.in hE hh.sep (domM0 0 (by omega)) (by simp [rAm]))) (fun r H26 locs hp hF hS1 => ?_)
            obtain ⟨_, rfl, rfl, hx9⟩ := hp
            have hP : va_P G.1 zCl [] H26 := va_nil
            have hD : va_D (zA (FM G μ σ) H0) [] := va_nilD
            have hP : va_P G.1 zCl ([]) H26 := hP
            have hD : va_D (zA (FM G μ σ) H0) ([]) := hD
            have hS := hS1
            have hH9 : HM G s0 μ σ ((2 : Nat) : Int) H26 := HM.thr hE hHb hF hx9
            exact z_iret hC hrt hlk hQ hS ⟨zle (z := 5) rfl (by omega), zle (z := 80) rfl (by omega)⟩ ⟨_, rfl, 2, σ, PoM.same hH9, Or.inr ⟨by decide, rfl, by decide, Or.inl (Or.inr ⟨rfl, inE_n (by omega), inE_n (by omega), inE_n (by omega), fun z9 => by have h9 := hfl2.2.mpr z9.2; omega⟩)⟩⟩ dX3_mirror_58
      · refine lv_aload_n hx hb dX3_mirror_29 rfl (lv_at hl 0 rfl) ?_
        refine lv_iconst (v := iI 1) hx hb dX3_mirror_30 rfl ?_
        have hHb := hH1
        refine z_go 0 0 (z_runV (As := [.int (iI 1)]) (rest := []) hC hml hl.1 (m_X3_no hE H8 (hO.ext (zS_F hS) hMo) μ σ 0 1 hHb) (lw_V q1520 q1522 qs29 q67 q1523) rfl nd_X3_no rfl (z_rv hC (ci := 2) rfl hHb.2.2.1.1 rfl) rfl (Nat.le_of_ble_eq_true rfl) ⟨Nat.le_of_ble_eq_true rfl, Nat.le_of_ble_eq_true rfl⟩ ⟨zfit (k := 0) (z := 5) rfl rfl (by omega), zfit (k := 0) (z := 80) rfl rfl (by omega)⟩ dX3_mirror_31) ⟨zad (k := 0) rfl (by omega), zad (k := 0) rfl (by omega)⟩ hS (fun z hz => Or.inl (hz ▸ FM.in hE hh.sep (domM0 0 (by omega)) (by simp [rAm]))) (fun r H27 locs hp hF hS1 => ?_)
        obtain ⟨_, rfl, rfl, hx9⟩ := hp
        have hP : va_P G.1 zCl [] H27 := va_nil
        have hD : va_D (zA (FM G μ σ) H0) [] := va_nilD
        have hP : va_P G.1 zCl ([]) H27 := hP
        have hD : va_D (zA (FM G μ σ) H0) ([]) := hD
        have hS := hS1
        have hH9 : HM G s0 μ σ ((1 : Nat) : Int) H27 := HM.thr hE hHb hF hx9
        exact z_iret hC hrt hlk hQ hS ⟨zle (z := 5) rfl (by omega), zle (z := 80) rfl (by omega)⟩ ⟨_, rfl, 1, σ, PoM.same hH9, Or.inr ⟨by decide, rfl, by decide, Or.inl (Or.inl ⟨rfl, fun z9 => by have h9 := hfl2.2.mpr (z9.2.2); omega⟩)⟩⟩ dX3_mirror_34

abbrev rm_m_X3_turn : Room := { frames := 4, cells := 60, slots := 800, locals := 86 }
set_option maxHeartbeats 4000000 in
theorem m_X3_turn {l : Launch} {s0 : State} {G : zG} (hE : zE l s0 G) (H0 : Heap) (hO : zO s0 H0) (μ : Ro → Nat) (σ : St) (th : Int) (i j : Int) (hh : HM G s0 μ σ th H0) (hi : zi i ∧ zi j) : zM l s0 yX3_turn cX3_turn 6 (some FieldType.int) rm_m_X3_turn [.ref (μ (0, 0, 0)), .int (iI i), .int (iI j)] H0 (FM G μ σ) (HPM G s0 H0 μ σ [IOB, IAE, ISE] ((fun y σ' => ∃ a b : Nat, (i = a ∧ a < St_ne σ) ∧ (j = b ∧ b < St_ne σ) ∧ St_ea σ a = St_ea σ b ∧ St_kd σ (St_ea σ a) = 1 ∧ σ' = stEl σ a (tuV σ (St_ea σ a) (St_ev σ b) (St_nm σ (St_ea σ a))) ∧ y = (szV (tuV σ (St_ea σ a) (St_ev σ b) (St_nm σ (St_ea σ a))) (St_n σ (St_ea σ a)) : Nat))) ((X2s σ i j (fun _ b => St_kd σ (St_ea σ b) ≠ 1)))) := by
  refine z_met hE (by decide +kernel) (Nat.le_of_ble_eq_true rfl) ?_
  intro pp ee ss mm args below meth cd Q ls hC hml hrt hlk hnm hH hQ hS hl
  have hx := hC.x
  have hb := hC.b
  have hl : lv_has ls 6 [(0, .ref (μ (0, 0, 0))), (1, .int (iI i)), (2, .int (iI j))] := hl
  have hP : va_P G.1 zCl [] H0 := va_nil
  have hD : va_D (zA (FM G μ σ) H0) [] := va_nilD
  have hMo : ∀ z, (FM G μ σ) z → s0.heap.size ≤ z := fun z hz => FM.ge hh.sep hz
  have hH1 := hh
  obtain ⟨hp, hna, hal, hne9, hel9, hmr9⟩ := id hh.ok
  have hp7 : 0 < St_p σ ∧ St_p σ ≤ 7 := by rcases hp with h | h | h <;> rw [h] <;> decide
  have hP : va_P G.1 zCl [((μ (0, 0, 0)), zOb 2 [.int (iI th), .int (iI (St_p σ)), .int (iI ((St_kn σ : Nat) : Int)), .ref (μ (1, 0, 0)), .ref (μ (3, 0, 0))])] H0 := zP1 hh.2.2.1.1
  have hD : va_D (zA (FM G μ σ) H0) [((μ (0, 0, 0)), zOb 2 [.int (iI th), .int (iI (St_p σ)), .int (iI ((St_kn σ : Nat) : Int)), .ref (μ (1, 0, 0)), .ref (μ (3, 0, 0))])] := zD1 (Or.inl (FM.in hE hh.sep (domM0 0 (by omega)) (by simp [rAm])))
  refine lv_aload_n hx hb dX3_turn_0 rfl (lv_at hl 0 rfl) ?_
  refine lv_iconst (v := iI 0) hx hb dX3_turn_1 rfl ?_
  refine z_putO hC hP hD hS 0 (k := 0) rfl rfl in_X3 tyX3_ok nmX3 (by decide) q1495 (fun _ h => h) rfl rfl rfl rfl (Nat.le_of_ble_eq_true rfl) (ws' := [((μ (0, 0, 0)), zOb 2 [.int (iI 0), .int (iI (St_p σ)), .int (iI ((St_kn σ : Nat) : Int)), .ref (μ (1, 0, 0)), .ref (μ (3, 0, 0))])]) rfl dX3_turn_2 (fun H1 locs hP hD hS hZ1 hZ2 => ?_)
  have hH1 : HM G s0 μ σ 0 H1 := HM.thr hE hH1 (zF.one hZ1 hZ2) (hP 0 _ rfl)
  have hP : va_P G.1 zCl [] H1 := va_nil
  have hD : va_D (zA (FM G μ σ) H0) [] := va_nilD
  refine lv_aload_n hx hb dX3_turn_5 rfl (lv_at hl 0 rfl) ?_
  refine lv_iload_n hx hb dX3_turn_6 rfl (lv_at hl 1 rfl) ?_
  refine z_go 0 0 (z_runV (As := [.int (iI i)]) (rest := []) hC hml hl.1 (m_X3_isElement hE H1 (hO.ext (zS_F hS) hMo) μ σ 0 i hH1 hi.1) (lw_V q1650 q1652 qs35 q67 q1653) rfl nd_X3_isElement rfl (z_rv hC (ci := 2) rfl hH1.2.2.1.1 rfl) rfl (Nat.le_of_ble_eq_true rfl) ⟨Nat.le_of_ble_eq_true rfl, Nat.le_of_ble_eq_true rfl⟩ ⟨zfit (k := 0) (z := 60) rfl rfl (by omega), zfit (k := 0) (z := 800) rfl rfl (by omega)⟩ dX3_turn_7) ⟨zad (k := 0) rfl (by omega), zad (k := 0) rfl (by omega)⟩ hS (fun _ z => z.elim) (fun r H2 locs hp hF hS1 => ?_)
  obtain ⟨_, rfl, rfl⟩ := hp
  have hP := zpk hP hF
  have hP : va_P G.1 zCl ([]) H2 := hP
  have hD : va_D (zA (FM G μ σ) H0) ([]) := hD
  have hH1 : HM G s0 μ σ 0 H2 := hH1.ext0 hE hF
  have hS := hS1
  obtain ⟨fl, hfl, hfl2⟩ : ∃ fl : Nat, fl ≤ 1 ∧ (if 0 ≤ i ∧ i < (((St_ne σ) : Nat) : Int) then (1 : Int) else 0) = fl ∧ (fl = 1 ↔ 0 ≤ i ∧ i < (((St_ne σ) : Nat) : Int)) := by by_cases h : 0 ≤ i ∧ i < (((St_ne σ) : Nat) : Int); exact ⟨1, by decide, by rw [if_pos h]; rfl, ⟨fun _ => h, fun _ => rfl⟩⟩; exact ⟨0, by decide, by rw [if_neg h]; rfl, ⟨fun z => absurd z (by decide), fun z => absurd z h⟩⟩
  refine z_top (b := ((fl : Nat) : Int)) (hfl2.1) ?_
  refine z_zeq (tgt := 21) hx hb dX3_turn_10 (by decide) (by omega) (fun c3 => ?_) (fun c3 => ?_)
  · refine lv_aload_n hx hb dX3_turn_21 rfl (lv_at hl 0 rfl) ?_
    refine lv_iconst (v := iI 1) hx hb dX3_turn_22 rfl ?_
    have hHb := hH1
    refine z_go 0 0 (z_runV (As := [.int (iI 1)]) (rest := []) hC hml hl.1 (m_X3_no hE H2 (hO.ext (zS_F hS) hMo) μ σ 0 1 hHb) (lw_V q1520 q1522 qs29 q67 q1523) rfl nd_X3_no rfl (z_rv hC (ci := 2) rfl hHb.2.2.1.1 rfl) rfl (Nat.le_of_ble_eq_true rfl) ⟨Nat.le_of_ble_eq_true rfl, Nat.le_of_ble_eq_true rfl⟩ ⟨zfit (k := 0) (z := 60) rfl rfl (by omega), zfit (k := 0) (z := 800) rfl rfl (by omega)⟩ dX3_turn_23) ⟨zad (k := 0) rfl (by omega), zad (k := 0) rfl (by omega)⟩ hS (fun z hz => Or.inl (hz ▸ FM.in hE hh.sep (domM0 0 (by omega)) (by simp [rAm]))) (fun r H4 locs hp hF hS1 => ?_)
    obtain ⟨_, rfl, rfl, hx9⟩ := hp
    have hP : va_P G.1 zCl [] H4 := va_nil
    have hD : va_D (zA (FM G μ σ) H0) [] := va_nilD
    have hP : va_P G.1 zCl ([]) H4 := hP
    have hD : va_D (zA (FM G μ σ) H0) ([]) := hD
    have hS := hS1
    have hH9 : HM G s0 μ σ ((1 : Nat) : Int) H4 := HM.thr hE hHb hF hx9
    exact z_iret hC hrt hlk hQ hS ⟨zle (z := 60) rfl (by omega), zle (z := 800) rfl (by omega)⟩ ⟨_, rfl, 1, σ, PoM.same hH9, Or.inr ⟨by decide, rfl, by decide, Or.inl (Or.inl ⟨rfl, fun z9 => by have h9 := hfl2.2.mpr (z9.1); omega⟩)⟩⟩ dX3_turn_26
  · have hok9 := hfl2.2.mp (by omega)
    obtain ⟨a, rfl⟩ : ∃ a : Nat, i = a := ⟨i.toNat, by omega⟩
    have ha9 : a < St_ne σ := by omega
    refine lv_aload_n hx hb dX3_turn_13 rfl (lv_at hl 0 rfl) ?_
    refine lv_iload_n hx hb dX3_turn_14 rfl (lv_at hl 2 rfl) ?_
    refine z_go 0 0 (z_runV (As := [.int (iI j)]) (rest := []) hC hml hl.1 (m_X3_isElement hE H2 (hO.ext (zS_F hS) hMo) μ σ 0 j hH1 hi.2) (lw_V q1650 q1652 qs35 q67 q1653) rfl nd_X3_isElement rfl (z_rv hC (ci := 2) rfl hH1.2.2.1.1 rfl) rfl (Nat.le_of_ble_eq_true rfl) ⟨Nat.le_of_ble_eq_true rfl, Nat.le_of_ble_eq_true rfl⟩ ⟨zfit (k := 0) (z := 60) rfl rfl (by omega), zfit (k := 0) (z := 800) rfl rfl (by omega)⟩ dX3_turn_15) ⟨zad (k := 0) rfl (by omega), zad (k := 0) rfl (by omega)⟩ hS (fun _ z => z.elim) (fun r H5 locs hp hF hS1 => ?_)
    obtain ⟨_, rfl, rfl⟩ := hp
    have hP := zpk hP hF
    have hP : va_P G.1 zCl ([]) H5 := hP
    have hD : va_D (zA (FM G μ σ) H0) ([]) := hD
    have hH1 : HM G s0 μ σ 0 H5 := hH1.ext0 hE hF
    have hS := hS1
    obtain ⟨fl, hfl, hfl2⟩ : ∃ fl : Nat, fl ≤ 1 ∧ (if 0 ≤ j ∧ j < (((St_ne σ) : Nat) : Int) then (1 : Int) else 0) = fl ∧ (fl = 1 ↔ 0 ≤ j ∧ j < (((St_ne σ) : Nat) : Int)) := by by_cases h : 0 ≤ j ∧ j < (((St_ne σ) : Nat) : Int); exact ⟨1, by decide, by rw [if_pos h]; rfl, ⟨fun _ => h, fun _ => rfl⟩⟩; exact ⟨0, by decide, by rw [if_neg h]; rfl, ⟨fun z => absurd z (by decide), fun z => absurd z h⟩⟩
    refine z_top (b := ((fl : Nat) : Int)) (hfl2.1) ?_
    refine z_zne (tgt := 27) hx hb dX3_turn_18 (by decide) (by omega) (fun c6 => ?_) (fun c6 => ?_)
    · have hok9 := hfl2.2.mp (by omega)
      obtain ⟨b, rfl⟩ : ∃ b : Nat, j = b := ⟨j.toNat, by omega⟩
      have hb9 : b < St_ne σ := by omega
      refine lv_aload_n hx hb dX3_turn_27 rfl (lv_at hl 0 rfl) ?_
      refine lv_iload_n hx hb dX3_turn_28 rfl (lv_at hl 1 rfl) ?_
      refine lv_iload_n hx hb dX3_turn_29 rfl (lv_at hl 2 rfl) ?_
      refine z_go 0 0 (z_runV (As := [.int (iI ((a : Nat) : Int)), .int (iI ((b : Nat) : Int))]) (rest := []) hC hml hl.1 (m_X3_areOne hE H5 (hO.ext (zS_F hS) hMo) μ σ 0 a b hH1 ⟨by omega, by omega⟩) (lw_V q1662 q1664 qs37 q67 q1665) rfl nd_X3_areOne rfl (z_rv hC (ci := 2) rfl hH1.2.2.1.1 rfl) rfl (Nat.le_of_ble_eq_true rfl) ⟨Nat.le_of_ble_eq_true rfl, Nat.le_of_ble_eq_true rfl⟩ ⟨zfit (k := 0) (z := 60) rfl rfl (by omega), zfit (k := 0) (z := 800) rfl rfl (by omega)⟩ dX3_turn_30) ⟨zad (k := 0) rfl (by omega), zad (k := 0) rfl (by omega)⟩ hS (fun _ z => z.elim) (fun r H7 locs hp hF hS1 => ?_)
      obtain ⟨_, rfl, rfl⟩ := hp
      have hP := zpk hP hF
      have hP : va_P G.1 zCl ([]) H7 := hP
      have hD : va_D (zA (FM G μ σ) H0) ([]) := hD
      have hH1 : HM G s0 μ σ 0 H7 := hH1.ext0 hE hF
      have hS := hS1
      obtain ⟨fl, hfl, hfl2⟩ : ∃ fl : Nat, fl ≤ 1 ∧ (if St_ea σ a = St_ea σ b then (1 : Int) else 0) = fl ∧ (fl = 1 ↔ St_ea σ a = St_ea σ b) := by by_cases h : St_ea σ a = St_ea σ b; exact ⟨1, by decide, by rw [if_pos h]; rfl, ⟨fun _ => h, fun _ => rfl⟩⟩; exact ⟨0, by decide, by rw [if_neg h]; rfl, ⟨fun z => absurd z (by decide), fun z => absurd z h⟩⟩
      refine z_top (b := ((fl : Nat) : Int)) (hfl2.1) ?_
      refine z_zne (tgt := 42) hx hb dX3_turn_33 (by decide) (by omega) (fun c8 => ?_) (fun c8 => ?_)
      · have hone : St_ea σ a = St_ea σ b := hfl2.2.mp (by omega)
        have hea := hh.ea (j := a) (by omega)
        have hnm9 := (hmr9 _ hea).1
        have hkd9 := (hal _ hea).1
        refine lv_aload_n hx hb dX3_turn_42 rfl (lv_at hl 0 rfl) ?_
        refine lv_iload_n hx hb dX3_turn_43 rfl (lv_at hl 1 rfl) ?_
        refine z_go 0 0 (z_runV (As := [.int (iI ((a : Nat) : Int))]) (rest := []) hC hml hl.1 (m_X3_home hE H7 (hO.ext (zS_F hS) hMo) μ σ 0 a hH1 (by omega)) (lw_V q1682 q1684 qs40 q67 q1685) rfl nd_X3_home rfl (z_rv hC (ci := 2) rfl hH1.2.2.1.1 rfl) rfl (Nat.le_of_ble_eq_true rfl) ⟨Nat.le_of_ble_eq_true rfl, Nat.le_of_ble_eq_true rfl⟩ ⟨zfit (k := 0) (z := 60) rfl rfl (by omega), zfit (k := 0) (z := 800) rfl rfl (by omega)⟩ dX3_turn_44) ⟨zad (k := 0) rfl (by omega), zad (k := 0) rfl (by omega)⟩ hS (fun _ z => z.elim) (fun r H9 locs hp hF hS1 => ?_)
        obtain ⟨_, rfl, rfl⟩ := hp
        have hP := zpk hP hF
        have hP : va_P G.1 zCl ([]) H9 := hP
        have hD : va_D (zA (FM G μ σ) H0) ([]) := hD
        have hH1 : HM G s0 μ σ 0 H9 := hH1.ext0 hE hF
        have hS := hS1
        have hASt_eaσa := hH1.al (k := St_ea σ a) hea
        have hn16St_eaσa := hH1.n (k := St_ea σ a) hea
        refine lv_astore_n (lv' := [(3, .ref (μ (6, St_ea σ a, 0))), (0, .ref (μ (0, 0, 0))), (1, .int (iI ((a : Nat) : Int))), (2, .int (iI ((b : Nat) : Int)))]) hx hb dX3_turn_47 rfl hl (by decide) rfl (fun ls hl => ?_)
        refine lv_aload_n hx hb dX3_turn_48 rfl (lv_at hl 0 rfl) ?_
        refine z_get hC (k := 0) rfl in_X6 hASt_eaσa.1 (by decide) q1549 (fun _ h => h) rfl dX3_turn_49 ?_
        refine z_zne (tgt := 61) hx hb dX3_turn_52 (by decide) (by omega) (fun c10 => ?_) (fun c10 => ?_)
        · have hkd1 : St_kd σ (St_ea σ a) = 1 := by omega
          refine lv_aload_n hx hb dX3_turn_61 rfl (lv_at hl 0 rfl) ?_
          refine lv_aload_n hx hb dX3_turn_62 rfl (lv_at hl 1 rfl) ?_
          refine lv_iload_n hx hb dX3_turn_63 rfl (lv_at hl 3 rfl) ?_
          have hRb := (hH1.el (j := b) (by omega)).2
          have hVb := hH1.row (j := b) (by omega)
          rw [← hone] at hRb hVb
          refine z_go 0 0 (z_runV (As := [.int (iI ((b : Nat) : Int))]) (rest := [.ref (μ (6, St_ea σ a, 0))]) hC hml hl.1 (m_X3_row hE H9 (hO.ext (zS_F hS) hMo) μ σ 0 b hH1 (by omega)) (lw_V q1654 q1656 qs36 q67 q1657) rfl nd_X3_row rfl (z_rv hC (ci := 2) rfl hH1.2.2.1.1 rfl) rfl (Nat.le_of_ble_eq_true rfl) ⟨Nat.le_of_ble_eq_true rfl, Nat.le_of_ble_eq_true rfl⟩ ⟨zfit (k := 0) (z := 60) rfl rfl (by omega), zfit (k := 0) (z := 800) rfl rfl (by omega)⟩ dX3_turn_64) ⟨zad (k := 0) rfl (by omega), zad (k := 0) rfl (by omega)⟩ hS (fun _ z => z.elim) (fun r H11 locs hp hF hS1 => ?_)
          obtain ⟨_, rfl, rfl⟩ := hp
          have hP := zpk hP hF
          have hP : va_P G.1 zCl ([]) H11 := hP
          have hD : va_D (zA (FM G μ σ) H0) ([]) := hD
          have hH1 : HM G s0 μ σ 0 H11 := hH1.ext0 hE hF
          have hS := hS1
          have hRb := (hH1.el (j := b) (by omega)).2
          have hVb := hH1.row (j := b) (by omega)
          rw [← hone] at hRb hVb
          have hvb0 := hVb
          refine lv_iconst (v := iI 1) hx hb dX3_turn_67 rfl ?_
          have hsz9 : H0.size ≤ H11.size := hS.1
          have hUSt_eaσa := hH1.al (k := St_ea σ a) hea
          refine z_go 1 16 (z_runV (As := [.ref (μ (14, b, 0)), .int (iI 1)]) (rest := []) hC hml hl.1 (m_X6_scaled hE H11 (hO.ext (zS_F hS) hMo) μ σ 0 (St_ea σ a) (μ (14, b, 0)) (St_ev σ b) 1 hH1 hea hRb hVb (by decide)) (lw_V q1694 q1695 q1696 q82 q1697) rfl nd_X6_scaled rfl (z_rv hC (ci := 5) rfl hUSt_eaσa.1 rfl) rfl (Nat.le_of_ble_eq_true rfl) ⟨Nat.le_of_ble_eq_true rfl, Nat.le_of_ble_eq_true rfl⟩ ⟨zfit (k := 1) (z := 60) rfl rfl (by omega), zfit (k := 16) (z := 800) rfl rfl (by omega)⟩ dX3_turn_68) ⟨zad (k := 1) rfl (by omega), zad (k := 16) rfl (by omega)⟩ hS (fun _ z => z.elim) (fun r H13 locs hp hF hS1 => ?_)
          obtain ⟨qr12, rfl, hN⟩ := hp
          obtain ⟨hP, hD⟩ := zjn hP hD hS.1 hF hN
          have hP : va_P G.1 zCl ([(qr12, zI G (St_n σ (St_ea σ a)) (scV (St_p σ) 1 (St_ev σ b)))]) H13 := hP
          have hD : va_D (zA (FM G μ σ) H0) ([(qr12, zI G (St_n σ (St_ea σ a)) (scV (St_p σ) 1 (St_ev σ b)))]) := hD
          have hH1 : HM G s0 μ σ 0 H13 := hH1.ext0 hE hF
          have hS := hS1
          have hNwqr12 : H0.size ≤ qr12 := Nat.le_trans hsz9 (hN.2.2 0 _ rfl)
          have hP : va_P G.1 zCl ([(qr12, zI G (St_n σ (St_ea σ a)) (St_ev σ b))]) H13 := zcI hP 0 rfl (sc1 hp hvb0)
          have hD : va_D (zA (FM G μ σ) H0) ([(qr12, zI G (St_n σ (St_ea σ a)) (St_ev σ b))]) := hD.set (p := 0) rfl
          refine lv_astore (lv' := [(4, .ref qr12), (3, .ref (μ (6, St_ea σ a, 0))), (0, .ref (μ (0, 0, 0))), (1, .int (iI ((a : Nat) : Int))), (2, .int (iI ((b : Nat) : Int)))]) hx hb dX3_turn_71 hl (by decide) rfl (fun ls hl => ?_)
          refine lv_iconst (v := iI 0) hx hb dX3_turn_73 rfl ?_
          refine lv_istore (lv' := [(5, .int (iI 0)), (4, .ref qr12), (3, .ref (μ (6, St_ea σ a, 0))), (0, .ref (μ (0, 0, 0))), (1, .int (iI ((a : Nat) : Int))), (2, .int (iI ((b : Nat) : Int)))]) hx hb dX3_turn_74 hl (by decide) rfl (fun ls hl => ?_)
          have lp14 : ∀ (dlp14 : Nat) (i9 : Nat) (q9 : Nat), St_nm σ (St_ea σ a) - i9 = dlp14 → (i9 ≤ St_nm σ (St_ea σ a)) → (H0.size ≤ q9) → ∀ (H15 : Heap) (locs : List Loc) (ls : Array Slot), (HM G s0 μ σ 0 H15) → va_P G.1 zCl ([(q9, zI G (St_n σ (St_ea σ a)) (tuV σ (St_ea σ a) (St_ev σ b) (i9)))]) H15 → va_D (zA (FM G μ σ) H0) ([(q9, zI G (St_n σ (St_ea σ a)) (tuV σ (St_ea σ a) (St_ev σ b) (i9)))]) → va_S (zA (FM G μ σ) H0) H0 H15 locs → lv_has ls 6 [(5, .int (iI ((i9 : Nat) : Int))), (4, .ref q9), (3, .ref (μ (6, St_ea σ a, 0))), (0, .ref (μ (0, 0, 0))), (1, .int (iI ((a : Nat) : Int))), (2, .int (iI ((b : Nat) : Int)))] → W pp l ee rm_m_X3_turn ss mm args below meth cd H15 locs (1 + 8 * i9) (16 + 100 * i9) Q (F0 mm 76 ls []) := by
            intro dlp14
            induction dlp14 using Nat.strongRecOn with
            | ind dlp14 ihlp14 =>
              intro i9 q9 hdlp14 hi9 hqr H15 locs ls hH1 hP hD hS hl
              have hASt_eaσa := hH1.al (k := St_ea σ a) hea
              have hn16St_eaσa := hH1.n (k := St_ea σ a) hea
              refine lv_iload hx hb dX3_turn_76 (lv_at hl 0 rfl) ?_
              refine lv_aload_n hx hb dX3_turn_78 rfl (lv_at hl 2 rfl) ?_
              refine z_get hC (k := 4) rfl in_X6 hASt_eaσa.1 (by decide) q1557 (fun _ h => h) rfl dX3_turn_79 ?_
              obtain ⟨mdm, hLm⟩ := id hASt_eaσa.2.2.1
              refine z_go5 (1 + 8 * i9) (16 + 100 * i9) (z_runF (n := 0) (As := []) (rest := [.int (iI ((i9 : Nat) : Int))]) (ci := 8) hC hml hl.1 (m_J2_size hE H15 (hO.ext (zS_F hS) hMo) (μ (9, St_ea σ a, 0)) (St_nm σ (St_ea σ a)) (fun i => μ (15, St_ea σ a, i)) (μ (10, St_ea σ a, 0)) mdm hLm) q232 q1525 q1529 q230 q65 q1527 q1526 q1531 q1530 q1528 ⟨by decide +kernel, by decide +kernel, by decide +kernel⟩ rfl rfl rfl (z_rv hC (ci := 8) rfl hLm.1 rfl) rfl (Nat.le_of_ble_eq_true rfl) ⟨Nat.le_of_ble_eq_true rfl, Nat.le_of_ble_eq_true rfl⟩ ⟨zfit (k := 0) (z := 60) rfl rfl (by omega), zfit (k := 0) (z := 800) rfl rfl (by omega)⟩ dX3_turn_82) ⟨zad (k := 0) rfl (by omega), zad (k := 0) rfl (by omega)⟩ hS (fun _ z => z.elim) (fun r H16 locs hp hF hS1 => ?_)
              obtain ⟨_, rfl, rfl⟩ := hp
              have hP := zpk hP hF
              have hP : va_P G.1 zCl ([(q9, zI G (St_n σ (St_ea σ a)) (tuV σ (St_ea σ a) (St_ev σ b) (i9)))]) H16 := hP
              have hD : va_D (zA (FM G μ σ) H0) ([(q9, zI G (St_n σ (St_ea σ a)) (tuV σ (St_ea σ a) (St_ev σ b) (i9)))]) := hD
              have hH1 : HM G s0 μ σ 0 H16 := hH1.ext0 hE hF
              have hS := hS1
              refine z_cge (tgt := 118) hx hb dX3_turn_87 (by decide) (by omega) (fun c17 => ?_) (fun c17 => ?_)
              · have ei : i9 = St_nm σ (St_ea σ a) := by omega
                refine lv_aload_n hx hb dX3_turn_118 rfl (lv_at hl 3 rfl) ?_
                refine lv_iload_n hx hb dX3_turn_119 rfl (lv_at hl 4 rfl) ?_
                refine lv_aload hx hb dX3_turn_120 (lv_at hl 1 rfl) ?_
                have hHb := hH1
                have hRb := hP 0 _ rfl
                refine z_go (1 + 8 * i9) (16 + 100 * i9) (z_runV (As := [.int (iI ((a : Nat) : Int)), .ref q9]) (rest := []) hC hml hl.1 (m_X3_put hE H16 (hO.ext (zS_F hS) hMo) μ σ 0 a q9 (tuV σ (St_ea σ a) (St_ev σ b) (i9)) hHb (by omega) hRb (tuV_ok hp hvb0 _)) (lw_V q1671 q1673 qs39 q67 q1674) rfl nd_X3_put rfl (z_rv hC (ci := 2) rfl hHb.2.2.1.1 rfl) rfl (Nat.le_of_ble_eq_true rfl) ⟨Nat.le_of_ble_eq_true rfl, Nat.le_of_ble_eq_true rfl⟩ ⟨zfit (k := 0) (z := 60) rfl rfl (by omega), zfit (k := 0) (z := 800) rfl rfl (by omega)⟩ dX3_turn_122) ⟨zad (k := 0) rfl (by omega), zad (k := 0) rfl (by omega)⟩ hS (fun z hz => Or.inl (hz ▸ FM.in hE hh.sep (domME 13 a (Or.inl rfl) (by omega)) (by simp [rAm]))) (fun r H18 locs hp hF hS1 => ?_)
                obtain ⟨_, rfl, rfl, hm9⟩ := hp
                have hP : va_P G.1 zCl [] H18 := va_nil
                have hD : va_D (zA (FM G μ σ) H0) [] := va_nilD
                have hP : va_P G.1 zCl ([]) H18 := hP
                have hD : va_D (zA (FM G μ σ) H0) ([]) := hD
                have hS := hS1
                have hPo : PoM G s0 H0 μ σ (stEl σ a (tuV σ (St_ea σ a) (St_ev σ b) (i9))) 0 H18 := HM.put hE hO hh hHb (by omega) hF hm9 (zAt.ext hRb hF (Ne.symm (z_noArr hE (ci := 7) (t := 0) rfl (hHb.el (j := a) (by omega)).1 rfl hRb))) hqr (tuV_ok hp hvb0 _)
                exact z_iret hC hrt hlk hQ hS ⟨zle (z := 60) rfl (by omega), zle (z := 800) rfl (by omega)⟩ ⟨_, rfl, 0, stEl σ a (tuV σ (St_ea σ a) (St_ev σ b) (i9)), hPo, Or.inl ⟨rfl, ⟨a, b, ⟨by omega, by omega⟩, ⟨by omega, by omega⟩, hone, hkd1, by rw [ei], by rw [ei]⟩⟩⟩ dX3_turn_125
              · have hASt_eaσa := hH1.al (k := St_ea σ a) hea
                have hn16St_eaσa := hH1.n (k := St_ea σ a) hea
                refine lv_aload_n hx hb dX3_turn_90 rfl (lv_at hl 2 rfl) ?_
                refine lv_aload_n hx hb dX3_turn_91 rfl (lv_at hl 2 rfl) ?_
                refine z_get hC (k := 4) rfl in_X6 hASt_eaσa.1 (by decide) q1557 (fun _ h => h) rfl dX3_turn_92 ?_
                refine lv_iload hx hb dX3_turn_95 (lv_at hl 0 rfl) ?_
                obtain ⟨mdm, hLm⟩ := id hASt_eaσa.2.2.1
                refine z_go5 (1 + 8 * i9) (16 + 100 * i9) (z_runF (n := 1) (As := [.int (iI ((i9 : Nat) : Int))]) (rest := [.ref (μ (6, St_ea σ a, 0))]) (ci := 8) hC hml hl.1 (m_J2_get hE H16 (hO.ext (zS_F hS) hMo) (μ (9, St_ea σ a, 0)) (St_nm σ (St_ea σ a)) (fun i => μ (15, St_ea σ a, i)) (μ (10, St_ea σ a, 0)) mdm i9 hLm (by omega)) q375 q1588 q1591 q373 q65 q1590 q1589 q1593 q1592 q1528 ⟨by decide +kernel, by decide +kernel, by decide +kernel⟩ rfl rfl rfl (z_rv hC (ci := 8) rfl hLm.1 rfl) rfl (Nat.le_of_ble_eq_true rfl) ⟨Nat.le_of_ble_eq_true rfl, Nat.le_of_ble_eq_true rfl⟩ ⟨zfit (k := 0) (z := 60) rfl rfl (by omega), zfit (k := 0) (z := 800) rfl rfl (by omega)⟩ dX3_turn_97) ⟨zad (k := 0) rfl (by omega), zad (k := 0) rfl (by omega)⟩ hS (fun _ z => z.elim) (fun r H19 locs hp hF hS1 => ?_)
                obtain ⟨_, rfl, rfl⟩ := hp
                have hP := zpk hP hF
                have hP : va_P G.1 zCl ([(q9, zI G (St_n σ (St_ea σ a)) (tuV σ (St_ea σ a) (St_ev σ b) (i9)))]) H19 := hP
                have hD : va_D (zA (FM G μ σ) H0) ([(q9, zI G (St_n σ (St_ea σ a)) (tuV σ (St_ea σ a) (St_ev σ b) (i9)))]) := hD
                have hH1 : HM G s0 μ σ 0 H19 := hH1.ext0 hE hF
                have hS := hS1
                have hASt_eaσa := hH1.al (k := St_ea σ a) hea
                have hn16St_eaσa := hH1.n (k := St_ea σ a) hea
                have hM9 := hASt_eaσa.2.2.2.2.2 i9 (by omega)
                have hmq9 := (hmr9 (St_ea σ a) hea).2.2 i9 (by omega)
                refine z_castI hC hM9 q1748 dX3_turn_102 ?_
                refine lv_aload hx hb dX3_turn_105 (lv_at hl 1 rfl) ?_
                have hsz9 : H0.size ≤ H19.size := hS.1
                have hUSt_eaσa := hH1.al (k := St_ea σ a) hea
                refine z_go ((1 + 8 * i9) + 4) ((16 + 100 * i9) + 64) (z_runV (As := [.ref (μ (15, St_ea σ a, i9)), .ref q9]) (rest := []) hC hml hl.1 (m_X6_mirrored hE H19 (hO.ext (zS_F hS) hMo) μ σ 0 (St_ea σ a) (μ (15, St_ea σ a, i9)) (St_mv σ (St_ea σ a) i9) q9 (tuV σ (St_ea σ a) (St_ev σ b) (i9))  hH1 hea hM9 hmq9.1 (hP 0 _ rfl) (tuV_ok hp hvb0 i9) hmq9.2) (lw_V q1785 q1786 q1787 q82 q1788) rfl nd_X6_mirrored rfl (z_rv hC (ci := 5) rfl hUSt_eaσa.1 rfl) rfl (Nat.le_of_ble_eq_true rfl) ⟨Nat.le_of_ble_eq_true rfl, Nat.le_of_ble_eq_true rfl⟩ ⟨zfit (k := 4) (z := 60) rfl rfl (by omega), zfit (k := 64) (z := 800) rfl rfl (by omega)⟩ dX3_turn_107) ⟨zad (k := 4) rfl (by omega), zad (k := 64) rfl (by omega)⟩ hS (fun _ z => z.elim) (fun r H21 locs hp hF hS1 => ?_)
                obtain ⟨qr20, rfl, hN⟩ := hp
                obtain ⟨hP, hD⟩ := zjn hP hD hS.1 hF hN
                have hP : va_P G.1 zCl ([(q9, zI G (St_n σ (St_ea σ a)) (tuV σ (St_ea σ a) (St_ev σ b) (i9))), (qr20, zI G (St_n σ (St_ea σ a)) (tuV σ (St_ea σ a) (St_ev σ b) (i9 + 1)))]) H21 := hP
                have hD : va_D (zA (FM G μ σ) H0) ([(q9, zI G (St_n σ (St_ea σ a)) (tuV σ (St_ea σ a) (St_ev σ b) (i9))), (qr20, zI G (St_n σ (St_ea σ a)) (tuV σ (St_ea σ a) (St_ev σ b) (i9 + 1)))]) := hD
                have hH1 : HM G s0 μ σ 0 H21 := hH1.ext0 hE hF
                have hS := hS1
                have hNwqr20 : H0.size ≤ qr20 := Nat.le_trans hsz9 (hN.2.2 0 _ rfl)
                refine lv_astore (lv' := [(4, .ref qr20), (5, .int (iI ((i9 : Nat) : Int))), (3, .ref (μ (6, St_ea σ a, 0))), (0, .ref (μ (0, 0, 0))), (1, .int (iI ((a : Nat) : Int))), (2, .int (iI ((b : Nat) : Int)))]) hx hb dX3_turn_110 hl (by decide) rfl (fun ls hl => ?_)
                refine z_iinc (z := ((i9 + 1 : Nat) : Int)) (lv' := [(5, .int (iI ((i9 + 1 : Nat) : Int))), (4, .ref qr20), (3, .ref (μ (6, St_ea σ a, 0))), (0, .ref (μ (0, 0, 0))), (1, .int (iI ((a : Nat) : Int))), (2, .int (iI ((b : Nat) : Int)))]) hx hb dX3_turn_112 hl (k := 1) rfl (by omega) (by decide) rfl (fun ls hl => ?_)
                refine lv_goto (tgt := 76) hx hb dX3_turn_115 (by decide) ?_
                exact W.widen (by omega) (by omega) (ihlp14 (St_nm σ (St_ea σ a) - (i9 + 1)) (by omega) (i9 + 1) qr20 rfl (by omega) hNwqr20 _ _ _ hH1 (hP.sub [1] rfl) (hD.sub [1] (by decide) rfl) hS hl)
          exact W.widen (by omega) (by omega) (lp14 _ 0 qr12 rfl (Nat.zero_le _) hNwqr12 _ _ _ hH1 hP hD hS hl)
        · refine lv_aload_n hx hb dX3_turn_55 rfl (lv_at hl 1 rfl) ?_
          refine lv_iconst (v := iI 3) hx hb dX3_turn_56 rfl ?_
          have hHb := hH1
          refine z_go 0 0 (z_runV (As := [.int (iI 3)]) (rest := []) hC hml hl.1 (m_X3_no hE H9 (hO.ext (zS_F hS) hMo) μ σ 0 3 hHb) (lw_V q1520 q1522 qs29 q67 q1523) rfl nd_X3_no rfl (z_rv hC (ci := 2) rfl hHb.2.2.1.1 rfl) rfl (Nat.le_of_ble_eq_true rfl) ⟨Nat.le_of_ble_eq_true rfl, Nat.le_of_ble_eq_true rfl⟩ ⟨zfit (k := 0) (z := 60) rfl rfl (by omega), zfit (k := 0) (z := 800) rfl rfl (by omega)⟩ dX3_turn_57) ⟨zad (k := 0) rfl (by omega), zad (k := 0) rfl (by omega)⟩ hS (fun z hz => Or.inl (hz ▸ FM.in hE hh.sep (domM0 0 (by omega)) (by simp [rAm]))) (fun r H22 locs hp hF hS1 => ?_)
          obtain ⟨_, rfl, rfl, hx9⟩ := hp
          have hP : va_P G.1 zCl [] H22 := va_nil
          have hD : va_D (zA (FM G μ σ) H0) [] := va_nilD
          have hP : va_P G.1 zCl ([]) H22 := hP
          have hD : va_D (zA (FM G μ σ) H0) ([]) := hD
          have hS := hS1
          have hH9 : HM G s0 μ σ ((3 : Nat) : Int) H22 := HM.thr hE hHb hF hx9
          exact z_iret hC hrt hlk hQ hS ⟨zle (z := 60) rfl (by omega), zle (z := 800) rfl (by omega)⟩ ⟨_, rfl, 3, σ, PoM.same hH9, Or.inr ⟨by decide, rfl, by decide, Or.inr ⟨rfl, inE_n (by omega), inE_n (by omega), hone, fun z9 => by have z9 : St_kd σ (St_ea σ b) = 1 := z9; rw [← hone] at z9; omega⟩⟩⟩ dX3_turn_60
      · refine lv_aload_n hx hb dX3_turn_36 rfl (lv_at hl 0 rfl) ?_
        refine lv_iconst (v := iI 2) hx hb dX3_turn_37 rfl ?_
        have hHb := hH1
        refine z_go 0 0 (z_runV (As := [.int (iI 2)]) (rest := []) hC hml hl.1 (m_X3_no hE H7 (hO.ext (zS_F hS) hMo) μ σ 0 2 hHb) (lw_V q1520 q1522 qs29 q67 q1523) rfl nd_X3_no rfl (z_rv hC (ci := 2) rfl hHb.2.2.1.1 rfl) rfl (Nat.le_of_ble_eq_true rfl) ⟨Nat.le_of_ble_eq_true rfl, Nat.le_of_ble_eq_true rfl⟩ ⟨zfit (k := 0) (z := 60) rfl rfl (by omega), zfit (k := 0) (z := 800) rfl rfl (by omega)⟩ dX3_turn_38) ⟨zad (k := 0) rfl (by omega), zad (k := 0) rfl (by omega)⟩ hS (fun z hz => Or.inl (hz ▸ FM.in hE hh.sep (domM0 0 (by omega)) (by simp [rAm]))) (fun r H23 locs hp hF hS1 => ?_)
        obtain ⟨_, rfl, rfl, hx9⟩ := hp
        have hP : va_P G.1 zCl [] H23 := va_nil
        have hD : va_D (zA (FM G μ σ) H0) [] := va_nilD
        have hP : va_P G.1 zCl ([]) H23 := hP
        have hD : va_D (zA (FM G μ σ) H0) ([]) := hD
        have hS := hS1
        have hH9 : HM G s0 μ σ ((2 : Nat) : Int) H23 := HM.thr hE hHb hF hx9
        exact z_iret hC hrt hlk hQ hS ⟨zle (z := 60) rfl (by omega), zle (z := 800) rfl (by omega)⟩ ⟨_, rfl, 2, σ, PoM.same hH9, Or.inr ⟨by decide, rfl, by decide, Or.inl (Or.inr ⟨rfl, inE_n (by omega), inE_n (by omega), fun z9 => by have h9 := hfl2.2.mpr z9.1; omega⟩)⟩⟩ dX3_turn_41
    · refine lv_aload_n hx hb dX3_turn_21 rfl (lv_at hl 0 rfl) ?_
      refine lv_iconst (v := iI 1) hx hb dX3_turn_22 rfl ?_
      have hHb := hH1
      refine z_go 0 0 (z_runV (As := [.int (iI 1)]) (rest := []) hC hml hl.1 (m_X3_no hE H5 (hO.ext (zS_F hS) hMo) μ σ 0 1 hHb) (lw_V q1520 q1522 qs29 q67 q1523) rfl nd_X3_no rfl (z_rv hC (ci := 2) rfl hHb.2.2.1.1 rfl) rfl (Nat.le_of_ble_eq_true rfl) ⟨Nat.le_of_ble_eq_true rfl, Nat.le_of_ble_eq_true rfl⟩ ⟨zfit (k := 0) (z := 60) rfl rfl (by omega), zfit (k := 0) (z := 800) rfl rfl (by omega)⟩ dX3_turn_23) ⟨zad (k := 0) rfl (by omega), zad (k := 0) rfl (by omega)⟩ hS (fun z hz => Or.inl (hz ▸ FM.in hE hh.sep (domM0 0 (by omega)) (by simp [rAm]))) (fun r H24 locs hp hF hS1 => ?_)
      obtain ⟨_, rfl, rfl, hx9⟩ := hp
      have hP : va_P G.1 zCl [] H24 := va_nil
      have hD : va_D (zA (FM G μ σ) H0) [] := va_nilD
      have hP : va_P G.1 zCl ([]) H24 := hP
      have hD : va_D (zA (FM G μ σ) H0) ([]) := hD
      have hS := hS1
      have hH9 : HM G s0 μ σ ((1 : Nat) : Int) H24 := HM.thr hE hHb hF hx9
      exact z_iret hC hrt hlk hQ hS ⟨zle (z := 60) rfl (by omega), zle (z := 800) rfl (by omega)⟩ ⟨_, rfl, 1, σ, PoM.same hH9, Or.inr ⟨by decide, rfl, by decide, Or.inl (Or.inl ⟨rfl, fun z9 => by have h9 := hfl2.2.mpr (z9.2); omega⟩)⟩⟩ dX3_turn_26

abbrev rm_m_X3_versor : Room := { frames := 4, cells := 60, slots := 800, locals := 86 }
set_option maxHeartbeats 4000000 in
theorem m_X3_versor {l : Launch} {s0 : State} {G : zG} (hE : zE l s0 G) (H0 : Heap) (hO : zO s0 H0) (μ : Ro → Nat) (σ : St) (th : Int) (i : Int) (hh : HM G s0 μ σ th H0) (hi : zi i) : zM l s0 yX3_versor cX3_versor 5 (some FieldType.int) rm_m_X3_versor [.ref (μ (0, 0, 0)), .int (iI i)] H0 (FM G μ σ) (HPM G s0 H0 μ σ [IOB, ISE] ((fun y σ' => ∃ a : Nat, (i = a ∧ a < St_ne σ) ∧ St_kd σ (St_ea σ a) = 1 ∧ σ' = stEl σ a (veV σ (St_ea σ a) (St_nm σ (St_ea σ a))) ∧ y = (szV (veV σ (St_ea σ a) (St_nm σ (St_ea σ a))) (St_n σ (St_ea σ a)) : Nat))) ((X1s σ i (fun a => St_kd σ (St_ea σ a) ≠ 1)))) := by
  refine z_met hE (by decide +kernel) (Nat.le_of_ble_eq_true rfl) ?_
  intro pp ee ss mm args below meth cd Q ls hC hml hrt hlk hnm hH hQ hS hl
  have hx := hC.x
  have hb := hC.b
  have hl : lv_has ls 5 [(0, .ref (μ (0, 0, 0))), (1, .int (iI i))] := hl
  have hP : va_P G.1 zCl [] H0 := va_nil
  have hD : va_D (zA (FM G μ σ) H0) [] := va_nilD
  have hMo : ∀ z, (FM G μ σ) z → s0.heap.size ≤ z := fun z hz => FM.ge hh.sep hz
  have hH1 := hh
  obtain ⟨hp, hna, hal, hne9, hel9, hmr9⟩ := id hh.ok
  have hp7 : 0 < St_p σ ∧ St_p σ ≤ 7 := by rcases hp with h | h | h <;> rw [h] <;> decide
  have hP : va_P G.1 zCl [((μ (0, 0, 0)), zOb 2 [.int (iI th), .int (iI (St_p σ)), .int (iI ((St_kn σ : Nat) : Int)), .ref (μ (1, 0, 0)), .ref (μ (3, 0, 0))])] H0 := zP1 hh.2.2.1.1
  have hD : va_D (zA (FM G μ σ) H0) [((μ (0, 0, 0)), zOb 2 [.int (iI th), .int (iI (St_p σ)), .int (iI ((St_kn σ : Nat) : Int)), .ref (μ (1, 0, 0)), .ref (μ (3, 0, 0))])] := zD1 (Or.inl (FM.in hE hh.sep (domM0 0 (by omega)) (by simp [rAm])))
  refine lv_aload_n hx hb dX3_versor_0 rfl (lv_at hl 0 rfl) ?_
  refine lv_iconst (v := iI 0) hx hb dX3_versor_1 rfl ?_
  refine z_putO hC hP hD hS 0 (k := 0) rfl rfl in_X3 tyX3_ok nmX3 (by decide) q1495 (fun _ h => h) rfl rfl rfl rfl (Nat.le_of_ble_eq_true rfl) (ws' := [((μ (0, 0, 0)), zOb 2 [.int (iI 0), .int (iI (St_p σ)), .int (iI ((St_kn σ : Nat) : Int)), .ref (μ (1, 0, 0)), .ref (μ (3, 0, 0))])]) rfl dX3_versor_2 (fun H1 locs hP hD hS hZ1 hZ2 => ?_)
  have hH1 : HM G s0 μ σ 0 H1 := HM.thr hE hH1 (zF.one hZ1 hZ2) (hP 0 _ rfl)
  have hP : va_P G.1 zCl [] H1 := va_nil
  have hD : va_D (zA (FM G μ σ) H0) [] := va_nilD
  refine lv_aload_n hx hb dX3_versor_5 rfl (lv_at hl 0 rfl) ?_
  refine lv_iload_n hx hb dX3_versor_6 rfl (lv_at hl 1 rfl) ?_
  refine z_go 0 0 (z_runV (As := [.int (iI i)]) (rest := []) hC hml hl.1 (m_X3_isElement hE H1 (hO.ext (zS_F hS) hMo) μ σ 0 i hH1 hi) (lw_V q1650 q1652 qs35 q67 q1653) rfl nd_X3_isElement rfl (z_rv hC (ci := 2) rfl hH1.2.2.1.1 rfl) rfl (Nat.le_of_ble_eq_true rfl) ⟨Nat.le_of_ble_eq_true rfl, Nat.le_of_ble_eq_true rfl⟩ ⟨zfit (k := 0) (z := 60) rfl rfl (by omega), zfit (k := 0) (z := 800) rfl rfl (by omega)⟩ dX3_versor_7) ⟨zad (k := 0) rfl (by omega), zad (k := 0) rfl (by omega)⟩ hS (fun _ z => z.elim) (fun r H2 locs hp hF hS1 => ?_)
  obtain ⟨_, rfl, rfl⟩ := hp
  have hP := zpk hP hF
  have hP : va_P G.1 zCl ([]) H2 := hP
  have hD : va_D (zA (FM G μ σ) H0) ([]) := hD
  have hH1 : HM G s0 μ σ 0 H2 := hH1.ext0 hE hF
  have hS := hS1
  obtain ⟨fl, hfl, hfl2⟩ : ∃ fl : Nat, fl ≤ 1 ∧ (if 0 ≤ i ∧ i < (((St_ne σ) : Nat) : Int) then (1 : Int) else 0) = fl ∧ (fl = 1 ↔ 0 ≤ i ∧ i < (((St_ne σ) : Nat) : Int)) := by by_cases h : 0 ≤ i ∧ i < (((St_ne σ) : Nat) : Int); exact ⟨1, by decide, by rw [if_pos h]; rfl, ⟨fun _ => h, fun _ => rfl⟩⟩; exact ⟨0, by decide, by rw [if_neg h]; rfl, ⟨fun z => absurd z (by decide), fun z => absurd z h⟩⟩
  refine z_top (b := ((fl : Nat) : Int)) (hfl2.1) ?_
  refine z_zne (tgt := 19) hx hb dX3_versor_10 (by decide) (by omega) (fun c3 => ?_) (fun c3 => ?_)
  · have hok9 := hfl2.2.mp (by omega)
    obtain ⟨a, rfl⟩ : ∃ a : Nat, i = a := ⟨i.toNat, by omega⟩
    have ha9 : a < St_ne σ := by omega
    have hea := hh.ea (j := a) (by omega)
    have hnm9 := (hmr9 _ hea).1
    have hkd9 := (hal _ hea).1
    refine lv_aload_n hx hb dX3_versor_19 rfl (lv_at hl 0 rfl) ?_
    refine lv_iload_n hx hb dX3_versor_20 rfl (lv_at hl 1 rfl) ?_
    refine z_go 0 0 (z_runV (As := [.int (iI ((a : Nat) : Int))]) (rest := []) hC hml hl.1 (m_X3_home hE H2 (hO.ext (zS_F hS) hMo) μ σ 0 a hH1 (by omega)) (lw_V q1682 q1684 qs40 q67 q1685) rfl nd_X3_home rfl (z_rv hC (ci := 2) rfl hH1.2.2.1.1 rfl) rfl (Nat.le_of_ble_eq_true rfl) ⟨Nat.le_of_ble_eq_true rfl, Nat.le_of_ble_eq_true rfl⟩ ⟨zfit (k := 0) (z := 60) rfl rfl (by omega), zfit (k := 0) (z := 800) rfl rfl (by omega)⟩ dX3_versor_21) ⟨zad (k := 0) rfl (by omega), zad (k := 0) rfl (by omega)⟩ hS (fun _ z => z.elim) (fun r H4 locs hp hF hS1 => ?_)
    obtain ⟨_, rfl, rfl⟩ := hp
    have hP := zpk hP hF
    have hP : va_P G.1 zCl ([]) H4 := hP
    have hD : va_D (zA (FM G μ σ) H0) ([]) := hD
    have hH1 : HM G s0 μ σ 0 H4 := hH1.ext0 hE hF
    have hS := hS1
    have hASt_eaσa := hH1.al (k := St_ea σ a) hea
    have hn16St_eaσa := hH1.n (k := St_ea σ a) hea
    refine lv_astore_n (lv' := [(2, .ref (μ (6, St_ea σ a, 0))), (0, .ref (μ (0, 0, 0))), (1, .int (iI ((a : Nat) : Int)))]) hx hb dX3_versor_24 rfl hl (by decide) rfl (fun ls hl => ?_)
    refine lv_aload_n hx hb dX3_versor_25 rfl (lv_at hl 0 rfl) ?_
    refine z_get hC (k := 0) rfl in_X6 hASt_eaσa.1 (by decide) q1549 (fun _ h => h) rfl dX3_versor_26 ?_
    refine z_zne (tgt := 38) hx hb dX3_versor_29 (by decide) (by omega) (fun c5 => ?_) (fun c5 => ?_)
    · have hkd1 : St_kd σ (St_ea σ a) = 1 := by omega
      refine lv_aload_n hx hb dX3_versor_38 rfl (lv_at hl 0 rfl) ?_
      have hsz9 : H0.size ≤ H4.size := hS.1
      have hUSt_eaσa := hH1.al (k := St_ea σ a) hea
      refine z_go 1 16 (z_runV (As := []) (rest := []) hC hml hl.1 (m_X6_one hE H4 (hO.ext (zS_F hS) hMo) μ σ 0 (St_ea σ a)  hH1 hea ) (lw_V q1738 q1715 q1716 q82 q1717) rfl nd_X6_one rfl (z_rv hC (ci := 5) rfl hUSt_eaσa.1 rfl) rfl (Nat.le_of_ble_eq_true rfl) ⟨Nat.le_of_ble_eq_true rfl, Nat.le_of_ble_eq_true rfl⟩ ⟨zfit (k := 1) (z := 60) rfl rfl (by omega), zfit (k := 16) (z := 800) rfl rfl (by omega)⟩ dX3_versor_39) ⟨zad (k := 1) rfl (by omega), zad (k := 16) rfl (by omega)⟩ hS (fun _ z => z.elim) (fun r H7 locs hp hF hS1 => ?_)
      obtain ⟨qr6, rfl, hN⟩ := hp
      obtain ⟨hP, hD⟩ := zjn hP hD hS.1 hF hN
      have hP : va_P G.1 zCl ([(qr6, zI G (St_n σ (St_ea σ a)) oneV)]) H7 := hP
      have hD : va_D (zA (FM G μ σ) H0) ([(qr6, zI G (St_n σ (St_ea σ a)) oneV)]) := hD
      have hH1 : HM G s0 μ σ 0 H7 := hH1.ext0 hE hF
      have hS := hS1
      have hNwqr6 : H0.size ≤ qr6 := Nat.le_trans hsz9 (hN.2.2 0 _ rfl)
      refine lv_astore_n (lv' := [(3, .ref qr6), (2, .ref (μ (6, St_ea σ a, 0))), (0, .ref (μ (0, 0, 0))), (1, .int (iI ((a : Nat) : Int)))]) hx hb dX3_versor_42 rfl hl (by decide) rfl (fun ls hl => ?_)
      refine lv_iconst (v := iI 0) hx hb dX3_versor_43 rfl ?_
      refine lv_istore (lv' := [(4, .int (iI 0)), (3, .ref qr6), (2, .ref (μ (6, St_ea σ a, 0))), (0, .ref (μ (0, 0, 0))), (1, .int (iI ((a : Nat) : Int)))]) hx hb dX3_versor_44 hl (by decide) rfl (fun ls hl => ?_)
      have lp8 : ∀ (dlp8 : Nat) (i9 : Nat) (q9 : Nat), St_nm σ (St_ea σ a) - i9 = dlp8 → (i9 ≤ St_nm σ (St_ea σ a)) → (H0.size ≤ q9) → ∀ (H9 : Heap) (locs : List Loc) (ls : Array Slot), (HM G s0 μ σ 0 H9) → va_P G.1 zCl ([(q9, zI G (St_n σ (St_ea σ a)) (veV σ (St_ea σ a) (i9)))]) H9 → va_D (zA (FM G μ σ) H0) ([(q9, zI G (St_n σ (St_ea σ a)) (veV σ (St_ea σ a) (i9)))]) → va_S (zA (FM G μ σ) H0) H0 H9 locs → lv_has ls 5 [(4, .int (iI ((i9 : Nat) : Int))), (3, .ref q9), (2, .ref (μ (6, St_ea σ a, 0))), (0, .ref (μ (0, 0, 0))), (1, .int (iI ((a : Nat) : Int)))] → W pp l ee rm_m_X3_versor ss mm args below meth cd H9 locs (1 + 8 * i9) (16 + 100 * i9) Q (F0 mm 46 ls []) := by
        intro dlp8
        induction dlp8 using Nat.strongRecOn with
        | ind dlp8 ihlp8 =>
          intro i9 q9 hdlp8 hi9 hqr H9 locs ls hH1 hP hD hS hl
          have hASt_eaσa := hH1.al (k := St_ea σ a) hea
          have hn16St_eaσa := hH1.n (k := St_ea σ a) hea
          refine lv_iload hx hb dX3_versor_46 (lv_at hl 0 rfl) ?_
          refine lv_aload_n hx hb dX3_versor_48 rfl (lv_at hl 2 rfl) ?_
          refine z_get hC (k := 4) rfl in_X6 hASt_eaσa.1 (by decide) q1557 (fun _ h => h) rfl dX3_versor_49 ?_
          obtain ⟨mdm, hLm⟩ := id hASt_eaσa.2.2.1
          refine z_go5 (1 + 8 * i9) (16 + 100 * i9) (z_runF (n := 0) (As := []) (rest := [.int (iI ((i9 : Nat) : Int))]) (ci := 8) hC hml hl.1 (m_J2_size hE H9 (hO.ext (zS_F hS) hMo) (μ (9, St_ea σ a, 0)) (St_nm σ (St_ea σ a)) (fun i => μ (15, St_ea σ a, i)) (μ (10, St_ea σ a, 0)) mdm hLm) q232 q1525 q1529 q230 q65 q1527 q1526 q1531 q1530 q1528 ⟨by decide +kernel, by decide +kernel, by decide +kernel⟩ rfl rfl rfl (z_rv hC (ci := 8) rfl hLm.1 rfl) rfl (Nat.le_of_ble_eq_true rfl) ⟨Nat.le_of_ble_eq_true rfl, Nat.le_of_ble_eq_true rfl⟩ ⟨zfit (k := 0) (z := 60) rfl rfl (by omega), zfit (k := 0) (z := 800) rfl rfl (by omega)⟩ dX3_versor_52) ⟨zad (k := 0) rfl (by omega), zad (k := 0) rfl (by omega)⟩ hS (fun _ z => z.elim) (fun r H10 locs hp hF hS1 => ?_)
          obtain ⟨_, rfl, rfl⟩ := hp
          have hP := zpk hP hF
          have hP : va_P G.1 zCl ([(q9, zI G (St_n σ (St_ea σ a)) (veV σ (St_ea σ a) (i9)))]) H10 := hP
          have hD : va_D (zA (FM G μ σ) H0) ([(q9, zI G (St_n σ (St_ea σ a)) (veV σ (St_ea σ a) (i9)))]) := hD
          have hH1 : HM G s0 μ σ 0 H10 := hH1.ext0 hE hF
          have hS := hS1
          refine z_cge (tgt := 86) hx hb dX3_versor_57 (by decide) (by omega) (fun c11 => ?_) (fun c11 => ?_)
          · have ei : i9 = St_nm σ (St_ea σ a) := by omega
            refine lv_aload_n hx hb dX3_versor_86 rfl (lv_at hl 3 rfl) ?_
            refine lv_iload_n hx hb dX3_versor_87 rfl (lv_at hl 4 rfl) ?_
            refine lv_aload_n hx hb dX3_versor_88 rfl (lv_at hl 1 rfl) ?_
            have hHb := hH1
            have hRb := hP 0 _ rfl
            refine z_go (1 + 8 * i9) (16 + 100 * i9) (z_runV (As := [.int (iI ((a : Nat) : Int)), .ref q9]) (rest := []) hC hml hl.1 (m_X3_put hE H10 (hO.ext (zS_F hS) hMo) μ σ 0 a q9 (veV σ (St_ea σ a) (i9)) hHb (by omega) hRb (veV_ok hp _)) (lw_V q1671 q1673 qs39 q67 q1674) rfl nd_X3_put rfl (z_rv hC (ci := 2) rfl hHb.2.2.1.1 rfl) rfl (Nat.le_of_ble_eq_true rfl) ⟨Nat.le_of_ble_eq_true rfl, Nat.le_of_ble_eq_true rfl⟩ ⟨zfit (k := 0) (z := 60) rfl rfl (by omega), zfit (k := 0) (z := 800) rfl rfl (by omega)⟩ dX3_versor_89) ⟨zad (k := 0) rfl (by omega), zad (k := 0) rfl (by omega)⟩ hS (fun z hz => Or.inl (hz ▸ FM.in hE hh.sep (domME 13 a (Or.inl rfl) (by omega)) (by simp [rAm]))) (fun r H12 locs hp hF hS1 => ?_)
            obtain ⟨_, rfl, rfl, hm9⟩ := hp
            have hP : va_P G.1 zCl [] H12 := va_nil
            have hD : va_D (zA (FM G μ σ) H0) [] := va_nilD
            have hP : va_P G.1 zCl ([]) H12 := hP
            have hD : va_D (zA (FM G μ σ) H0) ([]) := hD
            have hS := hS1
            have hPo : PoM G s0 H0 μ σ (stEl σ a (veV σ (St_ea σ a) (i9))) 0 H12 := HM.put hE hO hh hHb (by omega) hF hm9 (zAt.ext hRb hF (Ne.symm (z_noArr hE (ci := 7) (t := 0) rfl (hHb.el (j := a) (by omega)).1 rfl hRb))) hqr (veV_ok hp _)
            exact z_iret hC hrt hlk hQ hS ⟨zle (z := 60) rfl (by omega), zle (z := 800) rfl (by omega)⟩ ⟨_, rfl, 0, stEl σ a (veV σ (St_ea σ a) (i9)), hPo, Or.inl ⟨rfl, ⟨a, ⟨by omega, by omega⟩, hkd1, by rw [ei], by rw [ei]⟩⟩⟩ dX3_versor_92
          · have hASt_eaσa := hH1.al (k := St_ea σ a) hea
            have hn16St_eaσa := hH1.n (k := St_ea σ a) hea
            refine lv_aload_n hx hb dX3_versor_60 rfl (lv_at hl 2 rfl) ?_
            refine lv_aload_n hx hb dX3_versor_61 rfl (lv_at hl 2 rfl) ?_
            refine z_get hC (k := 4) rfl in_X6 hASt_eaσa.1 (by decide) q1557 (fun _ h => h) rfl dX3_versor_62 ?_
            refine lv_iload hx hb dX3_versor_65 (lv_at hl 0 rfl) ?_
            obtain ⟨mdm, hLm⟩ := id hASt_eaσa.2.2.1
            refine z_go5 (1 + 8 * i9) (16 + 100 * i9) (z_runF (n := 1) (As := [.int (iI ((i9 : Nat) : Int))]) (rest := [.ref (μ (6, St_ea σ a, 0))]) (ci := 8) hC hml hl.1 (m_J2_get hE H10 (hO.ext (zS_F hS) hMo) (μ (9, St_ea σ a, 0)) (St_nm σ (St_ea σ a)) (fun i => μ (15, St_ea σ a, i)) (μ (10, St_ea σ a, 0)) mdm i9 hLm (by omega)) q375 q1588 q1591 q373 q65 q1590 q1589 q1593 q1592 q1528 ⟨by decide +kernel, by decide +kernel, by decide +kernel⟩ rfl rfl rfl (z_rv hC (ci := 8) rfl hLm.1 rfl) rfl (Nat.le_of_ble_eq_true rfl) ⟨Nat.le_of_ble_eq_true rfl, Nat.le_of_ble_eq_true rfl⟩ ⟨zfit (k := 0) (z := 60) rfl rfl (by omega), zfit (k := 0) (z := 800) rfl rfl (by omega)⟩ dX3_versor_67) ⟨zad (k := 0) rfl (by omega), zad (k := 0) rfl (by omega)⟩ hS (fun _ z => z.elim) (fun r H13 locs hp hF hS1 => ?_)
            obtain ⟨_, rfl, rfl⟩ := hp
            have hP := zpk hP hF
            have hP : va_P G.1 zCl ([(q9, zI G (St_n σ (St_ea σ a)) (veV σ (St_ea σ a) (i9)))]) H13 := hP
            have hD : va_D (zA (FM G μ σ) H0) ([(q9, zI G (St_n σ (St_ea σ a)) (veV σ (St_ea σ a) (i9)))]) := hD
            have hH1 : HM G s0 μ σ 0 H13 := hH1.ext0 hE hF
            have hS := hS1
            have hASt_eaσa := hH1.al (k := St_ea σ a) hea
            have hn16St_eaσa := hH1.n (k := St_ea σ a) hea
            have hM9 := hASt_eaσa.2.2.2.2.2 i9 (by omega)
            have hmq9 := (hmr9 (St_ea σ a) hea).2.2 i9 (by omega)
            refine z_castI hC hM9 q1748 dX3_versor_72 ?_
            refine lv_aload_n hx hb dX3_versor_75 rfl (lv_at hl 1 rfl) ?_
            have hsz9 : H0.size ≤ H13.size := hS.1
            have hUSt_eaσa := hH1.al (k := St_ea σ a) hea
            refine z_go ((1 + 8 * i9) + 1) ((16 + 100 * i9) + 16) (z_runV (As := [.ref (μ (15, St_ea σ a, i9)), .ref q9]) (rest := []) hC hml hl.1 (m_X6_times hE H13 (hO.ext (zS_F hS) hMo) μ σ 0 (St_ea σ a) (μ (15, St_ea σ a, i9)) (St_mv σ (St_ea σ a) i9) q9 (veV σ (St_ea σ a) (i9))  hH1 hea hM9 hmq9.1 (hP 0 _ rfl) (veV_ok hp i9) ) (lw_V q1686 q1687 q1688 q82 q1689) rfl nd_X6_times rfl (z_rv hC (ci := 5) rfl hUSt_eaσa.1 rfl) rfl (Nat.le_of_ble_eq_true rfl) ⟨Nat.le_of_ble_eq_true rfl, Nat.le_of_ble_eq_true rfl⟩ ⟨zfit (k := 1) (z := 60) rfl rfl (by omega), zfit (k := 16) (z := 800) rfl rfl (by omega)⟩ dX3_versor_76) ⟨zad (k := 1) rfl (by omega), zad (k := 16) rfl (by omega)⟩ hS (fun _ z => z.elim) (fun r H15 locs hp hF hS1 => ?_)
            obtain ⟨qr14, rfl, hN⟩ := hp
            obtain ⟨hP, hD⟩ := zjn hP hD hS.1 hF hN
            have hP : va_P G.1 zCl ([(q9, zI G (St_n σ (St_ea σ a)) (veV σ (St_ea σ a) (i9))), (qr14, zI G (St_n σ (St_ea σ a)) (veV σ (St_ea σ a) (i9 + 1)))]) H15 := hP
            have hD : va_D (zA (FM G μ σ) H0) ([(q9, zI G (St_n σ (St_ea σ a)) (veV σ (St_ea σ a) (i9))), (qr14, zI G (St_n σ (St_ea σ a)) (veV σ (St_ea σ a) (i9 + 1)))]) := hD
            have hH1 : HM G s0 μ σ 0 H15 := hH1.ext0 hE hF
            have hS := hS1
            have hNwqr14 : H0.size ≤ qr14 := Nat.le_trans hsz9 (hN.2.2 0 _ rfl)
            refine lv_astore_n (lv' := [(3, .ref qr14), (4, .int (iI ((i9 : Nat) : Int))), (2, .ref (μ (6, St_ea σ a, 0))), (0, .ref (μ (0, 0, 0))), (1, .int (iI ((a : Nat) : Int)))]) hx hb dX3_versor_79 rfl hl (by decide) rfl (fun ls hl => ?_)
            refine z_iinc (z := ((i9 + 1 : Nat) : Int)) (lv' := [(4, .int (iI ((i9 + 1 : Nat) : Int))), (3, .ref qr14), (2, .ref (μ (6, St_ea σ a, 0))), (0, .ref (μ (0, 0, 0))), (1, .int (iI ((a : Nat) : Int)))]) hx hb dX3_versor_80 hl (k := 1) rfl (by omega) (by decide) rfl (fun ls hl => ?_)
            refine lv_goto (tgt := 46) hx hb dX3_versor_83 (by decide) ?_
            exact W.widen (by omega) (by omega) (ihlp8 (St_nm σ (St_ea σ a) - (i9 + 1)) (by omega) (i9 + 1) qr14 rfl (by omega) hNwqr14 _ _ _ hH1 (hP.sub [1] rfl) (hD.sub [1] (by decide) rfl) hS hl)
      exact W.widen (by omega) (by omega) (lp8 _ 0 qr6 rfl (Nat.zero_le _) hNwqr6 _ _ _ hH1 hP hD hS hl)
    · refine lv_aload_n hx hb dX3_versor_32 rfl (lv_at hl 1 rfl) ?_
      refine lv_iconst (v := iI 2) hx hb dX3_versor_33 rfl ?_
      have hHb := hH1
      refine z_go 0 0 (z_runV (As := [.int (iI 2)]) (rest := []) hC hml hl.1 (m_X3_no hE H4 (hO.ext (zS_F hS) hMo) μ σ 0 2 hHb) (lw_V q1520 q1522 qs29 q67 q1523) rfl nd_X3_no rfl (z_rv hC (ci := 2) rfl hHb.2.2.1.1 rfl) rfl (Nat.le_of_ble_eq_true rfl) ⟨Nat.le_of_ble_eq_true rfl, Nat.le_of_ble_eq_true rfl⟩ ⟨zfit (k := 0) (z := 60) rfl rfl (by omega), zfit (k := 0) (z := 800) rfl rfl (by omega)⟩ dX3_versor_34) ⟨zad (k := 0) rfl (by omega), zad (k := 0) rfl (by omega)⟩ hS (fun z hz => Or.inl (hz ▸ FM.in hE hh.sep (domM0 0 (by omega)) (by simp [rAm]))) (fun r H16 locs hp hF hS1 => ?_)
      obtain ⟨_, rfl, rfl, hx9⟩ := hp
      have hP : va_P G.1 zCl [] H16 := va_nil
      have hD : va_D (zA (FM G μ σ) H0) [] := va_nilD
      have hP : va_P G.1 zCl ([]) H16 := hP
      have hD : va_D (zA (FM G μ σ) H0) ([]) := hD
      have hS := hS1
      have hH9 : HM G s0 μ σ ((2 : Nat) : Int) H16 := HM.thr hE hHb hF hx9
      exact z_iret hC hrt hlk hQ hS ⟨zle (z := 60) rfl (by omega), zle (z := 800) rfl (by omega)⟩ ⟨_, rfl, 2, σ, PoM.same hH9, Or.inr ⟨by decide, rfl, by decide, Or.inr ⟨rfl, inE_n (by omega), fun z9 => by have z9 : St_kd σ (St_ea σ a) = 1 := z9; omega⟩⟩⟩ dX3_versor_37
  · refine lv_aload_n hx hb dX3_versor_13 rfl (lv_at hl 0 rfl) ?_
    refine lv_iconst (v := iI 1) hx hb dX3_versor_14 rfl ?_
    have hHb := hH1
    refine z_go 0 0 (z_runV (As := [.int (iI 1)]) (rest := []) hC hml hl.1 (m_X3_no hE H2 (hO.ext (zS_F hS) hMo) μ σ 0 1 hHb) (lw_V q1520 q1522 qs29 q67 q1523) rfl nd_X3_no rfl (z_rv hC (ci := 2) rfl hHb.2.2.1.1 rfl) rfl (Nat.le_of_ble_eq_true rfl) ⟨Nat.le_of_ble_eq_true rfl, Nat.le_of_ble_eq_true rfl⟩ ⟨zfit (k := 0) (z := 60) rfl rfl (by omega), zfit (k := 0) (z := 800) rfl rfl (by omega)⟩ dX3_versor_15) ⟨zad (k := 0) rfl (by omega), zad (k := 0) rfl (by omega)⟩ hS (fun z hz => Or.inl (hz ▸ FM.in hE hh.sep (domM0 0 (by omega)) (by simp [rAm]))) (fun r H17 locs hp hF hS1 => ?_)
    obtain ⟨_, rfl, rfl, hx9⟩ := hp
    have hP : va_P G.1 zCl [] H17 := va_nil
    have hD : va_D (zA (FM G μ σ) H0) [] := va_nilD
    have hP : va_P G.1 zCl ([]) H17 := hP
    have hD : va_D (zA (FM G μ σ) H0) ([]) := hD
    have hS := hS1
    have hH9 : HM G s0 μ σ ((1 : Nat) : Int) H17 := HM.thr hE hHb hF hx9
    exact z_iret hC hrt hlk hQ hS ⟨zle (z := 60) rfl (by omega), zle (z := 800) rfl (by omega)⟩ ⟨_, rfl, 1, σ, PoM.same hH9, Or.inr ⟨by decide, rfl, by decide, Or.inl ⟨rfl, fun z9 => by have h9 := hfl2.2.mpr (z9); omega⟩⟩⟩ dX3_versor_18

