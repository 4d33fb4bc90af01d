/-! THE HOUSE: match, scaleOf -/
set_option maxRecDepth 100000
theorem fsI_or {g : Nat → Int} : ∀ {f k : Nat}, fsI g f k = -1 ∨ ∃ t, k ≤ t ∧ t < k + f ∧ fsI g f k = g t
  | 0, _ => Or.inl rfl
  | f + 1, k => by
    simp only [fsI]
    by_cases h : g k = -1
    · rw [if_pos h]
      rcases fsI_or (g := g) (f := f) (k := k + 1) with e | ⟨t, h1, h2, h3⟩
      · exact Or.inl e
      · exact Or.inr ⟨t, by omega, by omega, h3⟩
    · rw [if_neg h]
      exact Or.inr ⟨k, by omega, by omega, rfl⟩
/-- an order's digits -/
theorem mfV_dg {p : Int} {d : Nat} {da db : Nat → Int} (hd : d ≤ 4) : ∀ {r f u o : Nat}, mfV p d da db r f u o = -1 ∨ ∃ w : Nat, mfV p d da db r f u o = w ∧ w / 10 ^ r = o ∧ ∀ i, i < r → w / 10 ^ i % 10 < d
  | 0, _, _, o => by
    simp only [mfV]
    exact Or.inr ⟨o, rfl, by simp, fun i hi => by omega⟩
  | r + 1, f, u, o => by
    simp only [mfV]
    rcases fsI_or (g := fun t => if u / 2 ^ t % 2 = 1 ∨ scN p (da f) (db t) = -1 then -1 else mfV p d da db r (f + 1) (u ||| 2 ^ t) (10 * o + t)) (f := d) (k := 0) with e | ⟨t, h1, h2, h3⟩
    · exact Or.inl e
    · rw [h3]
      by_cases c : u / 2 ^ t % 2 = 1 ∨ scN p (da f) (db t) = -1
      · left; rw [if_pos c]
      · rw [if_neg c]
        rcases mfV_dg (p := p) (d := d) (da := da) (db := db) hd (r := r) (f := f + 1) (u := u ||| 2 ^ t) (o := 10 * o + t) with e | ⟨w, e1, e2, e3⟩
        · exact Or.inl e
        · refine Or.inr ⟨w, e1, ?_, fun i hi => ?_⟩
          · rw [Nat.pow_succ, ← Nat.div_div_eq_div_mul, e2]; omega
          · by_cases c2 : i = r
            · subst c2; rw [e2]; omega
            · exact e3 i (by omega)
def mnw (σ : St) (k k2 : Nat) : Int := if St_kd σ k = 1 ∧ St_kd σ k2 = 1 ∧ St_d σ k = St_d σ k2 then mfV (St_p σ) (St_d σ k) (St_dv σ k) (St_dv σ k2) (St_d σ k) 0 0 0 else -1
theorem mnw_no {σ : St} {k k2 : Nat} (h : ¬ (St_kd σ k = 1 ∧ St_kd σ k2 = 1 ∧ St_d σ k = St_d σ k2)) : mnw σ k k2 = -1 := if_neg h
theorem mnw_ye {σ : St} {k k2 r : Nat} (h : St_kd σ k = 1 ∧ St_kd σ k2 = 1 ∧ St_d σ k = St_d σ k2) (hr : St_d σ k = r) : mnw σ k k2 = mfV (St_p σ) (St_d σ k) (St_dv σ k) (St_dv σ k2) r 0 0 0 := by
  unfold mnw; rw [if_pos h, ← hr]
/-- what is known of an order -/
theorem mnw_dg {σ : St} {k k2 : Nat} (hd : St_d σ k ≤ 4) : mnw σ k k2 = -1 ∨ (St_d σ k = St_d σ k2 ∧ ∃ w : Nat, mnw σ k k2 = w ∧ w < 10000 ∧ ∀ i, i < St_d σ k → w / 10 ^ i % 10 < St_d σ k) := by
  by_cases h : St_kd σ k = 1 ∧ St_kd σ k2 = 1 ∧ St_d σ k = St_d σ k2
  · unfold mnw; rw [if_pos h]
    rcases mfV_dg (p := St_p σ) (da := St_dv σ k) (db := St_dv σ k2) hd (r := St_d σ k) (f := 0) (u := 0) (o := 0) with e | ⟨w, e1, e2, e3⟩
    · exact Or.inl e
    · refine Or.inr ⟨h.2.2, w, e1, ?_, e3⟩
      have h10 : 10 ^ St_d σ k ≤ 10000 := Nat.le_trans (Nat.pow_le_pow_right (by decide) hd) (by decide)
      have := (Nat.div_eq_zero_iff).mp e2
      rcases this with z | z
      · have : 0 < 10 ^ St_d σ k := Nat.pow_pos (by decide)
        omega
      · omega
  · exact Or.inl (mnw_no h)
def soV (σ : St) (k k2 : Nat) (g : Int) : Int := if mnw σ k k2 = -1 ∨ ¬ (0 ≤ g ∧ g < (St_d σ k : Nat)) then -1 else scN (St_p σ) (St_dv σ k g.toNat) (St_dv σ k2 ((mnw σ k k2).toNat / 10 ^ (St_d σ k - 1 - g.toNat) % 10))
theorem pw_div {w d kk : Nat} (h : kk < d) (h0 : 0 < kk) : w / 10 ^ (d - 1 - kk) / 10 = w / 10 ^ (d - 1 - (kk - 1)) := by
  rw [Nat.div_div_eq_div_mul, ← Nat.pow_succ, show d - 1 - (kk - 1) = (d - 1 - kk).succ by omega]
abbrev rm_m_X1_matchNow : Room := { frames := 7, cells := 0, slots := 0, locals := 174 }
set_option maxHeartbeats 4000000 in
theorem m_X1_matchNow {l : Launch} {s0 : State} {G : zG} (hE : zE l s0 G) (H0 : Heap) (hO : zO s0 H0) (ρ : Ro → Nat) (σ : St) (k k2 : Nat) (hh : HC G s0 ρ σ H0) (hk : k < St_na σ ∧ k2 < St_na σ) : zM l s0 yX1_matchNow cX1_matchNow 3 (some FieldType.int) rm_m_X1_matchNow [.ref (ρ (0, 0, 0)), .ref (ρ (6, k, 0)), .ref (ρ (6, k2, 0))] H0 M0 (ri (fun y _ => y = mnw σ k k2)) := by
  refine z_met hE (by decide +kernel) (Nat.le_of_ble_eq_true rfl) ?_
  intro pp ee ss mm args below meth cd Q ls hC hml hrt hlk hnm hH hQ hS hl
  have hx := hC.x
  have hb := hC.b
  have hl : lv_has ls 3 [(0, .ref (ρ (0, 0, 0))), (1, .ref (ρ (6, k, 0))), (2, .ref (ρ (6, k2, 0)))] := hl
  have hP : va_P G.1 zCl [] H0 := va_nil
  have hD : va_D (zA M0 H0) [] := va_nilD
  have hH1 := hh
  obtain ⟨hp, hna, hal, hne9, hel9, hmr9⟩ := id hh.ok
  have hp7 : 0 < St_p σ ∧ St_p σ ≤ 7 := by rcases hp with h | h | h <;> rw [h] <;> decide
  obtain ⟨sm9, -⟩ := id hh.2.2.1.1
  have hd4 := (hal k hk.1).2.1
  have hd42 := (hal k2 hk.2).2.1
  have hkk := hH1.2.2.2.1 k (by omega)
  have hAk := hH1.ag (k := k) (by omega)
  obtain ⟨hn16k, -⟩ := hAk.n
  have halk := hal k (by omega)
  refine lv_aload_n hx hb dX1_matchNow_0 rfl (lv_at hl 1 rfl) ?_
  refine z_go 0 0 (z_runV (As := []) (rest := []) hC hml hl.1 (m_X5_isBlades hE H0 (hO.ext0 (zS_F hS)) (ρ (0, 0, 0)) (ρ (6, k, 0)) (St_p σ) (St_d σ k) (St_n σ k) (St_kd σ k) (St_dv σ k) (St_sg σ k)  (hH1.ag (k := k) (by omega)) ) (lw_V q434 q435 q436 q74 q437) rfl nd_X5_isBlades rfl (z_rv hC (ci := 4) rfl hkk.1 rfl) rfl (Nat.le_of_ble_eq_true rfl) ⟨Nat.le_of_ble_eq_true rfl, Nat.le_of_ble_eq_true rfl⟩ ⟨zfit (k := 0) (z := 0) rfl rfl (by omega), zfit (k := 0) (z := 0) rfl rfl (by omega)⟩ dX1_matchNow_1) ⟨zad (k := 0) rfl (by omega), zad (k := 0) rfl (by omega)⟩ hS (fun _ z => z.elim) (fun r H1 locs hp hF hS1 => ?_)
  obtain ⟨_, rfl, rfl⟩ := hp
  have hP := zpk hP hF
  have hP : va_P G.1 zCl ([]) H1 := hP
  have hD : va_D (zA M0 H0) ([]) := hD
  have hH1 : HC G s0 ρ σ H1 := hH1.ext0 hE hF
  have hS := hS1
  obtain ⟨fl, hfl, hfl2⟩ : ∃ fl : Nat, fl ≤ 1 ∧ (if St_kd σ k = 1 then (1 : Int) else 0) = fl ∧ (fl = 1 ↔ St_kd σ k = 1) := by by_cases h : St_kd σ k = 1; exact ⟨1, by decide, by rw [if_pos h]; rfl, by simp [h]⟩; exact ⟨0, by decide, by rw [if_neg h]; rfl, by simp [h]⟩
  refine z_top (b := ((fl : Nat) : Int)) (hfl2.1) ?_
  refine z_zeq (tgt := 31) hx hb dX1_matchNow_4 (by decide) (by omega) (fun c2 => ?_) (fun c2 => ?_)
  · refine lv_iconst (v := iI (-1)) hx hb dX1_matchNow_31 rfl ?_
    exact z_iret hC hrt hlk hQ hS ⟨zle (z := 0) rfl (by omega), zle (z := 0) rfl (by omega)⟩ ⟨_, rfl, (mnw_no (by omega)).symm⟩ dX1_matchNow_32
  · have hkk2 := hH1.2.2.2.1 k2 (by omega)
    have hAk2 := hH1.ag (k := k2) (by omega)
    obtain ⟨hn16k2, -⟩ := hAk2.n
    have halk2 := hal k2 (by omega)
    refine lv_aload_n hx hb dX1_matchNow_7 rfl (lv_at hl 2 rfl) ?_
    refine z_go 0 0 (z_runV (As := []) (rest := []) hC hml hl.1 (m_X5_isBlades hE H1 (hO.ext0 (zS_F hS)) (ρ (0, 0, 0)) (ρ (6, k2, 0)) (St_p σ) (St_d σ k2) (St_n σ k2) (St_kd σ k2) (St_dv σ k2) (St_sg σ k2)  (hH1.ag (k := k2) (by omega)) ) (lw_V q434 q435 q436 q74 q437) rfl nd_X5_isBlades rfl (z_rv hC (ci := 4) rfl hkk2.1 rfl) rfl (Nat.le_of_ble_eq_true rfl) ⟨Nat.le_of_ble_eq_true rfl, Nat.le_of_ble_eq_true rfl⟩ ⟨zfit (k := 0) (z := 0) rfl rfl (by omega), zfit (k := 0) (z := 0) rfl rfl (by omega)⟩ dX1_matchNow_8) ⟨zad (k := 0) rfl (by omega), zad (k := 0) rfl (by omega)⟩ hS (fun _ z => z.elim) (fun r H3 locs hp hF hS1 => ?_)
    obtain ⟨_, rfl, rfl⟩ := hp
    have hP := zpk hP hF
    have hP : va_P G.1 zCl ([]) H3 := hP
    have hD : va_D (zA M0 H0) ([]) := hD
    have hH1 : HC G s0 ρ σ H3 := hH1.ext0 hE hF
    have hS := hS1
    obtain ⟨fl, hfl, hfl2⟩ : ∃ fl : Nat, fl ≤ 1 ∧ (if St_kd σ k2 = 1 then (1 : Int) else 0) = fl ∧ (fl = 1 ↔ St_kd σ k2 = 1) := by by_cases h : St_kd σ k2 = 1; exact ⟨1, by decide, by rw [if_pos h]; rfl, by simp [h]⟩; exact ⟨0, by decide, by rw [if_neg h]; rfl, by simp [h]⟩
    refine z_top (b := ((fl : Nat) : Int)) (hfl2.1) ?_
    refine z_zeq (tgt := 31) hx hb dX1_matchNow_11 (by decide) (by omega) (fun c4 => ?_) (fun c4 => ?_)
    · refine lv_iconst (v := iI (-1)) hx hb dX1_matchNow_31 rfl ?_
      exact z_iret hC hrt hlk hQ hS ⟨zle (z := 0) rfl (by omega), zle (z := 0) rfl (by omega)⟩ ⟨_, rfl, (mnw_no (by omega)).symm⟩ dX1_matchNow_32
    · have hkk := hH1.2.2.2.1 k (by omega)
      have hAk := hH1.ag (k := k) (by omega)
      obtain ⟨hn16k, -⟩ := hAk.n
      have halk := hal k (by omega)
      refine lv_aload_n hx hb dX1_matchNow_14 rfl (lv_at hl 1 rfl) ?_
      refine z_getn hC (k := 1) rfl in_X5 hkk.1 (by decide) q959 (fun _ h => h) rfl dX1_matchNow_15 ?_
      obtain ⟨md9, hL9⟩ := id (hH1.2.2.2.1 k (by omega)).2.1
      refine z_go 0 0 (z_runV (As := []) (rest := []) hC hml hl.1 (m_J2_size hE H3 (hO.ext0 (zS_F hS)) (ρ (7, k, 0)) (St_d σ k) (fun i => G.2 (1000 + ((St_dv σ k i).toNat + 128))) (ρ (8, k, 0)) md9 hL9) (lw_V q229 q230 q231 q65 q232) rfl nd_J2_size rfl (z_rv hC (ci := 8) rfl hL9.1 rfl) rfl (Nat.le_of_ble_eq_true rfl) ⟨Nat.le_of_ble_eq_true rfl, Nat.le_of_ble_eq_true rfl⟩ ⟨zfit (k := 0) (z := 0) rfl rfl (by omega), zfit (k := 0) (z := 0) rfl rfl (by omega)⟩ dX1_matchNow_18) ⟨zad (k := 0) rfl (by omega), zad (k := 0) rfl (by omega)⟩ hS (fun _ z => z.elim) (fun r H5 locs hp hF hS1 => ?_)
      obtain ⟨_, rfl, rfl⟩ := hp
      have hP := zpk hP hF
      have hP : va_P G.1 zCl ([]) H5 := hP
      have hD : va_D (zA M0 H0) ([]) := hD
      have hH1 : HC G s0 ρ σ H5 := hH1.ext0 hE hF
      have hS := hS1
      have hkk2 := hH1.2.2.2.1 k2 (by omega)
      have hAk2 := hH1.ag (k := k2) (by omega)
      obtain ⟨hn16k2, -⟩ := hAk2.n
      have halk2 := hal k2 (by omega)
      refine lv_aload_n hx hb dX1_matchNow_21 rfl (lv_at hl 2 rfl) ?_
      refine z_getn hC (k := 1) rfl in_X5 hkk2.1 (by decide) q959 (fun _ h => h) rfl dX1_matchNow_22 ?_
      obtain ⟨md9, hL9⟩ := id (hH1.2.2.2.1 k2 (by omega)).2.1
      refine z_go 0 0 (z_runV (As := []) (rest := [.int (iI ((St_d σ k : Nat) : Int))]) hC hml hl.1 (m_J2_size hE H5 (hO.ext0 (zS_F hS)) (ρ (7, k2, 0)) (St_d σ k2) (fun i => G.2 (1000 + ((St_dv σ k2 i).toNat + 128))) (ρ (8, k2, 0)) md9 hL9) (lw_V q229 q230 q231 q65 q232) rfl nd_J2_size rfl (z_rv hC (ci := 8) rfl hL9.1 rfl) rfl (Nat.le_of_ble_eq_true rfl) ⟨Nat.le_of_ble_eq_true rfl, Nat.le_of_ble_eq_true rfl⟩ ⟨zfit (k := 0) (z := 0) rfl rfl (by omega), zfit (k := 0) (z := 0) rfl rfl (by omega)⟩ dX1_matchNow_25) ⟨zad (k := 0) rfl (by omega), zad (k := 0) rfl (by omega)⟩ hS (fun _ z => z.elim) (fun r H6 locs hp hF hS1 => ?_)
      obtain ⟨_, rfl, rfl⟩ := hp
      have hP := zpk hP hF
      have hP : va_P G.1 zCl ([]) H6 := hP
      have hD : va_D (zA M0 H0) ([]) := hD
      have hH1 : HC G s0 ρ σ H6 := hH1.ext0 hE hF
      have hS := hS1
      refine z_ceq (tgt := 33) hx hb dX1_matchNow_28 (by decide) (by omega) (fun c7 => ?_) (fun c7 => ?_)
      · refine lv_aload_n hx hb dX1_matchNow_33 rfl (lv_at hl 0 rfl) ?_
        refine lv_aload_n hx hb dX1_matchNow_34 rfl (lv_at hl 1 rfl) ?_
        refine lv_aload_n hx hb dX1_matchNow_35 rfl (lv_at hl 2 rfl) ?_
        refine lv_iconst (v := iI 0) hx hb dX1_matchNow_36 rfl ?_
        refine lv_iconst (v := iI 0) hx hb dX1_matchNow_37 rfl ?_
        refine lv_iconst (v := iI 0) hx hb dX1_matchNow_38 rfl ?_
        rcases (show St_d σ k = 0 ∨ St_d σ k = 1 ∨ St_d σ k = 2 ∨ St_d σ k = 3 ∨ St_d σ k = 4 from by omega) with hd9 | hd9 | hd9 | hd9 | hd9
        · obtain ⟨sm, hxx⟩ := id hH1.2.2.1.1
          refine z_go 0 0 (z_runV (As := [.ref (ρ (6, k, 0)), .ref (ρ (6, k2, 0)), .int (iI 0), .int (iI 0), .int (iI 0)]) (rest := []) hC hml hl.1 (m_X1_matchFrom_0 hE H6 (hO.ext0 (zS_F hS)) ρ σ k k2 0 0 0 hH1 hk ⟨by omega, by omega⟩ ⟨by omega, by omega⟩) (lw_V q440 q442 qs12 q62 q443) rfl nd_X1_matchFrom rfl (z_rv hC (ci := 0) rfl hxx rfl) rfl (Nat.le_of_ble_eq_true rfl) ⟨Nat.le_of_ble_eq_true rfl, Nat.le_of_ble_eq_true rfl⟩ ⟨zfit (k := 0) (z := 0) rfl rfl (by omega), zfit (k := 0) (z := 0) rfl rfl (by omega)⟩ dX1_matchNow_39) ⟨zad (k := 0) rfl (by omega), zad (k := 0) rfl (by omega)⟩ hS (fun _ z => z.elim) (fun r H8 locs hp hF hS1 => ?_)
          obtain ⟨_, rfl, rfl⟩ := hp
          have hP := zpk hP hF
          have hP : va_P G.1 zCl ([]) H8 := hP
          have hD : va_D (zA M0 H0) ([]) := hD
          have hH1 : HC G s0 ρ σ H8 := hH1.ext0 hE hF
          have hS := hS1
          exact z_iret hC hrt hlk hQ hS ⟨zle (z := 0) rfl (by omega), zle (z := 0) rfl (by omega)⟩ ⟨_, rfl, (mnw_ye ⟨by omega, by omega, by omega⟩ (by omega)).symm⟩ dX1_matchNow_42
        · obtain ⟨sm, hxx⟩ := id hH1.2.2.1.1
          refine z_go 0 0 (z_runV (As := [.ref (ρ (6, k, 0)), .ref (ρ (6, k2, 0)), .int (iI 0), .int (iI 0), .int (iI 0)]) (rest := []) hC hml hl.1 (m_X1_matchFrom_1 hE H6 (hO.ext0 (zS_F hS)) ρ σ k k2 0 0 0 hH1 hk ⟨by omega, by omega⟩ ⟨by omega, by omega⟩) (lw_V q440 q442 qs12 q62 q443) rfl nd_X1_matchFrom rfl (z_rv hC (ci := 0) rfl hxx rfl) rfl (Nat.le_of_ble_eq_true rfl) ⟨Nat.le_of_ble_eq_true rfl, Nat.le_of_ble_eq_true rfl⟩ ⟨zfit (k := 0) (z := 0) rfl rfl (by omega), zfit (k := 0) (z := 0) rfl rfl (by omega)⟩ dX1_matchNow_39) ⟨zad (k := 0) rfl (by omega), zad (k := 0) rfl (by omega)⟩ hS (fun _ z => z.elim) (fun r H9 locs hp hF hS1 => ?_)
          obtain ⟨_, rfl, rfl⟩ := hp
          have hP := zpk hP hF
          have hP : va_P G.1 zCl ([]) H9 := hP
          have hD : va_D (zA M0 H0) ([]) := hD
          have hH1 : HC G s0 ρ σ H9 := hH1.ext0 hE hF
          have hS := hS1
          exact z_iret hC hrt hlk hQ hS ⟨zle (z := 0) rfl (by omega), zle (z := 0) rfl (by omega)⟩ ⟨_, rfl, (mnw_ye ⟨by omega, by omega, by omega⟩ (by omega)).symm⟩ dX1_matchNow_42
        · obtain ⟨sm, hxx⟩ := id hH1.2.2.1.1
          refine z_go 0 0 (z_runV (As := [.ref (ρ (6, k, 0)), .ref (ρ (6, k2, 0)), .int (iI 0), .int (iI 0), .int (iI 0)]) (rest := []) hC hml hl.1 (m_X1_matchFrom_2 hE H6 (hO.ext0 (zS_F hS)) ρ σ k k2 0 0 0 hH1 hk ⟨by omega, by omega⟩ ⟨by omega, by omega⟩) (lw_V q440 q442 qs12 q62 q443) rfl nd_X1_matchFrom rfl (z_rv hC (ci := 0) rfl hxx rfl) rfl (Nat.le_of_ble_eq_true rfl) ⟨Nat.le_of_ble_eq_true rfl, Nat.le_of_ble_eq_true rfl⟩ ⟨zfit (k := 0) (z := 0) rfl rfl (by omega), zfit (k := 0) (z := 0) rfl rfl (by omega)⟩ dX1_matchNow_39) ⟨zad (k := 0) rfl (by omega), zad (k := 0) rfl (by omega)⟩ hS (fun _ z => z.elim) (fun r H10 locs hp hF hS1 => ?_)
          obtain ⟨_, rfl, rfl⟩ := hp
          have hP := zpk hP hF
          have hP : va_P G.1 zCl ([]) H10 := hP
          have hD : va_D (zA M0 H0) ([]) := hD
          have hH1 : HC G s0 ρ σ H10 := hH1.ext0 hE hF
          have hS := hS1
          exact z_iret hC hrt hlk hQ hS ⟨zle (z := 0) rfl (by omega), zle (z := 0) rfl (by omega)⟩ ⟨_, rfl, (mnw_ye ⟨by omega, by omega, by omega⟩ (by omega)).symm⟩ dX1_matchNow_42
        · obtain ⟨sm, hxx⟩ := id hH1.2.2.1.1
          refine z_go 0 0 (z_runV (As := [.ref (ρ (6, k, 0)), .ref (ρ (6, k2, 0)), .int (iI 0), .int (iI 0), .int (iI 0)]) (rest := []) hC hml hl.1 (m_X1_matchFrom_3 hE H6 (hO.ext0 (zS_F hS)) ρ σ k k2 0 0 0 hH1 hk ⟨by omega, by omega⟩ ⟨by omega, by omega⟩) (lw_V q440 q442 qs12 q62 q443) rfl nd_X1_matchFrom rfl (z_rv hC (ci := 0) rfl hxx rfl) rfl (Nat.le_of_ble_eq_true rfl) ⟨Nat.le_of_ble_eq_true rfl, Nat.le_of_ble_eq_true rfl⟩ ⟨zfit (k := 0) (z := 0) rfl rfl (by omega), zfit (k := 0) (z := 0) rfl rfl (by omega)⟩ dX1_matchNow_39) ⟨zad (k := 0) rfl (by omega), zad (k := 0) rfl (by omega)⟩ hS (fun _ z => z.elim) (fun r H11 locs hp hF hS1 => ?_)
          obtain ⟨_, rfl, rfl⟩ := hp
          have hP := zpk hP hF
          have hP : va_P G.1 zCl ([]) H11 := hP
          have hD : va_D (zA M0 H0) ([]) := hD
          have hH1 : HC G s0 ρ σ H11 := hH1.ext0 hE hF
          have hS := hS1
          exact z_iret hC hrt hlk hQ hS ⟨zle (z := 0) rfl (by omega), zle (z := 0) rfl (by omega)⟩ ⟨_, rfl, (mnw_ye ⟨by omega, by omega, by omega⟩ (by omega)).symm⟩ dX1_matchNow_42
        · obtain ⟨sm, hxx⟩ := id hH1.2.2.1.1
          refine z_go 0 0 (z_runV (As := [.ref (ρ (6, k, 0)), .ref (ρ (6, k2, 0)), .int (iI 0), .int (iI 0), .int (iI 0)]) (rest := []) hC hml hl.1 (m_X1_matchFrom_4 hE H6 (hO.ext0 (zS_F hS)) ρ σ k k2 0 0 0 hH1 hk ⟨by omega, by omega⟩ ⟨by omega, by omega⟩) (lw_V q440 q442 qs12 q62 q443) rfl nd_X1_matchFrom rfl (z_rv hC (ci := 0) rfl hxx rfl) rfl (Nat.le_of_ble_eq_true rfl) ⟨Nat.le_of_ble_eq_true rfl, Nat.le_of_ble_eq_true rfl⟩ ⟨zfit (k := 0) (z := 0) rfl rfl (by omega), zfit (k := 0) (z := 0) rfl rfl (by omega)⟩ dX1_matchNow_39) ⟨zad (k := 0) rfl (by omega), zad (k := 0) rfl (by omega)⟩ hS (fun _ z => z.elim) (fun r H12 locs hp hF hS1 => ?_)
          obtain ⟨_, rfl, rfl⟩ := hp
          have hP := zpk hP hF
          have hP : va_P G.1 zCl ([]) H12 := hP
          have hD : va_D (zA M0 H0) ([]) := hD
          have hH1 : HC G s0 ρ σ H12 := hH1.ext0 hE hF
          have hS := hS1
          exact z_iret hC hrt hlk hQ hS ⟨zle (z := 0) rfl (by omega), zle (z := 0) rfl (by omega)⟩ ⟨_, rfl, (mnw_ye ⟨by omega, by omega, by omega⟩ (by omega)).symm⟩ dX1_matchNow_42
      · refine lv_iconst (v := iI (-1)) hx hb dX1_matchNow_31 rfl ?_
        exact z_iret hC hrt hlk hQ hS ⟨zle (z := 0) rfl (by omega), zle (z := 0) rfl (by omega)⟩ ⟨_, rfl, (mnw_no (by omega)).symm⟩ dX1_matchNow_32

abbrev rm_m_X1_match : Room := { frames := 8, cells := 2, slots := 12, locals := 196 }
set_option maxHeartbeats 4000000 in
theorem m_X1_match {l : Launch} {s0 : State} {G : zG} (hE : zE l s0 G) (H0 : Heap) (hO : zO s0 H0) (ρ : Ro → Nat) (σ : St) (i j : Int) (hh : HC G s0 ρ σ H0) (hi : zi i ∧ zi j) : zMX l s0 yX1_match cX1_match 3 (some FieldType.int) rm_m_X1_match [.ref (ρ (0, 0, 0)), .int (iI i), .int (iI j)] H0 M0 (ri (fun y _ => ∃ k k2 : Nat, (i = k ∧ k < St_na σ) ∧ (j = k2 ∧ k2 < St_na σ) ∧ y = mnw σ k k2)) (fun E _ => E = IOB ∧ ¬ (inA σ i ∧ inA σ j)) := by
  refine z_metX hE (by decide +kernel) (Nat.le_of_ble_eq_true rfl) ?_
  intro pp ee ss mm args below meth cd Q ls hC hml hrt hlk hnm hH hQ hno hX hS hl
  have hx := hC.x
  have hb := hC.b
  have hl : lv_has ls 3 [(0, .ref (ρ (0, 0, 0))), (1, .int (iI i)), (2, .int (iI j))] := hl
  have hP : va_P G.1 zCl [] H0 := va_nil
  have hD : va_D (zA M0 H0) [] := va_nilD
  have hH1 := hh
  obtain ⟨hp, hna, hal, hne9, hel9, hmr9⟩ := id hh.ok
  have hp7 : 0 < St_p σ ∧ St_p σ ≤ 7 := by rcases hp with h | h | h <;> rw [h] <;> decide
  obtain ⟨sm9, -⟩ := id hh.2.2.1.1
  refine lv_aload_n hx hb dX1_match_0 rfl (lv_at hl 0 rfl) ?_
  refine lv_aload_n hx hb dX1_match_1 rfl (lv_at hl 0 rfl) ?_
  refine lv_iload_n hx hb dX1_match_2 rfl (lv_at hl 1 rfl) ?_
  obtain ⟨sm, hxx⟩ := id hH1.2.2.1.1
  refine z_goX 1 6 (z_runVx (As := [.int (iI i)]) (rest := [.ref (ρ (0, 0, 0))]) hC hml hl.1 (m_X1_algebraAt hE H0 (hO.ext0 (zS_F hS)) ρ σ i hH1 hi.1) (lw_V q1056 q1058 qs23 q62 q1059) rfl nd_X1_algebraAt rfl (z_rv hC (ci := 0) rfl hxx rfl) rfl (Nat.le_of_ble_eq_true rfl) ⟨Nat.le_of_ble_eq_true rfl, Nat.le_of_ble_eq_true rfl⟩ ⟨zfit (k := 1) (z := 2) rfl rfl (by omega), zfit (k := 6) (z := 12) rfl rfl (by omega)⟩ dX1_match_3) ⟨zad (k := 1) rfl (by omega), zad (k := 6) rfl (by omega)⟩ hS (fun _ z => z.elim) (fun E ce q9 Hx1 locs hp hF hS1 hce hcv hcl => ?_) (fun r H2 locs hp hF hS1 => ?_)
  · exact z_out hno hlk hX hS1 ⟨zle (z := 2) rfl (by omega), zle (z := 12) rfl (by omega)⟩ hce hcv hcl (⟨hp.1, fun z => hp.2 z.1⟩)
  obtain ⟨_, rfl, k, ek9, hk9, rfl⟩ := hp
  have hP := zpk hP hF
  have hP : va_P G.1 zCl ([]) H2 := hP
  have hD : va_D (zA M0 H0) ([]) := hD
  have hH1 : HC G s0 ρ σ H2 := hH1.ext0 hE hF
  have hS := hS1
  refine lv_aload_n hx hb dX1_match_6 rfl (lv_at hl 0 rfl) ?_
  refine lv_iload_n hx hb dX1_match_7 rfl (lv_at hl 2 rfl) ?_
  obtain ⟨sm, hxx⟩ := id hH1.2.2.1.1
  refine z_goX 2 12 (z_runVx (As := [.int (iI j)]) (rest := [.ref (ρ (6, k, 0)), .ref (ρ (0, 0, 0))]) hC hml hl.1 (m_X1_algebraAt hE H2 (hO.ext0 (zS_F hS)) ρ σ j hH1 hi.2) (lw_V q1056 q1058 qs23 q62 q1059) rfl nd_X1_algebraAt rfl (z_rv hC (ci := 0) rfl hxx rfl) rfl (Nat.le_of_ble_eq_true rfl) ⟨Nat.le_of_ble_eq_true rfl, Nat.le_of_ble_eq_true rfl⟩ ⟨zfit (k := 1) (z := 2) rfl rfl (by omega), zfit (k := 6) (z := 12) rfl rfl (by omega)⟩ dX1_match_8) ⟨zad (k := 1) rfl (by omega), zad (k := 6) rfl (by omega)⟩ hS (fun _ z => z.elim) (fun E ce q9 Hx3 locs hp hF hS1 hce hcv hcl => ?_) (fun r H4 locs hp hF hS1 => ?_)
  · exact z_out hno hlk hX hS1 ⟨zle (z := 2) rfl (by omega), zle (z := 12) rfl (by omega)⟩ hce hcv hcl (⟨hp.1, fun z => hp.2 z.2⟩)
  obtain ⟨_, rfl, k2, ek29, hk29, rfl⟩ := hp
  have hP := zpk hP hF
  have hP : va_P G.1 zCl ([]) H4 := hP
  have hD : va_D (zA M0 H0) ([]) := hD
  have hH1 : HC G s0 ρ σ H4 := hH1.ext0 hE hF
  have hS := hS1
  obtain ⟨sm, hxx⟩ := id hH1.2.2.1.1
  refine z_go 2 12 (z_runV (As := [.ref (ρ (6, k, 0)), .ref (ρ (6, k2, 0))]) (rest := []) hC hml hl.1 (m_X1_matchNow hE H4 (hO.ext0 (zS_F hS)) ρ σ k k2 hH1 ⟨by omega, by omega⟩) (lw_V q430 q432 qs11 q62 q433) rfl nd_X1_matchNow rfl (z_rv hC (ci := 0) rfl hxx rfl) rfl (Nat.le_of_ble_eq_true rfl) ⟨Nat.le_of_ble_eq_true rfl, Nat.le_of_ble_eq_true rfl⟩ ⟨zfit (k := 0) (z := 2) rfl rfl (by omega), zfit (k := 0) (z := 12) rfl rfl (by omega)⟩ dX1_match_11) ⟨zad (k := 0) rfl (by omega), zad (k := 0) rfl (by omega)⟩ hS (fun _ z => z.elim) (fun r H5 locs hp hF hS1 => ?_)
  obtain ⟨_, rfl, rfl⟩ := hp
  have hP := zpk hP hF
  have hP : va_P G.1 zCl ([]) H5 := hP
  have hD : va_D (zA M0 H0) ([]) := hD
  have hH1 : HC G s0 ρ σ H5 := hH1.ext0 hE hF
  have hS := hS1
  exact z_iret hC hrt hlk hQ hS ⟨zle (z := 2) rfl (by omega), zle (z := 12) rfl (by omega)⟩ ⟨_, rfl, k, k2, ⟨by omega, by omega⟩, ⟨by omega, by omega⟩, rfl⟩ dX1_match_14

abbrev rm_m_X1_scaleOf : Room := { frames := 8, cells := 2, slots := 12, locals := 196 }
set_option maxHeartbeats 4000000 in
theorem m_X1_scaleOf {l : Launch} {s0 : State} {G : zG} (hE : zE l s0 G) (H0 : Heap) (hO : zO s0 H0) (ρ : Ro → Nat) (σ : St) (i j g : Int) (hh : HC G s0 ρ σ H0) (hi : zi i ∧ zi j ∧ zi g) : zMX l s0 yX1_scaleOf cX1_scaleOf 8 (some FieldType.int) rm_m_X1_scaleOf [.ref (ρ (0, 0, 0)), .int (iI i), .int (iI j), .int (iI g)] H0 M0 (ri (fun y _ => ∃ k k2 : Nat, (i = k ∧ k < St_na σ) ∧ (j = k2 ∧ k2 < St_na σ) ∧ y = soV σ k k2 g)) (fun E _ => E = IOB ∧ ¬ (inA σ i ∧ inA σ j)) := by
  refine z_metX hE (by decide +kernel) (Nat.le_of_ble_eq_true rfl) ?_
  intro pp ee ss mm args below meth cd Q ls hC hml hrt hlk hnm hH hQ hno hX hS hl
  have hx := hC.x
  have hb := hC.b
  have hl : lv_has ls 8 [(0, .ref (ρ (0, 0, 0))), (1, .int (iI i)), (2, .int (iI j)), (3, .int (iI g))] := hl
  have hP : va_P G.1 zCl [] H0 := va_nil
  have hD : va_D (zA M0 H0) [] := va_nilD
  have hH1 := hh
  obtain ⟨hp, hna, hal, hne9, hel9, hmr9⟩ := id hh.ok
  have hp7 : 0 < St_p σ ∧ St_p σ ≤ 7 := by rcases hp with h | h | h <;> rw [h] <;> decide
  obtain ⟨sm9, -⟩ := id hh.2.2.1.1
  refine lv_aload_n hx hb dX1_scaleOf_0 rfl (lv_at hl 0 rfl) ?_
  refine lv_iload_n hx hb dX1_scaleOf_1 rfl (lv_at hl 1 rfl) ?_
  obtain ⟨sm, hxx⟩ := id hH1.2.2.1.1
  refine z_goX 1 6 (z_runVx (As := [.int (iI i)]) (rest := []) hC hml hl.1 (m_X1_algebraAt hE H0 (hO.ext0 (zS_F hS)) ρ σ i hH1 hi.1) (lw_V q1056 q1058 qs23 q62 q1059) rfl nd_X1_algebraAt rfl (z_rv hC (ci := 0) rfl hxx rfl) rfl (Nat.le_of_ble_eq_true rfl) ⟨Nat.le_of_ble_eq_true rfl, Nat.le_of_ble_eq_true rfl⟩ ⟨zfit (k := 1) (z := 2) rfl rfl (by omega), zfit (k := 6) (z := 12) rfl rfl (by omega)⟩ dX1_scaleOf_2) ⟨zad (k := 1) rfl (by omega), zad (k := 6) rfl (by omega)⟩ hS (fun _ z => z.elim) (fun E ce q9 Hx1 locs hp hF hS1 hce hcv hcl => ?_) (fun r H2 locs hp hF hS1 => ?_)
  · exact z_out hno hlk hX hS1 ⟨zle (z := 2) rfl (by omega), zle (z := 12) rfl (by omega)⟩ hce hcv hcl (⟨hp.1, fun z => hp.2 z.1⟩)
  obtain ⟨_, rfl, k, ek9, hk9, rfl⟩ := hp
  have hP := zpk hP hF
  have hP : va_P G.1 zCl ([]) H2 := hP
  have hD : va_D (zA M0 H0) ([]) := hD
  have hH1 : HC G s0 ρ σ H2 := hH1.ext0 hE hF
  have hS := hS1
  refine lv_astore (lv' := [(4, .ref (ρ (6, k, 0))), (0, .ref (ρ (0, 0, 0))), (1, .int (iI i)), (2, .int (iI j)), (3, .int (iI g))]) hx hb dX1_scaleOf_5 hl (by decide) rfl (fun ls hl => ?_)
  refine lv_aload_n hx hb dX1_scaleOf_7 rfl (lv_at hl 1 rfl) ?_
  refine lv_iload_n hx hb dX1_scaleOf_8 rfl (lv_at hl 3 rfl) ?_
  obtain ⟨sm, hxx⟩ := id hH1.2.2.1.1
  refine z_goX 2 12 (z_runVx (As := [.int (iI j)]) (rest := []) hC hml hl.1 (m_X1_algebraAt hE H2 (hO.ext0 (zS_F hS)) ρ σ j hH1 hi.2.1) (lw_V q1056 q1058 qs23 q62 q1059) rfl nd_X1_algebraAt rfl (z_rv hC (ci := 0) rfl hxx rfl) rfl (Nat.le_of_ble_eq_true rfl) ⟨Nat.le_of_ble_eq_true rfl, Nat.le_of_ble_eq_true rfl⟩ ⟨zfit (k := 1) (z := 2) rfl rfl (by omega), zfit (k := 6) (z := 12) rfl rfl (by omega)⟩ dX1_scaleOf_9) ⟨zad (k := 1) rfl (by omega), zad (k := 6) rfl (by omega)⟩ hS (fun _ z => z.elim) (fun E ce q9 Hx3 locs hp hF hS1 hce hcv hcl => ?_) (fun r H4 locs hp hF hS1 => ?_)
  · exact z_out hno hlk hX hS1 ⟨zle (z := 2) rfl (by omega), zle (z := 12) rfl (by omega)⟩ hce hcv hcl (⟨hp.1, fun z => hp.2 z.2⟩)
  obtain ⟨_, rfl, k2, ek29, hk29, rfl⟩ := hp
  have hP := zpk hP hF
  have hP : va_P G.1 zCl ([]) H4 := hP
  have hD : va_D (zA M0 H0) ([]) := hD
  have hH1 : HC G s0 ρ σ H4 := hH1.ext0 hE hF
  have hS := hS1
  refine lv_astore (lv' := [(5, .ref (ρ (6, k2, 0))), (4, .ref (ρ (6, k, 0))), (0, .ref (ρ (0, 0, 0))), (1, .int (iI i)), (2, .int (iI j)), (3, .int (iI g))]) hx hb dX1_scaleOf_12 hl (by decide) rfl (fun ls hl => ?_)
  refine lv_aload_n hx hb dX1_scaleOf_14 rfl (lv_at hl 2 rfl) ?_
  refine lv_aload hx hb dX1_scaleOf_15 (lv_at hl 1 rfl) ?_
  refine lv_aload hx hb dX1_scaleOf_17 (lv_at hl 0 rfl) ?_
  have hd4 := (hal k (by omega)).2.1
  have hmn := mnw_dg (σ := σ) (k := k) (k2 := k2) hd4
  obtain ⟨sm, hxx⟩ := id hH1.2.2.1.1
  refine z_go 2 12 (z_runV (As := [.ref (ρ (6, k, 0)), .ref (ρ (6, k2, 0))]) (rest := []) hC hml hl.1 (m_X1_matchNow hE H4 (hO.ext0 (zS_F hS)) ρ σ k k2 hH1 ⟨by omega, by omega⟩) (lw_V q430 q432 qs11 q62 q433) rfl nd_X1_matchNow rfl (z_rv hC (ci := 0) rfl hxx rfl) rfl (Nat.le_of_ble_eq_true rfl) ⟨Nat.le_of_ble_eq_true rfl, Nat.le_of_ble_eq_true rfl⟩ ⟨zfit (k := 0) (z := 2) rfl rfl (by omega), zfit (k := 0) (z := 12) rfl rfl (by omega)⟩ dX1_scaleOf_19) ⟨zad (k := 0) rfl (by omega), zad (k := 0) rfl (by omega)⟩ hS (fun _ z => z.elim) (fun r H5 locs hp hF hS1 => ?_)
  obtain ⟨_, rfl, rfl⟩ := hp
  have hP := zpk hP hF
  have hP : va_P G.1 zCl ([]) H5 := hP
  have hD : va_D (zA M0 H0) ([]) := hD
  have hH1 : HC G s0 ρ σ H5 := hH1.ext0 hE hF
  have hS := hS1
  refine lv_istore (lv' := [(6, .int (iI (mnw σ k k2))), (5, .ref (ρ (6, k2, 0))), (4, .ref (ρ (6, k, 0))), (0, .ref (ρ (0, 0, 0))), (1, .int (iI i)), (2, .int (iI j)), (3, .int (iI g))]) hx hb dX1_scaleOf_22 hl (by decide) rfl (fun ls hl => ?_)
  have hmb : -1 ≤ mnw σ k k2 ∧ mnw σ k k2 < 10000 := by rcases hmn with e | ⟨-, w, e, hw, -⟩ <;> omega
  refine lv_iload hx hb dX1_scaleOf_24 (lv_at hl 0 rfl) ?_
  refine lv_iconst (v := iI (-1)) hx hb dX1_scaleOf_26 rfl ?_
  refine z_ceq (tgt := 48) hx hb dX1_scaleOf_27 (by decide) (by omega) (fun c6 => ?_) (fun c6 => ?_)
  · refine lv_iconst (v := iI (-1)) hx hb dX1_scaleOf_48 rfl ?_
    exact z_iret hC hrt hlk hQ hS ⟨zle (z := 2) rfl (by omega), zle (z := 12) rfl (by omega)⟩ ⟨_, rfl, k, k2, ⟨by omega, by omega⟩, ⟨by omega, by omega⟩, by unfold soV; rw [if_pos (Or.inl (by assumption))]⟩ dX1_scaleOf_49
  · obtain ⟨hdd, w, ew, hw, hdg⟩ := hmn.resolve_left (by omega)
    rw [ew] at hl
    have hkk := hH1.2.2.2.1 k (by omega)
    have hAk := hH1.ag (k := k) (by omega)
    obtain ⟨hn16k, -⟩ := hAk.n
    have halk := hal k (by omega)
    refine lv_iconst (v := iI 0) hx hb dX1_scaleOf_30 rfl ?_
    refine lv_aload hx hb dX1_scaleOf_31 (lv_at hl 2 rfl) ?_
    refine z_getn hC (k := 1) rfl in_X5 hkk.1 (by decide) q959 (fun _ h => h) rfl dX1_scaleOf_33 ?_
    obtain ⟨md9, hL9⟩ := id (hH1.2.2.2.1 k (by omega)).2.1
    refine z_go 2 12 (z_runV (As := []) (rest := [.int (iI 0)]) hC hml hl.1 (m_J2_size hE H5 (hO.ext0 (zS_F hS)) (ρ (7, k, 0)) (St_d σ k) (fun i => G.2 (1000 + ((St_dv σ k i).toNat + 128))) (ρ (8, k, 0)) md9 hL9) (lw_V q229 q230 q231 q65 q232) rfl nd_J2_size rfl (z_rv hC (ci := 8) rfl hL9.1 rfl) rfl (Nat.le_of_ble_eq_true rfl) ⟨Nat.le_of_ble_eq_true rfl, Nat.le_of_ble_eq_true rfl⟩ ⟨zfit (k := 0) (z := 2) rfl rfl (by omega), zfit (k := 0) (z := 12) rfl rfl (by omega)⟩ dX1_scaleOf_36) ⟨zad (k := 0) rfl (by omega), zad (k := 0) rfl (by omega)⟩ hS (fun _ z => z.elim) (fun r H7 locs hp hF hS1 => ?_)
    obtain ⟨_, rfl, rfl⟩ := hp
    have hP := zpk hP hF
    have hP : va_P G.1 zCl ([]) H7 := hP
    have hD : va_D (zA M0 H0) ([]) := hD
    have hH1 : HC G s0 ρ σ H7 := hH1.ext0 hE hF
    have hS := hS1
    refine lv_iconst (v := iI 1) hx hb dX1_scaleOf_39 rfl ?_
    refine z_sub hx hb (z := ((St_d σ k : Nat) : Int) - 1) dX1_scaleOf_40 rfl ?_
    refine lv_iload_n hx hb dX1_scaleOf_41 rfl (lv_at hl 6 rfl) ?_
    refine z_go 2 12 (z_runS (As := [.int (iI 0), .int (iI (((St_d σ k : Nat) : Int) - 1)), .int (iI g)]) (rest := []) hC hml hl.1 (m_X1_isFrom hE H7 (hO.ext0 (zS_F hS)) 0 ((St_d σ k : Nat) - 1) g ⟨by decide, ⟨by omega, by omega⟩, hi.2.2⟩) (lw_S q944 q350 q62 q351) nd_X1_isFrom rfl rfl (Nat.le_of_ble_eq_true rfl) ⟨Nat.le_of_ble_eq_true rfl, Nat.le_of_ble_eq_true rfl⟩ ⟨zfit (k := 0) (z := 2) rfl rfl (by omega), zfit (k := 0) (z := 12) rfl rfl (by omega)⟩ dX1_scaleOf_42) ⟨zad (k := 0) rfl (by omega), zad (k := 0) rfl (by omega)⟩ hS (fun _ z => z.elim) (fun r H8 locs hp hF hS1 => ?_)
    obtain ⟨_, rfl, rfl⟩ := hp
    have hP := zpk hP hF
    have hP : va_P G.1 zCl ([]) H8 := hP
    have hD : va_D (zA M0 H0) ([]) := hD
    have hH1 : HC G s0 ρ σ H8 := hH1.ext0 hE hF
    have hS := hS1
    obtain ⟨fl, hfl, hfl2⟩ : ∃ fl : Nat, fl ≤ 1 ∧ (if 0 ≤ g ∧ g ≤ ((St_d σ k : Nat) : Int) - 1 then (1 : Int) else 0) = fl ∧ (fl = 1 ↔ 0 ≤ g ∧ g ≤ ((St_d σ k : Nat) : Int) - 1) := by by_cases h : 0 ≤ g ∧ g ≤ ((St_d σ k : Nat) : Int) - 1; exact ⟨1, by decide, by rw [if_pos h]; rfl, by simp [h]⟩; exact ⟨0, by decide, by rw [if_neg h]; rfl, by simp [h]⟩
    refine z_top (b := ((fl : Nat) : Int)) (hfl2.1) ?_
    refine z_zne (tgt := 50) hx hb dX1_scaleOf_45 (by decide) (by omega) (fun c9 => ?_) (fun c9 => ?_)
    · have hg9 := hfl2.2.mp (by omega)
      obtain ⟨gg, rfl⟩ : ∃ gg : Nat, g = gg := ⟨g.toNat, by omega⟩
      have hkk := hH1.2.2.2.1 k (by omega)
      have hAk := hH1.ag (k := k) (by omega)
      obtain ⟨hn16k, -⟩ := hAk.n
      have halk := hal k (by omega)
      refine lv_aload hx hb dX1_scaleOf_50 (lv_at hl 2 rfl) ?_
      refine z_getn hC (k := 1) rfl in_X5 hkk.1 (by decide) q959 (fun _ h => h) rfl dX1_scaleOf_52 ?_
      obtain ⟨md9, hL9⟩ := id (hH1.2.2.2.1 k (by omega)).2.1
      refine z_go 2 12 (z_runV (As := []) (rest := []) hC hml hl.1 (m_J2_size hE H8 (hO.ext0 (zS_F hS)) (ρ (7, k, 0)) (St_d σ k) (fun i => G.2 (1000 + ((St_dv σ k i).toNat + 128))) (ρ (8, k, 0)) md9 hL9) (lw_V q229 q230 q231 q65 q232) rfl nd_J2_size rfl (z_rv hC (ci := 8) rfl hL9.1 rfl) rfl (Nat.le_of_ble_eq_true rfl) ⟨Nat.le_of_ble_eq_true rfl, Nat.le_of_ble_eq_true rfl⟩ ⟨zfit (k := 0) (z := 2) rfl rfl (by omega), zfit (k := 0) (z := 12) rfl rfl (by omega)⟩ dX1_scaleOf_55) ⟨zad (k := 0) rfl (by omega), zad (k := 0) rfl (by omega)⟩ hS (fun _ z => z.elim) (fun r H10 locs hp hF hS1 => ?_)
      obtain ⟨_, rfl, rfl⟩ := hp
      have hP := zpk hP hF
      have hP : va_P G.1 zCl ([]) H10 := hP
      have hD : va_D (zA M0 H0) ([]) := hD
      have hH1 : HC G s0 ρ σ H10 := hH1.ext0 hE hF
      have hS := hS1
      refine lv_iconst (v := iI 1) hx hb dX1_scaleOf_58 rfl ?_
      refine z_sub hx hb (z := ((St_d σ k : Nat) : Int) - 1) dX1_scaleOf_59 rfl ?_
      refine z_top (b := ((St_d σ k - 1 : Nat) : Int)) (by omega) ?_
      refine lv_istore (lv' := [(7, .int (iI ((St_d σ k - 1 : Nat) : Int))), (6, .int (iI ((w : Nat) : Int))), (5, .ref (ρ (6, k2, 0))), (4, .ref (ρ (6, k, 0))), (0, .ref (ρ (0, 0, 0))), (1, .int (iI i)), (2, .int (iI j)), (3, .int (iI ((gg : Nat) : Int)))]) hx hb dX1_scaleOf_60 hl (by decide) rfl (fun ls hl => ?_)
      have lp11 : ∀ (dlp11 : Nat) (kk : Nat) (o9 : Nat), kk = dlp11 → (gg ≤ kk ∧ kk < St_d σ k) → (o9 = w / 10 ^ (St_d σ k - 1 - kk)) → ∀ (H12 : Heap) (locs : List Loc) (ls : Array Slot), (HC G s0 ρ σ H12) → va_P G.1 zCl ([]) H12 → va_D (zA M0 H0) ([]) → va_S (zA M0 H0) H0 H12 locs → lv_has ls 8 [(7, .int (iI ((kk : Nat) : Int))), (6, .int (iI ((o9 : Nat) : Int))), (5, .ref (ρ (6, k2, 0))), (4, .ref (ρ (6, k, 0))), (0, .ref (ρ (0, 0, 0))), (1, .int (iI i)), (2, .int (iI j)), (3, .int (iI ((gg : Nat) : Int)))] → W pp l ee rm_m_X1_scaleOf ss mm args below meth cd H12 locs 2 12 Q (F0 mm 62 ls []) := by
        intro dlp11
        induction dlp11 using Nat.strongRecOn with
        | ind dlp11 ihlp11 =>
          intro kk o9 hdlp11 hkk ho9 H12 locs ls hH1 hP hD hS hl
          have hwl : o9 ≤ w := ho9 ▸ Nat.div_le_self _ _
          refine lv_iload hx hb dX1_scaleOf_62 (lv_at hl 0 rfl) ?_
          refine lv_iload_n hx hb dX1_scaleOf_64 rfl (lv_at hl 7 rfl) ?_
          refine z_cle (tgt := 81) hx hb dX1_scaleOf_65 (by decide) (by omega) (fun c13 => ?_) (fun c13 => ?_)
          · have ekk : kk = gg := by omega
            have hkk := hH1.2.2.2.1 k (by omega)
            have hAk := hH1.ag (k := k) (by omega)
            obtain ⟨hn16k, -⟩ := hAk.n
            have halk := hal k (by omega)
            refine lv_aload_n hx hb dX1_scaleOf_81 rfl (lv_at hl 4 rfl) ?_
            refine lv_aload hx hb dX1_scaleOf_82 (lv_at hl 3 rfl) ?_
            refine z_getn hC (k := 1) rfl in_X5 hkk.1 (by decide) q959 (fun _ h => h) rfl dX1_scaleOf_84 ?_
            refine lv_iload_n hx hb dX1_scaleOf_87 rfl (lv_at hl 7 rfl) ?_
            have hdkk := (hal k (by omega)).2.2 gg (by omega)
            obtain ⟨md9, hL9⟩ := id (hH1.2.2.2.1 k (by omega)).2.1
            refine z_go 2 12 (z_runV (As := [.int (iI ((gg : Nat) : Int))]) (rest := [.ref (ρ (0, 0, 0))]) hC hml hl.1 (m_J2_get hE H12 (hO.ext0 (zS_F hS)) (ρ (7, k, 0)) (St_d σ k) (fun i => G.2 (1000 + ((St_dv σ k i).toNat + 128))) (ρ (8, k, 0)) md9 gg hL9 (by omega)) (lw_V q372 q373 q374 q65 q375) rfl nd_J2_get rfl (z_rv hC (ci := 8) rfl hL9.1 rfl) rfl (Nat.le_of_ble_eq_true rfl) ⟨Nat.le_of_ble_eq_true rfl, Nat.le_of_ble_eq_true rfl⟩ ⟨zfit (k := 0) (z := 2) rfl rfl (by omega), zfit (k := 0) (z := 12) rfl rfl (by omega)⟩ dX1_scaleOf_88) ⟨zad (k := 0) rfl (by omega), zad (k := 0) rfl (by omega)⟩ hS (fun _ z => z.elim) (fun r H14 locs hp hF hS1 => ?_)
            obtain ⟨_, rfl, rfl⟩ := hp
            have hP := zpk hP hF
            have hP : va_P G.1 zCl ([]) H14 := hP
            have hD : va_D (zA M0 H0) ([]) := hD
            have hH1 : HC G s0 ρ σ H14 := hH1.ext0 hE hF
            have hS := hS1
            refine z_castC hC (hO.ext0 (zS_F hS)) (by omega) q444 dX1_scaleOf_91 ?_
            refine z_go 2 12 (z_runV (As := []) (rest := [.ref (ρ (0, 0, 0))]) hC hml hl.1 (m_J19_intValue hE H14 (hO.ext0 (zS_F hS)) ((St_dv σ k gg).toNat + 128) (by omega)) (lw_V q445 q427 q428 q90 q429) rfl nd_J19_intValue rfl (z_cc hE hC.w (hO.ext0 (zS_F hS)) (by omega)) rfl (Nat.le_of_ble_eq_true rfl) ⟨Nat.le_of_ble_eq_true rfl, Nat.le_of_ble_eq_true rfl⟩ ⟨zfit (k := 0) (z := 2) rfl rfl (by omega), zfit (k := 0) (z := 12) rfl rfl (by omega)⟩ dX1_scaleOf_94) ⟨zad (k := 0) rfl (by omega), zad (k := 0) rfl (by omega)⟩ hS (fun _ z => z.elim) (fun r H15 locs hp hF hS1 => ?_)
            obtain ⟨_, rfl, rfl⟩ := hp
            have hP := zpk hP hF
            have hP : va_P G.1 zCl ([]) H15 := hP
            have hD : va_D (zA M0 H0) ([]) := hD
            have hH1 : HC G s0 ρ σ H15 := hH1.ext0 hE hF
            have hS := hS1
            refine z_top (b := St_dv σ k gg) (by omega) ?_
            have hkk2 := hH1.2.2.2.1 k2 (by omega)
            have hAk2 := hH1.ag (k := k2) (by omega)
            obtain ⟨hn16k2, -⟩ := hAk2.n
            have halk2 := hal k2 (by omega)
            refine lv_aload hx hb dX1_scaleOf_97 (lv_at hl 2 rfl) ?_
            refine z_getn hC (k := 1) rfl in_X5 hkk2.1 (by decide) q959 (fun _ h => h) rfl dX1_scaleOf_99 ?_
            refine lv_iload hx hb dX1_scaleOf_102 (lv_at hl 1 rfl) ?_
            refine lv_bipush (v := iI 10) hx hb dX1_scaleOf_104 (by decide) ?_
            refine z_rem hx hb (z := Int.tmod ((o9 : Nat) : Int) 10) dX1_scaleOf_106 (by omega) rfl ?_
            refine z_top (b := ((o9 % 10 : Nat) : Int)) (Int.tmod_eq_emod_of_nonneg (by omega)) ?_
            have hdg9 := hdg (St_d σ k - 1 - kk) (by omega)
            rw [← ho9] at hdg9
            have hdkk2 := (hal k2 (by omega)).2.2 (o9 % 10) (by omega)
            obtain ⟨md9, hL9⟩ := id (hH1.2.2.2.1 k2 (by omega)).2.1
            refine z_go 2 12 (z_runV (As := [.int (iI ((o9 % 10 : Nat) : Int))]) (rest := [.int (iI (St_dv σ k gg)), .ref (ρ (0, 0, 0))]) hC hml hl.1 (m_J2_get hE H15 (hO.ext0 (zS_F hS)) (ρ (7, k2, 0)) (St_d σ k2) (fun i => G.2 (1000 + ((St_dv σ k2 i).toNat + 128))) (ρ (8, k2, 0)) md9 (o9 % 10) hL9 (by omega)) (lw_V q372 q373 q374 q65 q375) rfl nd_J2_get rfl (z_rv hC (ci := 8) rfl hL9.1 rfl) rfl (Nat.le_of_ble_eq_true rfl) ⟨Nat.le_of_ble_eq_true rfl, Nat.le_of_ble_eq_true rfl⟩ ⟨zfit (k := 0) (z := 2) rfl rfl (by omega), zfit (k := 0) (z := 12) rfl rfl (by omega)⟩ dX1_scaleOf_107) ⟨zad (k := 0) rfl (by omega), zad (k := 0) rfl (by omega)⟩ hS (fun _ z => z.elim) (fun r H16 locs hp hF hS1 => ?_)
            obtain ⟨_, rfl, rfl⟩ := hp
            have hP := zpk hP hF
            have hP : va_P G.1 zCl ([]) H16 := hP
            have hD : va_D (zA M0 H0) ([]) := hD
            have hH1 : HC G s0 ρ σ H16 := hH1.ext0 hE hF
            have hS := hS1
            refine z_castC hC (hO.ext0 (zS_F hS)) (by omega) q444 dX1_scaleOf_110 ?_
            refine z_go 2 12 (z_runV (As := []) (rest := [.int (iI (St_dv σ k gg)), .ref (ρ (0, 0, 0))]) hC hml hl.1 (m_J19_intValue hE H16 (hO.ext0 (zS_F hS)) ((St_dv σ k2 (o9 % 10)).toNat + 128) (by omega)) (lw_V q445 q427 q428 q90 q429) rfl nd_J19_intValue rfl (z_cc hE hC.w (hO.ext0 (zS_F hS)) (by omega)) rfl (Nat.le_of_ble_eq_true rfl) ⟨Nat.le_of_ble_eq_true rfl, Nat.le_of_ble_eq_true rfl⟩ ⟨zfit (k := 0) (z := 2) rfl rfl (by omega), zfit (k := 0) (z := 12) rfl rfl (by omega)⟩ dX1_scaleOf_113) ⟨zad (k := 0) rfl (by omega), zad (k := 0) rfl (by omega)⟩ hS (fun _ z => z.elim) (fun r H17 locs hp hF hS1 => ?_)
            obtain ⟨_, rfl, rfl⟩ := hp
            have hP := zpk hP hF
            have hP : va_P G.1 zCl ([]) H17 := hP
            have hD : va_D (zA M0 H0) ([]) := hD
            have hH1 : HC G s0 ρ σ H17 := hH1.ext0 hE hF
            have hS := hS1
            refine z_top (b := St_dv σ k2 (o9 % 10)) (by omega) ?_
            obtain ⟨sm, hxx⟩ := id hH1.2.2.1.1
            refine z_go 2 12 (z_runV (As := [.int (iI (St_dv σ k gg)), .int (iI (St_dv σ k2 (o9 % 10)))]) (rest := []) hC hml hl.1 (m_X1_scaleNow hE H17 (hO.ext0 (zS_F hS)) ρ σ (St_dv σ k gg) (St_dv σ k2 (o9 % 10)) hH1 ⟨⟨by omega, by omega⟩, by omega, by omega⟩) (lw_V q446 q448 qs13 q62 q449) rfl nd_X1_scaleNow rfl (z_rv hC (ci := 0) rfl hxx rfl) rfl (Nat.le_of_ble_eq_true rfl) ⟨Nat.le_of_ble_eq_true rfl, Nat.le_of_ble_eq_true rfl⟩ ⟨zfit (k := 0) (z := 2) rfl rfl (by omega), zfit (k := 0) (z := 12) rfl rfl (by omega)⟩ dX1_scaleOf_116) ⟨zad (k := 0) rfl (by omega), zad (k := 0) rfl (by omega)⟩ hS (fun _ z => z.elim) (fun r H18 locs hp hF hS1 => ?_)
            obtain ⟨_, rfl, rfl⟩ := hp
            have hP := zpk hP hF
            have hP : va_P G.1 zCl ([]) H18 := hP
            have hD : va_D (zA M0 H0) ([]) := hD
            have hH1 : HC G s0 ρ σ H18 := hH1.ext0 hE hF
            have hS := hS1
            exact z_iret hC hrt hlk hQ hS ⟨zle (z := 2) rfl (by omega), zle (z := 12) rfl (by omega)⟩ ⟨_, rfl, k, k2, ⟨by omega, by omega⟩, ⟨by omega, by omega⟩, by unfold soV; rw [if_neg (by omega), ew, ho9, ekk]; rfl⟩ dX1_scaleOf_119
          · refine lv_iload hx hb dX1_scaleOf_68 (lv_at hl 1 rfl) ?_
            refine lv_bipush (v := iI 10) hx hb dX1_scaleOf_70 (by decide) ?_
            refine z_div hx hb (z := Int.tdiv ((o9 : Nat) : Int) 10) dX1_scaleOf_72 (by omega) rfl ?_
            refine z_top (b := ((o9 / 10 : Nat) : Int)) (Int.tdiv_eq_ediv_of_nonneg (by omega)) ?_
            refine lv_istore (lv' := [(6, .int (iI ((o9 / 10 : Nat) : Int))), (7, .int (iI ((kk : Nat) : Int))), (5, .ref (ρ (6, k2, 0))), (4, .ref (ρ (6, k, 0))), (0, .ref (ρ (0, 0, 0))), (1, .int (iI i)), (2, .int (iI j)), (3, .int (iI ((gg : Nat) : Int)))]) hx hb dX1_scaleOf_73 hl (by decide) rfl (fun ls hl => ?_)
            refine z_iinc (z := ((kk - 1 : Nat) : Int)) (lv' := [(7, .int (iI ((kk - 1 : Nat) : Int))), (6, .int (iI ((o9 / 10 : Nat) : Int))), (5, .ref (ρ (6, k2, 0))), (4, .ref (ρ (6, k, 0))), (0, .ref (ρ (0, 0, 0))), (1, .int (iI i)), (2, .int (iI j)), (3, .int (iI ((gg : Nat) : Int)))]) hx hb dX1_scaleOf_75 hl (k := 1) rfl (by omega) (by decide) rfl (fun ls hl => ?_)
            refine lv_goto (tgt := 62) hx hb dX1_scaleOf_78 (by decide) ?_
            exact W.widen (by omega) (by omega) (ihlp11 ((kk - 1)) (by omega) (kk - 1) (o9 / 10) rfl (by omega) (by rw [ho9]; exact pw_div (by omega) (by omega)) _ _ _ hH1 hP hD hS hl)
      exact W.widen (by omega) (by omega) (lp11 _ (St_d σ k - 1) w rfl (by omega) (by rw [Nat.sub_self]; simp) _ _ _ hH1 hP hD hS hl)
    · refine lv_iconst (v := iI (-1)) hx hb dX1_scaleOf_48 rfl ?_
      exact z_iret hC hrt hlk hQ hS ⟨zle (z := 2) rfl (by omega), zle (z := 12) rfl (by omega)⟩ ⟨_, rfl, k, k2, ⟨by omega, by omega⟩, ⟨by omega, by omega⟩, by unfold soV; rw [if_pos (Or.inr (by omega))]⟩ dX1_scaleOf_49

