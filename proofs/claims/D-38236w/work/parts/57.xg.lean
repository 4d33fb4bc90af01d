/-! THE HOUSE: which algebras match -/
set_option maxRecDepth 100000
/-- the first value that is not -1 -/
def fsI (g : Nat → Int) : Nat → Nat → Int
  | 0, _ => -1
  | f + 1, k => if g k = -1 then fsI g f (k + 1) else g k
theorem fsI_hit {g : Nat → Int} {f k : Nat} (h : g k ≠ -1) (hf : 0 < f) : fsI g f k = g k := by
  cases f with
  | zero => omega
  | succ f => simp only [fsI]; rw [if_neg h]
theorem fsI_miss {g : Nat → Int} {f k : Nat} (h : g k = -1) (hf : 0 < f) : fsI g f k = fsI g (f - 1) (k + 1) := by
  cases f with
  | zero => omega
  | succ f => simp only [fsI]; rw [if_pos h]; rfl
theorem fsI_hit2 {g : Nat → Int} {f k : Nat} {v : Int} (e : g k = v) (h : v ≠ -1) (hf : 0 < f) : fsI g f k = v := (fsI_hit (by rw [e]; exact h) hf).trans e
theorem eq_m1 {a b : Int} (e : a = b) (h : b = -1) : a = -1 := e.trans h
theorem fsI_in {g : Nat → Int} {B : Int} (hB : -1 ≤ B) : ∀ {f k : Nat}, (∀ t, k ≤ t → t < k + f → -1 ≤ g t ∧ g t ≤ B) → -1 ≤ fsI g f k ∧ fsI g f k ≤ B
  | 0, _, _ => ⟨Int.le_refl _, hB⟩
  | f + 1, k, h => by
    simp only [fsI]
    split
    · exact fsI_in hB (fun t h1 h2 => h t (by omega) (by omega))
    · exact h k (Nat.le_refl _) (by omega)
def mfV (p : Int) (d : Nat) (da db : Nat → Int) : Nat → Nat → Nat → Nat → Int
  | 0, _, _, o => o
  | r + 1, f, u, o => fsI (fun t => if u / 2 ^ t % 2 = 1 ∨ scN p (da f) (db t) = -1 then -1 else mfV p d da db r (f + 1) (u ||| 2 ^ t) (10 * o + t)) d 0
theorem mfV_in {p : Int} {d : Nat} {da db : Nat → Int} (hd : d ≤ 4) : ∀ {r f u o : Nat}, (o + 1) * 10 ^ r ≤ 10000 → -1 ≤ mfV p d da db r f u o ∧ mfV p d da db r f u o ≤ 9999
  | 0, _, _, o, h => by simp only [mfV]; omega
  | r + 1, f, u, o, h => by
    simp only [mfV]
    refine fsI_in (by decide) (fun t _ ht => ?_)
    split
    · decide
    · refine mfV_in hd (Nat.le_trans ?_ h)
      rw [Nat.pow_succ, Nat.mul_comm (10 ^ r) 10, ← Nat.mul_assoc]
      exact Nat.mul_le_mul_right _ (by omega)
abbrev rm_m_X1_matchFrom_0 : Room := { frames := 1, cells := 0, slots := 0, locals := 20 }
set_option maxHeartbeats 4000000 in
theorem m_X1_matchFrom_0 {l : Launch} {s0 : State} {G : zG} (hE : zE l s0 G) (H0 : Heap) (hO : zO s0 H0) (ρ : Ro → Nat) (σ : St) (k k2 f u o : Nat) (hh : HC G s0 ρ σ H0) (hk : k < St_na σ ∧ k2 < St_na σ) (hd : St_d σ k2 = St_d σ k ∧ f + 0 = St_d σ k) (hu : u ≤ 15 ∧ (o + 1) * 1 ≤ 10000) : zM l s0 yX1_matchFrom cX1_matchFrom 8 (some FieldType.int) rm_m_X1_matchFrom_0 [.ref (ρ (0, 0, 0)), .ref (ρ (6, k, 0)), .ref (ρ (6, k2, 0)), .int (iI ((f : Nat) : Int)), .int (iI ((u : Nat) : Int)), .int (iI ((o : Nat) : Int))] H0 M0 (ri (fun y _ => y = mfV (St_p σ) (St_d σ k) (St_dv σ k) (St_dv σ k2) 0 f u o)) := by
  refine z_met hE (by decide +kernel) (Nat.le_of_ble_eq_true rfl) ?_
  intro pp ee ss mm args below meth cd Q ls hC hml hrt hlk hnm hH hQ hS hl
  have hx := hC.x
  have hb := hC.b
  have hl : lv_has ls 8 [(0, .ref (ρ (0, 0, 0))), (1, .ref (ρ (6, k, 0))), (2, .ref (ρ (6, k2, 0))), (3, .int (iI ((f : Nat) : Int))), (4, .int (iI ((u : Nat) : Int))), (5, .int (iI ((o : Nat) : Int)))] := hl
  have hP : va_P G.1 zCl [] H0 := va_nil
  have hD : va_D (zA M0 H0) [] := va_nilD
  have hH1 := hh
  obtain ⟨hp, hna, hal, hne9, hel9, hmr9⟩ := id hh.ok
  have hp7 : 0 < St_p σ ∧ St_p σ ≤ 7 := by rcases hp with h | h | h <;> rw [h] <;> decide
  obtain ⟨sm9, -⟩ := id hh.2.2.1.1
  have hd4 := (hal k hk.1).2.1
  have hAk := hH1.2.2.2.1 k (by omega)
  have hAk2 := hH1.2.2.2.1 k2 (by omega)
  refine lv_iload_n hx hb dX1_matchFrom_0 rfl (lv_at hl 3 rfl) ?_
  refine lv_aload_n hx hb dX1_matchFrom_1 rfl (lv_at hl 1 rfl) ?_
  refine z_getn hC (k := 1) rfl in_X5 hAk.1 (by decide) q959 (fun _ h => h) rfl dX1_matchFrom_2 ?_
  obtain ⟨md9, hL9⟩ := id (hH1.2.2.2.1 k (by omega)).2.1
  refine z_go 0 0 (z_runV (As := []) (rest := [.int (iI ((f : Nat) : Int))]) hC hml hl.1 (m_J2_size hE H0 (hO.ext0 (zS_F hS)) (ρ (7, k, 0)) (St_d σ k) (fun i => G.2 (1000 + ((St_dv σ k i).toNat + 128))) (ρ (8, k, 0)) md9 hL9) (lw_V q229 q230 q231 q65 q232) rfl nd_J2_size rfl (z_rv hC (ci := 8) rfl hL9.1 rfl) rfl (Nat.le_of_ble_eq_true rfl) ⟨Nat.le_of_ble_eq_true rfl, Nat.le_of_ble_eq_true rfl⟩ ⟨zfit (k := 0) (z := 0) rfl rfl (by omega), zfit (k := 0) (z := 0) rfl rfl (by omega)⟩ dX1_matchFrom_5) ⟨zad (k := 0) rfl (by omega), zad (k := 0) rfl (by omega)⟩ hS (fun _ z => z.elim) (fun r H1 locs hp hF hS1 => ?_)
  obtain ⟨_, rfl, rfl⟩ := hp
  have hP := zpk hP hF
  have hP : va_P G.1 zCl ([]) H1 := hP
  have hD : va_D (zA M0 H0) ([]) := hD
  have hH1 : HC G s0 ρ σ H1 := hH1.ext0 hE hF
  have hS := hS1
  refine z_cne (tgt := 14) hx hb dX1_matchFrom_8 (by decide) (by omega) (fun c2 => ?_) (fun c2 => ?_)
  · omega
  · refine lv_iload hx hb dX1_matchFrom_11 (lv_at hl 5 rfl) ?_
    exact z_iret hC hrt hlk hQ hS ⟨zle (z := 0) rfl (by omega), zle (z := 0) rfl (by omega)⟩ ⟨_, rfl, rfl⟩ dX1_matchFrom_13

abbrev rm_m_X1_matchFrom_1 : Room := { frames := 3, cells := 0, slots := 0, locals := 66 }
set_option maxHeartbeats 4000000 in
theorem m_X1_matchFrom_1 {l : Launch} {s0 : State} {G : zG} (hE : zE l s0 G) (H0 : Heap) (hO : zO s0 H0) (ρ : Ro → Nat) (σ : St) (k k2 f u o : Nat) (hh : HC G s0 ρ σ H0) (hk : k < St_na σ ∧ k2 < St_na σ) (hd : St_d σ k2 = St_d σ k ∧ f + 1 = St_d σ k) (hu : u ≤ 15 ∧ (o + 1) * 10 ≤ 10000) : zM l s0 yX1_matchFrom cX1_matchFrom 8 (some FieldType.int) rm_m_X1_matchFrom_1 [.ref (ρ (0, 0, 0)), .ref (ρ (6, k, 0)), .ref (ρ (6, k2, 0)), .int (iI ((f : Nat) : Int)), .int (iI ((u : Nat) : Int)), .int (iI ((o : Nat) : Int))] H0 M0 (ri (fun y _ => y = mfV (St_p σ) (St_d σ k) (St_dv σ k) (St_dv σ k2) 1 f u o)) := by
  refine z_met hE (by decide +kernel) (Nat.le_of_ble_eq_true rfl) ?_
  intro pp ee ss mm args below meth cd Q ls hC hml hrt hlk hnm hH hQ hS hl
  have hx := hC.x
  have hb := hC.b
  have hl : lv_has ls 8 [(0, .ref (ρ (0, 0, 0))), (1, .ref (ρ (6, k, 0))), (2, .ref (ρ (6, k2, 0))), (3, .int (iI ((f : Nat) : Int))), (4, .int (iI ((u : Nat) : Int))), (5, .int (iI ((o : Nat) : Int)))] := hl
  have hP : va_P G.1 zCl [] H0 := va_nil
  have hD : va_D (zA M0 H0) [] := va_nilD
  have hH1 := hh
  obtain ⟨hp, hna, hal, hne9, hel9, hmr9⟩ := id hh.ok
  have hp7 : 0 < St_p σ ∧ St_p σ ≤ 7 := by rcases hp with h | h | h <;> rw [h] <;> decide
  obtain ⟨sm9, -⟩ := id hh.2.2.1.1
  have hd4 := (hal k hk.1).2.1
  have hAk := hH1.2.2.2.1 k (by omega)
  have hAk2 := hH1.2.2.2.1 k2 (by omega)
  refine lv_iload_n hx hb dX1_matchFrom_0 rfl (lv_at hl 3 rfl) ?_
  refine lv_aload_n hx hb dX1_matchFrom_1 rfl (lv_at hl 1 rfl) ?_
  refine z_getn hC (k := 1) rfl in_X5 hAk.1 (by decide) q959 (fun _ h => h) rfl dX1_matchFrom_2 ?_
  obtain ⟨md9, hL9⟩ := id (hH1.2.2.2.1 k (by omega)).2.1
  refine z_go 0 0 (z_runV (As := []) (rest := [.int (iI ((f : Nat) : Int))]) hC hml hl.1 (m_J2_size hE H0 (hO.ext0 (zS_F hS)) (ρ (7, k, 0)) (St_d σ k) (fun i => G.2 (1000 + ((St_dv σ k i).toNat + 128))) (ρ (8, k, 0)) md9 hL9) (lw_V q229 q230 q231 q65 q232) rfl nd_J2_size rfl (z_rv hC (ci := 8) rfl hL9.1 rfl) rfl (Nat.le_of_ble_eq_true rfl) ⟨Nat.le_of_ble_eq_true rfl, Nat.le_of_ble_eq_true rfl⟩ ⟨zfit (k := 0) (z := 0) rfl rfl (by omega), zfit (k := 0) (z := 0) rfl rfl (by omega)⟩ dX1_matchFrom_5) ⟨zad (k := 0) rfl (by omega), zad (k := 0) rfl (by omega)⟩ hS (fun _ z => z.elim) (fun r H1 locs hp hF hS1 => ?_)
  obtain ⟨_, rfl, rfl⟩ := hp
  have hP := zpk hP hF
  have hP : va_P G.1 zCl ([]) H1 := hP
  have hD : va_D (zA M0 H0) ([]) := hD
  have hH1 : HC G s0 ρ σ H1 := hH1.ext0 hE hF
  have hS := hS1
  refine z_cne (tgt := 14) hx hb dX1_matchFrom_8 (by decide) (by omega) (fun c2 => ?_) (fun c2 => ?_)
  · refine lv_iconst (v := iI 0) hx hb dX1_matchFrom_14 rfl ?_
    refine lv_istore (lv' := [(6, .int (iI 0)), (0, .ref (ρ (0, 0, 0))), (1, .ref (ρ (6, k, 0))), (2, .ref (ρ (6, k2, 0))), (3, .int (iI ((f : Nat) : Int))), (4, .int (iI ((u : Nat) : Int))), (5, .int (iI ((o : Nat) : Int)))]) hx hb dX1_matchFrom_15 hl (by decide) rfl (fun ls hl => ?_)
    have lp3 : ∀ (dlp3 : Nat) (t : Nat), St_d σ k - t = dlp3 → (t ≤ St_d σ k) → (fsI (fun t => if u / 2 ^ t % 2 = 1 ∨ scN (St_p σ) (St_dv σ k f) (St_dv σ k2 t) = -1 then -1 else mfV (St_p σ) (St_d σ k) (St_dv σ k) (St_dv σ k2) 0 (f + 1) (u ||| 2 ^ t) (10 * o + t)) (St_d σ k - t) t = mfV (St_p σ) (St_d σ k) (St_dv σ k) (St_dv σ k2) 1 f u o) → ∀ (H4 : Heap) (locs : List Loc) (ls : Array Slot), (HC G s0 ρ σ H4) → va_P G.1 zCl ([]) H4 → va_D (zA M0 H0) ([]) → va_S (zA M0 H0) H0 H4 locs → lv_has ls 8 [(6, .int (iI ((t : Nat) : Int))), (0, .ref (ρ (0, 0, 0))), (1, .ref (ρ (6, k, 0))), (2, .ref (ρ (6, k2, 0))), (3, .int (iI ((f : Nat) : Int))), (4, .int (iI ((u : Nat) : Int))), (5, .int (iI ((o : Nat) : Int)))] → W pp l ee rm_m_X1_matchFrom_1 ss mm args below meth cd H4 locs 0 0 Q (F0 mm 17 ls []) := by
      intro dlp3
      induction dlp3 using Nat.strongRecOn with
      | ind dlp3 ihlp3 =>
        intro t hdlp3 ht hf9 H4 locs ls hH1 hP hD hS hl
        have hAk := hH1.2.2.2.1 k (by omega)
        have hAk2 := hH1.2.2.2.1 k2 (by omega)
        refine lv_iload hx hb dX1_matchFrom_17 (lv_at hl 0 rfl) ?_
        refine lv_aload_n hx hb dX1_matchFrom_19 rfl (lv_at hl 3 rfl) ?_
        refine z_getn hC (k := 1) rfl in_X5 hAk2.1 (by decide) q959 (fun _ h => h) rfl dX1_matchFrom_20 ?_
        obtain ⟨md9, hL9⟩ := id (hH1.2.2.2.1 k2 (by omega)).2.1
        refine z_go 0 0 (z_runV (As := []) (rest := [.int (iI ((t : Nat) : Int))]) hC hml hl.1 (m_J2_size hE H4 (hO.ext0 (zS_F hS)) (ρ (7, k2, 0)) (St_d σ k2) (fun i => G.2 (1000 + ((St_dv σ k2 i).toNat + 128))) (ρ (8, k2, 0)) md9 hL9) (lw_V q229 q230 q231 q65 q232) rfl nd_J2_size rfl (z_rv hC (ci := 8) rfl hL9.1 rfl) rfl (Nat.le_of_ble_eq_true rfl) ⟨Nat.le_of_ble_eq_true rfl, Nat.le_of_ble_eq_true rfl⟩ ⟨zfit (k := 0) (z := 0) rfl rfl (by omega), zfit (k := 0) (z := 0) rfl rfl (by omega)⟩ dX1_matchFrom_23) ⟨zad (k := 0) rfl (by omega), zad (k := 0) rfl (by omega)⟩ hS (fun _ z => z.elim) (fun r H5 locs hp hF hS1 => ?_)
        obtain ⟨_, rfl, rfl⟩ := hp
        have hP := zpk hP hF
        have hP : va_P G.1 zCl ([]) H5 := hP
        have hD : va_D (zA M0 H0) ([]) := hD
        have hH1 : HC G s0 ρ σ H5 := hH1.ext0 hE hF
        have hS := hS1
        refine z_cge (tgt := 121) hx hb dX1_matchFrom_26 (by decide) (by omega) (fun c6 => ?_) (fun c6 => ?_)
        · have et : St_d σ k - t = 0 := by omega
          refine lv_iconst (v := iI (-1)) hx hb dX1_matchFrom_121 rfl ?_
          exact z_iret hC hrt hlk hQ hS ⟨zle (z := 0) rfl (by omega), zle (z := 0) rfl (by omega)⟩ ⟨_, rfl, by rw [← hf9, et]; rfl⟩ dX1_matchFrom_122
        · have ht3 : t < 4 := by omega
          have hb1 := Nat.and_one_is_mod (u / 2 ^ t)
          refine lv_iload hx hb dX1_matchFrom_29 (lv_at hl 5 rfl) ?_
          refine lv_iload hx hb dX1_matchFrom_31 (lv_at hl 0 rfl) ?_
          refine z_shr hx hb (i := u) (j := t) (n := u / 2 ^ t) dX1_matchFrom_33 rfl rfl (by omega) rfl ?_
          refine lv_iconst (v := iI 1) hx hb dX1_matchFrom_34 rfl ?_
          refine z_and hx hb (n := (u / 2 ^ t) &&& 1) dX1_matchFrom_35 rfl rfl rfl ?_
          refine z_top (b := ((u / 2 ^ t % 2 : Nat) : Int)) (by omega) ?_
          refine lv_iconst (v := iI 1) hx hb dX1_matchFrom_36 rfl ?_
          refine z_ceq (tgt := 115) hx hb dX1_matchFrom_37 (by decide) (by omega) (fun c7 => ?_) (fun c7 => ?_)
          · refine z_iinc (z := ((t + 1 : Nat) : Int)) (lv' := [(6, .int (iI ((t + 1 : Nat) : Int))), (0, .ref (ρ (0, 0, 0))), (1, .ref (ρ (6, k, 0))), (2, .ref (ρ (6, k2, 0))), (3, .int (iI ((f : Nat) : Int))), (4, .int (iI ((u : Nat) : Int))), (5, .int (iI ((o : Nat) : Int)))]) hx hb dX1_matchFrom_115 hl (k := 0) rfl (by omega) (by decide) rfl (fun ls hl => ?_)
            refine lv_goto (tgt := 17) hx hb dX1_matchFrom_118 (by decide) ?_
            exact W.widen (by omega) (by omega) (ihlp3 (St_d σ k - (t + 1)) (by omega) (t + 1) rfl (by omega) (by rw [← hf9, fsI_miss (k := t) (if_pos (Or.inl (by omega))) (by omega), show St_d σ k - (t + 1) = St_d σ k - t - 1 by omega]) _ _ _ hH1 hP hD hS hl)
          · have hAk := hH1.2.2.2.1 k (by omega)
            have hAk2 := hH1.2.2.2.1 k2 (by omega)
            refine lv_aload_n hx hb dX1_matchFrom_40 rfl (lv_at hl 1 rfl) ?_
            refine lv_aload_n hx hb dX1_matchFrom_41 rfl (lv_at hl 2 rfl) ?_
            refine z_getn hC (k := 1) rfl in_X5 hAk.1 (by decide) q959 (fun _ h => h) rfl dX1_matchFrom_42 ?_
            refine lv_iload_n hx hb dX1_matchFrom_45 rfl (lv_at hl 4 rfl) ?_
            have hdkk := (hal k (by omega)).2.2 f (by omega)
            obtain ⟨md9, hL9⟩ := id (hH1.2.2.2.1 k (by omega)).2.1
            refine z_go 0 0 (z_runV (As := [.int (iI ((f : Nat) : Int))]) (rest := [.ref (ρ (0, 0, 0))]) hC hml hl.1 (m_J2_get hE H5 (hO.ext0 (zS_F hS)) (ρ (7, k, 0)) (St_d σ k) (fun i => G.2 (1000 + ((St_dv σ k i).toNat + 128))) (ρ (8, k, 0)) md9 f hL9 (by omega)) (lw_V q372 q373 q374 q65 q375) rfl nd_J2_get rfl (z_rv hC (ci := 8) rfl hL9.1 rfl) rfl (Nat.le_of_ble_eq_true rfl) ⟨Nat.le_of_ble_eq_true rfl, Nat.le_of_ble_eq_true rfl⟩ ⟨zfit (k := 0) (z := 0) rfl rfl (by omega), zfit (k := 0) (z := 0) rfl rfl (by omega)⟩ dX1_matchFrom_46) ⟨zad (k := 0) rfl (by omega), zad (k := 0) rfl (by omega)⟩ hS (fun _ z => z.elim) (fun r H8 locs hp hF hS1 => ?_)
            obtain ⟨_, rfl, rfl⟩ := hp
            have hP := zpk hP hF
            have hP : va_P G.1 zCl ([]) H8 := hP
            have hD : va_D (zA M0 H0) ([]) := hD
            have hH1 : HC G s0 ρ σ H8 := hH1.ext0 hE hF
            have hS := hS1
            refine z_castC hC (hO.ext0 (zS_F hS)) (by omega) q444 dX1_matchFrom_49 ?_
            refine z_go 0 0 (z_runV (As := []) (rest := [.ref (ρ (0, 0, 0))]) hC hml hl.1 (m_J19_intValue hE H8 (hO.ext0 (zS_F hS)) ((St_dv σ k f).toNat + 128) (by omega)) (lw_V q445 q427 q428 q90 q429) rfl nd_J19_intValue rfl (z_cc hE hC.w (hO.ext0 (zS_F hS)) (by omega)) rfl (Nat.le_of_ble_eq_true rfl) ⟨Nat.le_of_ble_eq_true rfl, Nat.le_of_ble_eq_true rfl⟩ ⟨zfit (k := 0) (z := 0) rfl rfl (by omega), zfit (k := 0) (z := 0) rfl rfl (by omega)⟩ dX1_matchFrom_52) ⟨zad (k := 0) rfl (by omega), zad (k := 0) rfl (by omega)⟩ hS (fun _ z => z.elim) (fun r H9 locs hp hF hS1 => ?_)
            obtain ⟨_, rfl, rfl⟩ := hp
            have hP := zpk hP hF
            have hP : va_P G.1 zCl ([]) H9 := hP
            have hD : va_D (zA M0 H0) ([]) := hD
            have hH1 : HC G s0 ρ σ H9 := hH1.ext0 hE hF
            have hS := hS1
            refine z_top (b := St_dv σ k f) (by omega) ?_
            have hAk := hH1.2.2.2.1 k (by omega)
            have hAk2 := hH1.2.2.2.1 k2 (by omega)
            refine lv_aload_n hx hb dX1_matchFrom_55 rfl (lv_at hl 3 rfl) ?_
            refine z_getn hC (k := 1) rfl in_X5 hAk2.1 (by decide) q959 (fun _ h => h) rfl dX1_matchFrom_56 ?_
            refine lv_iload hx hb dX1_matchFrom_59 (lv_at hl 0 rfl) ?_
            have hdkk2 := (hal k2 (by omega)).2.2 t (by omega)
            obtain ⟨md9, hL9⟩ := id (hH1.2.2.2.1 k2 (by omega)).2.1
            refine z_go 0 0 (z_runV (As := [.int (iI ((t : Nat) : Int))]) (rest := [.int (iI (St_dv σ k f)), .ref (ρ (0, 0, 0))]) hC hml hl.1 (m_J2_get hE H9 (hO.ext0 (zS_F hS)) (ρ (7, k2, 0)) (St_d σ k2) (fun i => G.2 (1000 + ((St_dv σ k2 i).toNat + 128))) (ρ (8, k2, 0)) md9 t hL9 (by omega)) (lw_V q372 q373 q374 q65 q375) rfl nd_J2_get rfl (z_rv hC (ci := 8) rfl hL9.1 rfl) rfl (Nat.le_of_ble_eq_true rfl) ⟨Nat.le_of_ble_eq_true rfl, Nat.le_of_ble_eq_true rfl⟩ ⟨zfit (k := 0) (z := 0) rfl rfl (by omega), zfit (k := 0) (z := 0) rfl rfl (by omega)⟩ dX1_matchFrom_61) ⟨zad (k := 0) rfl (by omega), zad (k := 0) rfl (by omega)⟩ hS (fun _ z => z.elim) (fun r H10 locs hp hF hS1 => ?_)
            obtain ⟨_, rfl, rfl⟩ := hp
            have hP := zpk hP hF
            have hP : va_P G.1 zCl ([]) H10 := hP
            have hD : va_D (zA M0 H0) ([]) := hD
            have hH1 : HC G s0 ρ σ H10 := hH1.ext0 hE hF
            have hS := hS1
            refine z_castC hC (hO.ext0 (zS_F hS)) (by omega) q444 dX1_matchFrom_64 ?_
            refine z_go 0 0 (z_runV (As := []) (rest := [.int (iI (St_dv σ k f)), .ref (ρ (0, 0, 0))]) hC hml hl.1 (m_J19_intValue hE H10 (hO.ext0 (zS_F hS)) ((St_dv σ k2 t).toNat + 128) (by omega)) (lw_V q445 q427 q428 q90 q429) rfl nd_J19_intValue rfl (z_cc hE hC.w (hO.ext0 (zS_F hS)) (by omega)) rfl (Nat.le_of_ble_eq_true rfl) ⟨Nat.le_of_ble_eq_true rfl, Nat.le_of_ble_eq_true rfl⟩ ⟨zfit (k := 0) (z := 0) rfl rfl (by omega), zfit (k := 0) (z := 0) rfl rfl (by omega)⟩ dX1_matchFrom_67) ⟨zad (k := 0) rfl (by omega), zad (k := 0) rfl (by omega)⟩ hS (fun _ z => z.elim) (fun r H11 locs hp hF hS1 => ?_)
            obtain ⟨_, rfl, rfl⟩ := hp
            have hP := zpk hP hF
            have hP : va_P G.1 zCl ([]) H11 := hP
            have hD : va_D (zA M0 H0) ([]) := hD
            have hH1 : HC G s0 ρ σ H11 := hH1.ext0 hE hF
            have hS := hS1
            refine z_top (b := St_dv σ k2 t) (by omega) ?_
            obtain ⟨sm, hxx⟩ := id hH1.2.2.1.1
            refine z_go 0 0 (z_runV (As := [.int (iI (St_dv σ k f)), .int (iI (St_dv σ k2 t))]) (rest := []) hC hml hl.1 (m_X1_scaleNow hE H11 (hO.ext0 (zS_F hS)) ρ σ (St_dv σ k f) (St_dv σ k2 t) hH1 ⟨⟨by omega, by omega⟩, by omega, by omega⟩) (lw_V q446 q448 qs13 q62 q449) rfl nd_X1_scaleNow rfl (z_rv hC (ci := 0) rfl hxx rfl) rfl (Nat.le_of_ble_eq_true rfl) ⟨Nat.le_of_ble_eq_true rfl, Nat.le_of_ble_eq_true rfl⟩ ⟨zfit (k := 0) (z := 0) rfl rfl (by omega), zfit (k := 0) (z := 0) rfl rfl (by omega)⟩ dX1_matchFrom_70) ⟨zad (k := 0) rfl (by omega), zad (k := 0) rfl (by omega)⟩ hS (fun _ z => z.elim) (fun r H12 locs hp hF hS1 => ?_)
            obtain ⟨_, rfl, rfl⟩ := hp
            have hP := zpk hP hF
            have hP : va_P G.1 zCl ([]) H12 := hP
            have hD : va_D (zA M0 H0) ([]) := hD
            have hH1 : HC G s0 ρ σ H12 := hH1.ext0 hE hF
            have hS := hS1
            have hsc : -1 ≤ scN (St_p σ) (St_dv σ k f) (St_dv σ k2 t) ∧ scN (St_p σ) (St_dv σ k f) (St_dv σ k2 t) ≤ 8 := by have := fst_in (fun s => (St_dv σ k2 t * (s : Int) * (s : Int)) % St_p σ == St_dv σ k f) ((St_p σ).toNat - 1) 1; unfold scN; omega
            refine lv_iconst (v := iI (-1)) hx hb dX1_matchFrom_73 rfl ?_
            refine z_cne (tgt := 80) hx hb dX1_matchFrom_74 (by decide) (by omega) (fun c13 => ?_) (fun c13 => ?_)
            · have h2t : 2 ^ t ≤ 8 := Nat.le_trans (Nat.pow_le_pow_right (by decide) (show t ≤ 3 by omega)) (by decide)
              have hor : u ||| 2 ^ t < 16 := Nat.or_lt_two_pow (n := 4) (by omega) (by omega)
              have hmf : -1 ≤ mfV (St_p σ) (St_d σ k) (St_dv σ k) (St_dv σ k2) 0 (f + 1) (u ||| 2 ^ t) (10 * o + t) ∧ mfV (St_p σ) (St_d σ k) (St_dv σ k) (St_dv σ k2) 0 (f + 1) (u ||| 2 ^ t) (10 * o + t) ≤ 9999 := mfV_in hd4 (by simp only [Nat.reducePow]; omega)
              refine lv_aload_n hx hb dX1_matchFrom_80 rfl (lv_at hl 1 rfl) ?_
              refine lv_aload_n hx hb dX1_matchFrom_81 rfl (lv_at hl 2 rfl) ?_
              refine lv_aload_n hx hb dX1_matchFrom_82 rfl (lv_at hl 3 rfl) ?_
              refine lv_iload_n hx hb dX1_matchFrom_83 rfl (lv_at hl 4 rfl) ?_
              refine lv_iconst (v := iI 1) hx hb dX1_matchFrom_84 rfl ?_
              refine z_add hx hb (z := ((f : Nat) : Int) + 1) dX1_matchFrom_85 rfl ?_
              refine lv_iload hx hb dX1_matchFrom_86 (lv_at hl 5 rfl) ?_
              refine lv_iconst (v := iI 1) hx hb dX1_matchFrom_88 rfl ?_
              refine lv_iload hx hb dX1_matchFrom_89 (lv_at hl 0 rfl) ?_
              refine z_shl hx hb (i := 1) (j := t) (n := 1 * 2 ^ t) dX1_matchFrom_91 rfl rfl (by omega) rfl ?_
              refine z_top (b := ((2 ^ t : Nat) : Int)) (by omega) ?_
              refine z_or hx hb (n := u ||| (2 ^ t)) dX1_matchFrom_92 rfl rfl rfl ?_
              refine lv_bipush (v := iI 10) hx hb dX1_matchFrom_93 (by decide) ?_
              refine lv_iload hx hb dX1_matchFrom_95 (lv_at hl 6 rfl) ?_
              refine z_mul hx hb (z := 10 * ((o : Nat) : Int)) dX1_matchFrom_97 rfl ?_
              refine lv_iload hx hb dX1_matchFrom_98 (lv_at hl 0 rfl) ?_
              refine z_add hx hb (z := (10 * ((o : Nat) : Int)) + ((t : Nat) : Int)) dX1_matchFrom_100 rfl ?_
              refine z_top (b := ((10 * o + t : Nat) : Int)) (by omega) ?_
              obtain ⟨sm, hxx⟩ := id hH1.2.2.1.1
              refine z_go 0 0 (z_runV (As := [.ref (ρ (6, k, 0)), .ref (ρ (6, k2, 0)), .int (iI (((f : Nat) : Int) + 1)), .int (iI ((u ||| (2 ^ t) : Nat) : Int)), .int (iI ((10 * o + t : Nat) : Int))]) (rest := []) hC hml hl.1 (m_X1_matchFrom_0 hE H12 (hO.ext0 (zS_F hS)) ρ σ k k2 (f + 1) (u ||| 2 ^ t) (10 * o + t) hH1 hk ⟨hd.1, by omega⟩ ⟨by omega, by omega⟩) (lw_V q440 q442 qs12 q62 q443) rfl nd_X1_matchFrom rfl (z_rv hC (ci := 0) rfl hxx rfl) rfl (Nat.le_of_ble_eq_true rfl) ⟨Nat.le_of_ble_eq_true rfl, Nat.le_of_ble_eq_true rfl⟩ ⟨zfit (k := 0) (z := 0) rfl rfl (by omega), zfit (k := 0) (z := 0) rfl rfl (by omega)⟩ dX1_matchFrom_101) ⟨zad (k := 0) rfl (by omega), zad (k := 0) rfl (by omega)⟩ hS (fun _ z => z.elim) (fun r H14 locs hp hF hS1 => ?_)
              obtain ⟨_, rfl, rfl⟩ := hp
              have hP := zpk hP hF
              have hP : va_P G.1 zCl ([]) H14 := hP
              have hD : va_D (zA M0 H0) ([]) := hD
              have hH1 : HC G s0 ρ σ H14 := hH1.ext0 hE hF
              have hS := hS1
              refine lv_istore (lv' := [(7, .int (iI (mfV (St_p σ) (St_d σ k) (St_dv σ k) (St_dv σ k2) 0 (f + 1) (u ||| 2 ^ t) (10 * o + t)))), (6, .int (iI ((t : Nat) : Int))), (0, .ref (ρ (0, 0, 0))), (1, .ref (ρ (6, k, 0))), (2, .ref (ρ (6, k2, 0))), (3, .int (iI ((f : Nat) : Int))), (4, .int (iI ((u : Nat) : Int))), (5, .int (iI ((o : Nat) : Int)))]) hx hb dX1_matchFrom_104 hl (by decide) rfl (fun ls hl => ?_)
              refine lv_iload hx hb dX1_matchFrom_106 (lv_at hl 0 rfl) ?_
              refine lv_iconst (v := iI (-1)) hx hb dX1_matchFrom_108 rfl ?_
              refine z_ceq (tgt := 115) hx hb dX1_matchFrom_109 (by decide) (by omega) (fun c15 => ?_) (fun c15 => ?_)
              · refine z_iinc (z := ((t + 1 : Nat) : Int)) (lv' := [(6, .int (iI ((t + 1 : Nat) : Int))), (7, .int (iI (mfV (St_p σ) (St_d σ k) (St_dv σ k) (St_dv σ k2) 0 (f + 1) (u ||| 2 ^ t) (10 * o + t)))), (0, .ref (ρ (0, 0, 0))), (1, .ref (ρ (6, k, 0))), (2, .ref (ρ (6, k2, 0))), (3, .int (iI ((f : Nat) : Int))), (4, .int (iI ((u : Nat) : Int))), (5, .int (iI ((o : Nat) : Int)))]) hx hb dX1_matchFrom_115 hl (k := 1) rfl (by omega) (by decide) rfl (fun ls hl => ?_)
                refine lv_goto (tgt := 17) hx hb dX1_matchFrom_118 (by decide) ?_
                exact W.widen (by omega) (by omega) (ihlp3 (St_d σ k - (t + 1)) (by omega) (t + 1) rfl (by omega) (by rw [← hf9, fsI_miss (k := t) (eq_m1 (if_neg (by omega)) (by assumption)) (by omega), show St_d σ k - (t + 1) = St_d σ k - t - 1 by omega]) _ _ _ hH1 hP hD hS (lv_sub hl [0, 2, 3, 4, 5, 6, 7] rfl))
              · refine lv_iload hx hb dX1_matchFrom_112 (lv_at hl 0 rfl) ?_
                exact z_iret hC hrt hlk hQ hS ⟨zle (z := 0) rfl (by omega), zle (z := 0) rfl (by omega)⟩ ⟨_, rfl, by rw [← hf9]; exact (fsI_hit2 (k := t) (if_neg (by omega)) (by assumption) (by omega)).symm⟩ dX1_matchFrom_114
            · refine lv_goto (tgt := 115) hx hb dX1_matchFrom_77 (by decide) ?_
              refine z_iinc (z := ((t + 1 : Nat) : Int)) (lv' := [(6, .int (iI ((t + 1 : Nat) : Int))), (0, .ref (ρ (0, 0, 0))), (1, .ref (ρ (6, k, 0))), (2, .ref (ρ (6, k2, 0))), (3, .int (iI ((f : Nat) : Int))), (4, .int (iI ((u : Nat) : Int))), (5, .int (iI ((o : Nat) : Int)))]) hx hb dX1_matchFrom_115 hl (k := 0) rfl (by omega) (by decide) rfl (fun ls hl => ?_)
              refine lv_goto (tgt := 17) hx hb dX1_matchFrom_118 (by decide) ?_
              exact W.widen (by omega) (by omega) (ihlp3 (St_d σ k - (t + 1)) (by omega) (t + 1) rfl (by omega) (by rw [← hf9, fsI_miss (k := t) (if_pos (Or.inr (by assumption))) (by omega), show St_d σ k - (t + 1) = St_d σ k - t - 1 by omega]) _ _ _ hH1 hP hD hS hl)
    exact W.widen (by omega) (by omega) (lp3 _ 0 rfl (Nat.zero_le _) rfl _ _ _ hH1 hP hD hS hl)
  · omega

abbrev rm_m_X1_matchFrom_2 : Room := { frames := 4, cells := 0, slots := 0, locals := 93 }
set_option maxHeartbeats 4000000 in
theorem m_X1_matchFrom_2 {l : Launch} {s0 : State} {G : zG} (hE : zE l s0 G) (H0 : Heap) (hO : zO s0 H0) (ρ : Ro → Nat) (σ : St) (k k2 f u o : Nat) (hh : HC G s0 ρ σ H0) (hk : k < St_na σ ∧ k2 < St_na σ) (hd : St_d σ k2 = St_d σ k ∧ f + 2 = St_d σ k) (hu : u ≤ 15 ∧ (o + 1) * 100 ≤ 10000) : zM l s0 yX1_matchFrom cX1_matchFrom 8 (some FieldType.int) rm_m_X1_matchFrom_2 [.ref (ρ (0, 0, 0)), .ref (ρ (6, k, 0)), .ref (ρ (6, k2, 0)), .int (iI ((f : Nat) : Int)), .int (iI ((u : Nat) : Int)), .int (iI ((o : Nat) : Int))] H0 M0 (ri (fun y _ => y = mfV (St_p σ) (St_d σ k) (St_dv σ k) (St_dv σ k2) 2 f u o)) := by
  refine z_met hE (by decide +kernel) (Nat.le_of_ble_eq_true rfl) ?_
  intro pp ee ss mm args below meth cd Q ls hC hml hrt hlk hnm hH hQ hS hl
  have hx := hC.x
  have hb := hC.b
  have hl : lv_has ls 8 [(0, .ref (ρ (0, 0, 0))), (1, .ref (ρ (6, k, 0))), (2, .ref (ρ (6, k2, 0))), (3, .int (iI ((f : Nat) : Int))), (4, .int (iI ((u : Nat) : Int))), (5, .int (iI ((o : Nat) : Int)))] := hl
  have hP : va_P G.1 zCl [] H0 := va_nil
  have hD : va_D (zA M0 H0) [] := va_nilD
  have hH1 := hh
  obtain ⟨hp, hna, hal, hne9, hel9, hmr9⟩ := id hh.ok
  have hp7 : 0 < St_p σ ∧ St_p σ ≤ 7 := by rcases hp with h | h | h <;> rw [h] <;> decide
  obtain ⟨sm9, -⟩ := id hh.2.2.1.1
  have hd4 := (hal k hk.1).2.1
  have hAk := hH1.2.2.2.1 k (by omega)
  have hAk2 := hH1.2.2.2.1 k2 (by omega)
  refine lv_iload_n hx hb dX1_matchFrom_0 rfl (lv_at hl 3 rfl) ?_
  refine lv_aload_n hx hb dX1_matchFrom_1 rfl (lv_at hl 1 rfl) ?_
  refine z_getn hC (k := 1) rfl in_X5 hAk.1 (by decide) q959 (fun _ h => h) rfl dX1_matchFrom_2 ?_
  obtain ⟨md9, hL9⟩ := id (hH1.2.2.2.1 k (by omega)).2.1
  refine z_go 0 0 (z_runV (As := []) (rest := [.int (iI ((f : Nat) : Int))]) hC hml hl.1 (m_J2_size hE H0 (hO.ext0 (zS_F hS)) (ρ (7, k, 0)) (St_d σ k) (fun i => G.2 (1000 + ((St_dv σ k i).toNat + 128))) (ρ (8, k, 0)) md9 hL9) (lw_V q229 q230 q231 q65 q232) rfl nd_J2_size rfl (z_rv hC (ci := 8) rfl hL9.1 rfl) rfl (Nat.le_of_ble_eq_true rfl) ⟨Nat.le_of_ble_eq_true rfl, Nat.le_of_ble_eq_true rfl⟩ ⟨zfit (k := 0) (z := 0) rfl rfl (by omega), zfit (k := 0) (z := 0) rfl rfl (by omega)⟩ dX1_matchFrom_5) ⟨zad (k := 0) rfl (by omega), zad (k := 0) rfl (by omega)⟩ hS (fun _ z => z.elim) (fun r H1 locs hp hF hS1 => ?_)
  obtain ⟨_, rfl, rfl⟩ := hp
  have hP := zpk hP hF
  have hP : va_P G.1 zCl ([]) H1 := hP
  have hD : va_D (zA M0 H0) ([]) := hD
  have hH1 : HC G s0 ρ σ H1 := hH1.ext0 hE hF
  have hS := hS1
  refine z_cne (tgt := 14) hx hb dX1_matchFrom_8 (by decide) (by omega) (fun c2 => ?_) (fun c2 => ?_)
  · refine lv_iconst (v := iI 0) hx hb dX1_matchFrom_14 rfl ?_
    refine lv_istore (lv' := [(6, .int (iI 0)), (0, .ref (ρ (0, 0, 0))), (1, .ref (ρ (6, k, 0))), (2, .ref (ρ (6, k2, 0))), (3, .int (iI ((f : Nat) : Int))), (4, .int (iI ((u : Nat) : Int))), (5, .int (iI ((o : Nat) : Int)))]) hx hb dX1_matchFrom_15 hl (by decide) rfl (fun ls hl => ?_)
    have lp3 : ∀ (dlp3 : Nat) (t : Nat), St_d σ k - t = dlp3 → (t ≤ St_d σ k) → (fsI (fun t => if u / 2 ^ t % 2 = 1 ∨ scN (St_p σ) (St_dv σ k f) (St_dv σ k2 t) = -1 then -1 else mfV (St_p σ) (St_d σ k) (St_dv σ k) (St_dv σ k2) 1 (f + 1) (u ||| 2 ^ t) (10 * o + t)) (St_d σ k - t) t = mfV (St_p σ) (St_d σ k) (St_dv σ k) (St_dv σ k2) 2 f u o) → ∀ (H4 : Heap) (locs : List Loc) (ls : Array Slot), (HC G s0 ρ σ H4) → va_P G.1 zCl ([]) H4 → va_D (zA M0 H0) ([]) → va_S (zA M0 H0) H0 H4 locs → lv_has ls 8 [(6, .int (iI ((t : Nat) : Int))), (0, .ref (ρ (0, 0, 0))), (1, .ref (ρ (6, k, 0))), (2, .ref (ρ (6, k2, 0))), (3, .int (iI ((f : Nat) : Int))), (4, .int (iI ((u : Nat) : Int))), (5, .int (iI ((o : Nat) : Int)))] → W pp l ee rm_m_X1_matchFrom_2 ss mm args below meth cd H4 locs 0 0 Q (F0 mm 17 ls []) := by
      intro dlp3
      induction dlp3 using Nat.strongRecOn with
      | ind dlp3 ihlp3 =>
        intro t hdlp3 ht hf9 H4 locs ls hH1 hP hD hS hl
        have hAk := hH1.2.2.2.1 k (by omega)
        have hAk2 := hH1.2.2.2.1 k2 (by omega)
        refine lv_iload hx hb dX1_matchFrom_17 (lv_at hl 0 rfl) ?_
        refine lv_aload_n hx hb dX1_matchFrom_19 rfl (lv_at hl 3 rfl) ?_
        refine z_getn hC (k := 1) rfl in_X5 hAk2.1 (by decide) q959 (fun _ h => h) rfl dX1_matchFrom_20 ?_
        obtain ⟨md9, hL9⟩ := id (hH1.2.2.2.1 k2 (by omega)).2.1
        refine z_go 0 0 (z_runV (As := []) (rest := [.int (iI ((t : Nat) : Int))]) hC hml hl.1 (m_J2_size hE H4 (hO.ext0 (zS_F hS)) (ρ (7, k2, 0)) (St_d σ k2) (fun i => G.2 (1000 + ((St_dv σ k2 i).toNat + 128))) (ρ (8, k2, 0)) md9 hL9) (lw_V q229 q230 q231 q65 q232) rfl nd_J2_size rfl (z_rv hC (ci := 8) rfl hL9.1 rfl) rfl (Nat.le_of_ble_eq_true rfl) ⟨Nat.le_of_ble_eq_true rfl, Nat.le_of_ble_eq_true rfl⟩ ⟨zfit (k := 0) (z := 0) rfl rfl (by omega), zfit (k := 0) (z := 0) rfl rfl (by omega)⟩ dX1_matchFrom_23) ⟨zad (k := 0) rfl (by omega), zad (k := 0) rfl (by omega)⟩ hS (fun _ z => z.elim) (fun r H5 locs hp hF hS1 => ?_)
        obtain ⟨_, rfl, rfl⟩ := hp
        have hP := zpk hP hF
        have hP : va_P G.1 zCl ([]) H5 := hP
        have hD : va_D (zA M0 H0) ([]) := hD
        have hH1 : HC G s0 ρ σ H5 := hH1.ext0 hE hF
        have hS := hS1
        refine z_cge (tgt := 121) hx hb dX1_matchFrom_26 (by decide) (by omega) (fun c6 => ?_) (fun c6 => ?_)
        · have et : St_d σ k - t = 0 := by omega
          refine lv_iconst (v := iI (-1)) hx hb dX1_matchFrom_121 rfl ?_
          exact z_iret hC hrt hlk hQ hS ⟨zle (z := 0) rfl (by omega), zle (z := 0) rfl (by omega)⟩ ⟨_, rfl, by rw [← hf9, et]; rfl⟩ dX1_matchFrom_122
        · have ht3 : t < 4 := by omega
          have hb1 := Nat.and_one_is_mod (u / 2 ^ t)
          refine lv_iload hx hb dX1_matchFrom_29 (lv_at hl 5 rfl) ?_
          refine lv_iload hx hb dX1_matchFrom_31 (lv_at hl 0 rfl) ?_
          refine z_shr hx hb (i := u) (j := t) (n := u / 2 ^ t) dX1_matchFrom_33 rfl rfl (by omega) rfl ?_
          refine lv_iconst (v := iI 1) hx hb dX1_matchFrom_34 rfl ?_
          refine z_and hx hb (n := (u / 2 ^ t) &&& 1) dX1_matchFrom_35 rfl rfl rfl ?_
          refine z_top (b := ((u / 2 ^ t % 2 : Nat) : Int)) (by omega) ?_
          refine lv_iconst (v := iI 1) hx hb dX1_matchFrom_36 rfl ?_
          refine z_ceq (tgt := 115) hx hb dX1_matchFrom_37 (by decide) (by omega) (fun c7 => ?_) (fun c7 => ?_)
          · refine z_iinc (z := ((t + 1 : Nat) : Int)) (lv' := [(6, .int (iI ((t + 1 : Nat) : Int))), (0, .ref (ρ (0, 0, 0))), (1, .ref (ρ (6, k, 0))), (2, .ref (ρ (6, k2, 0))), (3, .int (iI ((f : Nat) : Int))), (4, .int (iI ((u : Nat) : Int))), (5, .int (iI ((o : Nat) : Int)))]) hx hb dX1_matchFrom_115 hl (k := 0) rfl (by omega) (by decide) rfl (fun ls hl => ?_)
            refine lv_goto (tgt := 17) hx hb dX1_matchFrom_118 (by decide) ?_
            exact W.widen (by omega) (by omega) (ihlp3 (St_d σ k - (t + 1)) (by omega) (t + 1) rfl (by omega) (by rw [← hf9, fsI_miss (k := t) (if_pos (Or.inl (by omega))) (by omega), show St_d σ k - (t + 1) = St_d σ k - t - 1 by omega]) _ _ _ hH1 hP hD hS hl)
          · have hAk := hH1.2.2.2.1 k (by omega)
            have hAk2 := hH1.2.2.2.1 k2 (by omega)
            refine lv_aload_n hx hb dX1_matchFrom_40 rfl (lv_at hl 1 rfl) ?_
            refine lv_aload_n hx hb dX1_matchFrom_41 rfl (lv_at hl 2 rfl) ?_
            refine z_getn hC (k := 1) rfl in_X5 hAk.1 (by decide) q959 (fun _ h => h) rfl dX1_matchFrom_42 ?_
            refine lv_iload_n hx hb dX1_matchFrom_45 rfl (lv_at hl 4 rfl) ?_
            have hdkk := (hal k (by omega)).2.2 f (by omega)
            obtain ⟨md9, hL9⟩ := id (hH1.2.2.2.1 k (by omega)).2.1
            refine z_go 0 0 (z_runV (As := [.int (iI ((f : Nat) : Int))]) (rest := [.ref (ρ (0, 0, 0))]) hC hml hl.1 (m_J2_get hE H5 (hO.ext0 (zS_F hS)) (ρ (7, k, 0)) (St_d σ k) (fun i => G.2 (1000 + ((St_dv σ k i).toNat + 128))) (ρ (8, k, 0)) md9 f hL9 (by omega)) (lw_V q372 q373 q374 q65 q375) rfl nd_J2_get rfl (z_rv hC (ci := 8) rfl hL9.1 rfl) rfl (Nat.le_of_ble_eq_true rfl) ⟨Nat.le_of_ble_eq_true rfl, Nat.le_of_ble_eq_true rfl⟩ ⟨zfit (k := 0) (z := 0) rfl rfl (by omega), zfit (k := 0) (z := 0) rfl rfl (by omega)⟩ dX1_matchFrom_46) ⟨zad (k := 0) rfl (by omega), zad (k := 0) rfl (by omega)⟩ hS (fun _ z => z.elim) (fun r H8 locs hp hF hS1 => ?_)
            obtain ⟨_, rfl, rfl⟩ := hp
            have hP := zpk hP hF
            have hP : va_P G.1 zCl ([]) H8 := hP
            have hD : va_D (zA M0 H0) ([]) := hD
            have hH1 : HC G s0 ρ σ H8 := hH1.ext0 hE hF
            have hS := hS1
            refine z_castC hC (hO.ext0 (zS_F hS)) (by omega) q444 dX1_matchFrom_49 ?_
            refine z_go 0 0 (z_runV (As := []) (rest := [.ref (ρ (0, 0, 0))]) hC hml hl.1 (m_J19_intValue hE H8 (hO.ext0 (zS_F hS)) ((St_dv σ k f).toNat + 128) (by omega)) (lw_V q445 q427 q428 q90 q429) rfl nd_J19_intValue rfl (z_cc hE hC.w (hO.ext0 (zS_F hS)) (by omega)) rfl (Nat.le_of_ble_eq_true rfl) ⟨Nat.le_of_ble_eq_true rfl, Nat.le_of_ble_eq_true rfl⟩ ⟨zfit (k := 0) (z := 0) rfl rfl (by omega), zfit (k := 0) (z := 0) rfl rfl (by omega)⟩ dX1_matchFrom_52) ⟨zad (k := 0) rfl (by omega), zad (k := 0) rfl (by omega)⟩ hS (fun _ z => z.elim) (fun r H9 locs hp hF hS1 => ?_)
            obtain ⟨_, rfl, rfl⟩ := hp
            have hP := zpk hP hF
            have hP : va_P G.1 zCl ([]) H9 := hP
            have hD : va_D (zA M0 H0) ([]) := hD
            have hH1 : HC G s0 ρ σ H9 := hH1.ext0 hE hF
            have hS := hS1
            refine z_top (b := St_dv σ k f) (by omega) ?_
            have hAk := hH1.2.2.2.1 k (by omega)
            have hAk2 := hH1.2.2.2.1 k2 (by omega)
            refine lv_aload_n hx hb dX1_matchFrom_55 rfl (lv_at hl 3 rfl) ?_
            refine z_getn hC (k := 1) rfl in_X5 hAk2.1 (by decide) q959 (fun _ h => h) rfl dX1_matchFrom_56 ?_
            refine lv_iload hx hb dX1_matchFrom_59 (lv_at hl 0 rfl) ?_
            have hdkk2 := (hal k2 (by omega)).2.2 t (by omega)
            obtain ⟨md9, hL9⟩ := id (hH1.2.2.2.1 k2 (by omega)).2.1
            refine z_go 0 0 (z_runV (As := [.int (iI ((t : Nat) : Int))]) (rest := [.int (iI (St_dv σ k f)), .ref (ρ (0, 0, 0))]) hC hml hl.1 (m_J2_get hE H9 (hO.ext0 (zS_F hS)) (ρ (7, k2, 0)) (St_d σ k2) (fun i => G.2 (1000 + ((St_dv σ k2 i).toNat + 128))) (ρ (8, k2, 0)) md9 t hL9 (by omega)) (lw_V q372 q373 q374 q65 q375) rfl nd_J2_get rfl (z_rv hC (ci := 8) rfl hL9.1 rfl) rfl (Nat.le_of_ble_eq_true rfl) ⟨Nat.le_of_ble_eq_true rfl, Nat.le_of_ble_eq_true rfl⟩ ⟨zfit (k := 0) (z := 0) rfl rfl (by omega), zfit (k := 0) (z := 0) rfl rfl (by omega)⟩ dX1_matchFrom_61) ⟨zad (k := 0) rfl (by omega), zad (k := 0) rfl (by omega)⟩ hS (fun _ z => z.elim) (fun r H10 locs hp hF hS1 => ?_)
            obtain ⟨_, rfl, rfl⟩ := hp
            have hP := zpk hP hF
            have hP : va_P G.1 zCl ([]) H10 := hP
            have hD : va_D (zA M0 H0) ([]) := hD
            have hH1 : HC G s0 ρ σ H10 := hH1.ext0 hE hF
            have hS := hS1
            refine z_castC hC (hO.ext0 (zS_F hS)) (by omega) q444 dX1_matchFrom_64 ?_
            refine z_go 0 0 (z_runV (As := []) (rest := [.int (iI (St_dv σ k f)), .ref (ρ (0, 0, 0))]) hC hml hl.1 (m_J19_intValue hE H10 (hO.ext0 (zS_F hS)) ((St_dv σ k2 t).toNat + 128) (by omega)) (lw_V q445 q427 q428 q90 q429) rfl nd_J19_intValue rfl (z_cc hE hC.w (hO.ext0 (zS_F hS)) (by omega)) rfl (Nat.le_of_ble_eq_true rfl) ⟨Nat.le_of_ble_eq_true rfl, Nat.le_of_ble_eq_true rfl⟩ ⟨zfit (k := 0) (z := 0) rfl rfl (by omega), zfit (k := 0) (z := 0) rfl rfl (by omega)⟩ dX1_matchFrom_67) ⟨zad (k := 0) rfl (by omega), zad (k := 0) rfl (by omega)⟩ hS (fun _ z => z.elim) (fun r H11 locs hp hF hS1 => ?_)
            obtain ⟨_, rfl, rfl⟩ := hp
            have hP := zpk hP hF
            have hP : va_P G.1 zCl ([]) H11 := hP
            have hD : va_D (zA M0 H0) ([]) := hD
            have hH1 : HC G s0 ρ σ H11 := hH1.ext0 hE hF
            have hS := hS1
            refine z_top (b := St_dv σ k2 t) (by omega) ?_
            obtain ⟨sm, hxx⟩ := id hH1.2.2.1.1
            refine z_go 0 0 (z_runV (As := [.int (iI (St_dv σ k f)), .int (iI (St_dv σ k2 t))]) (rest := []) hC hml hl.1 (m_X1_scaleNow hE H11 (hO.ext0 (zS_F hS)) ρ σ (St_dv σ k f) (St_dv σ k2 t) hH1 ⟨⟨by omega, by omega⟩, by omega, by omega⟩) (lw_V q446 q448 qs13 q62 q449) rfl nd_X1_scaleNow rfl (z_rv hC (ci := 0) rfl hxx rfl) rfl (Nat.le_of_ble_eq_true rfl) ⟨Nat.le_of_ble_eq_true rfl, Nat.le_of_ble_eq_true rfl⟩ ⟨zfit (k := 0) (z := 0) rfl rfl (by omega), zfit (k := 0) (z := 0) rfl rfl (by omega)⟩ dX1_matchFrom_70) ⟨zad (k := 0) rfl (by omega), zad (k := 0) rfl (by omega)⟩ hS (fun _ z => z.elim) (fun r H12 locs hp hF hS1 => ?_)
            obtain ⟨_, rfl, rfl⟩ := hp
            have hP := zpk hP hF
            have hP : va_P G.1 zCl ([]) H12 := hP
            have hD : va_D (zA M0 H0) ([]) := hD
            have hH1 : HC G s0 ρ σ H12 := hH1.ext0 hE hF
            have hS := hS1
            have hsc : -1 ≤ scN (St_p σ) (St_dv σ k f) (St_dv σ k2 t) ∧ scN (St_p σ) (St_dv σ k f) (St_dv σ k2 t) ≤ 8 := by have := fst_in (fun s => (St_dv σ k2 t * (s : Int) * (s : Int)) % St_p σ == St_dv σ k f) ((St_p σ).toNat - 1) 1; unfold scN; omega
            refine lv_iconst (v := iI (-1)) hx hb dX1_matchFrom_73 rfl ?_
            refine z_cne (tgt := 80) hx hb dX1_matchFrom_74 (by decide) (by omega) (fun c13 => ?_) (fun c13 => ?_)
            · have h2t : 2 ^ t ≤ 8 := Nat.le_trans (Nat.pow_le_pow_right (by decide) (show t ≤ 3 by omega)) (by decide)
              have hor : u ||| 2 ^ t < 16 := Nat.or_lt_two_pow (n := 4) (by omega) (by omega)
              have hmf : -1 ≤ mfV (St_p σ) (St_d σ k) (St_dv σ k) (St_dv σ k2) 1 (f + 1) (u ||| 2 ^ t) (10 * o + t) ∧ mfV (St_p σ) (St_d σ k) (St_dv σ k) (St_dv σ k2) 1 (f + 1) (u ||| 2 ^ t) (10 * o + t) ≤ 9999 := mfV_in hd4 (by simp only [Nat.reducePow]; omega)
              refine lv_aload_n hx hb dX1_matchFrom_80 rfl (lv_at hl 1 rfl) ?_
              refine lv_aload_n hx hb dX1_matchFrom_81 rfl (lv_at hl 2 rfl) ?_
              refine lv_aload_n hx hb dX1_matchFrom_82 rfl (lv_at hl 3 rfl) ?_
              refine lv_iload_n hx hb dX1_matchFrom_83 rfl (lv_at hl 4 rfl) ?_
              refine lv_iconst (v := iI 1) hx hb dX1_matchFrom_84 rfl ?_
              refine z_add hx hb (z := ((f : Nat) : Int) + 1) dX1_matchFrom_85 rfl ?_
              refine lv_iload hx hb dX1_matchFrom_86 (lv_at hl 5 rfl) ?_
              refine lv_iconst (v := iI 1) hx hb dX1_matchFrom_88 rfl ?_
              refine lv_iload hx hb dX1_matchFrom_89 (lv_at hl 0 rfl) ?_
              refine z_shl hx hb (i := 1) (j := t) (n := 1 * 2 ^ t) dX1_matchFrom_91 rfl rfl (by omega) rfl ?_
              refine z_top (b := ((2 ^ t : Nat) : Int)) (by omega) ?_
              refine z_or hx hb (n := u ||| (2 ^ t)) dX1_matchFrom_92 rfl rfl rfl ?_
              refine lv_bipush (v := iI 10) hx hb dX1_matchFrom_93 (by decide) ?_
              refine lv_iload hx hb dX1_matchFrom_95 (lv_at hl 6 rfl) ?_
              refine z_mul hx hb (z := 10 * ((o : Nat) : Int)) dX1_matchFrom_97 rfl ?_
              refine lv_iload hx hb dX1_matchFrom_98 (lv_at hl 0 rfl) ?_
              refine z_add hx hb (z := (10 * ((o : Nat) : Int)) + ((t : Nat) : Int)) dX1_matchFrom_100 rfl ?_
              refine z_top (b := ((10 * o + t : Nat) : Int)) (by omega) ?_
              obtain ⟨sm, hxx⟩ := id hH1.2.2.1.1
              refine z_go 0 0 (z_runV (As := [.ref (ρ (6, k, 0)), .ref (ρ (6, k2, 0)), .int (iI (((f : Nat) : Int) + 1)), .int (iI ((u ||| (2 ^ t) : Nat) : Int)), .int (iI ((10 * o + t : Nat) : Int))]) (rest := []) hC hml hl.1 (m_X1_matchFrom_1 hE H12 (hO.ext0 (zS_F hS)) ρ σ k k2 (f + 1) (u ||| 2 ^ t) (10 * o + t) hH1 hk ⟨hd.1, by omega⟩ ⟨by omega, by omega⟩) (lw_V q440 q442 qs12 q62 q443) rfl nd_X1_matchFrom rfl (z_rv hC (ci := 0) rfl hxx rfl) rfl (Nat.le_of_ble_eq_true rfl) ⟨Nat.le_of_ble_eq_true rfl, Nat.le_of_ble_eq_true rfl⟩ ⟨zfit (k := 0) (z := 0) rfl rfl (by omega), zfit (k := 0) (z := 0) rfl rfl (by omega)⟩ dX1_matchFrom_101) ⟨zad (k := 0) rfl (by omega), zad (k := 0) rfl (by omega)⟩ hS (fun _ z => z.elim) (fun r H14 locs hp hF hS1 => ?_)
              obtain ⟨_, rfl, rfl⟩ := hp
              have hP := zpk hP hF
              have hP : va_P G.1 zCl ([]) H14 := hP
              have hD : va_D (zA M0 H0) ([]) := hD
              have hH1 : HC G s0 ρ σ H14 := hH1.ext0 hE hF
              have hS := hS1
              refine lv_istore (lv' := [(7, .int (iI (mfV (St_p σ) (St_d σ k) (St_dv σ k) (St_dv σ k2) 1 (f + 1) (u ||| 2 ^ t) (10 * o + t)))), (6, .int (iI ((t : Nat) : Int))), (0, .ref (ρ (0, 0, 0))), (1, .ref (ρ (6, k, 0))), (2, .ref (ρ (6, k2, 0))), (3, .int (iI ((f : Nat) : Int))), (4, .int (iI ((u : Nat) : Int))), (5, .int (iI ((o : Nat) : Int)))]) hx hb dX1_matchFrom_104 hl (by decide) rfl (fun ls hl => ?_)
              refine lv_iload hx hb dX1_matchFrom_106 (lv_at hl 0 rfl) ?_
              refine lv_iconst (v := iI (-1)) hx hb dX1_matchFrom_108 rfl ?_
              refine z_ceq (tgt := 115) hx hb dX1_matchFrom_109 (by decide) (by omega) (fun c15 => ?_) (fun c15 => ?_)
              · refine z_iinc (z := ((t + 1 : Nat) : Int)) (lv' := [(6, .int (iI ((t + 1 : Nat) : Int))), (7, .int (iI (mfV (St_p σ) (St_d σ k) (St_dv σ k) (St_dv σ k2) 1 (f + 1) (u ||| 2 ^ t) (10 * o + t)))), (0, .ref (ρ (0, 0, 0))), (1, .ref (ρ (6, k, 0))), (2, .ref (ρ (6, k2, 0))), (3, .int (iI ((f : Nat) : Int))), (4, .int (iI ((u : Nat) : Int))), (5, .int (iI ((o : Nat) : Int)))]) hx hb dX1_matchFrom_115 hl (k := 1) rfl (by omega) (by decide) rfl (fun ls hl => ?_)
                refine lv_goto (tgt := 17) hx hb dX1_matchFrom_118 (by decide) ?_
                exact W.widen (by omega) (by omega) (ihlp3 (St_d σ k - (t + 1)) (by omega) (t + 1) rfl (by omega) (by rw [← hf9, fsI_miss (k := t) (eq_m1 (if_neg (by omega)) (by assumption)) (by omega), show St_d σ k - (t + 1) = St_d σ k - t - 1 by omega]) _ _ _ hH1 hP hD hS (lv_sub hl [0, 2, 3, 4, 5, 6, 7] rfl))
              · refine lv_iload hx hb dX1_matchFrom_112 (lv_at hl 0 rfl) ?_
                exact z_iret hC hrt hlk hQ hS ⟨zle (z := 0) rfl (by omega), zle (z := 0) rfl (by omega)⟩ ⟨_, rfl, by rw [← hf9]; exact (fsI_hit2 (k := t) (if_neg (by omega)) (by assumption) (by omega)).symm⟩ dX1_matchFrom_114
            · refine lv_goto (tgt := 115) hx hb dX1_matchFrom_77 (by decide) ?_
              refine z_iinc (z := ((t + 1 : Nat) : Int)) (lv' := [(6, .int (iI ((t + 1 : Nat) : Int))), (0, .ref (ρ (0, 0, 0))), (1, .ref (ρ (6, k, 0))), (2, .ref (ρ (6, k2, 0))), (3, .int (iI ((f : Nat) : Int))), (4, .int (iI ((u : Nat) : Int))), (5, .int (iI ((o : Nat) : Int)))]) hx hb dX1_matchFrom_115 hl (k := 0) rfl (by omega) (by decide) rfl (fun ls hl => ?_)
              refine lv_goto (tgt := 17) hx hb dX1_matchFrom_118 (by decide) ?_
              exact W.widen (by omega) (by omega) (ihlp3 (St_d σ k - (t + 1)) (by omega) (t + 1) rfl (by omega) (by rw [← hf9, fsI_miss (k := t) (if_pos (Or.inr (by assumption))) (by omega), show St_d σ k - (t + 1) = St_d σ k - t - 1 by omega]) _ _ _ hH1 hP hD hS hl)
    exact W.widen (by omega) (by omega) (lp3 _ 0 rfl (Nat.zero_le _) rfl _ _ _ hH1 hP hD hS hl)
  · omega

abbrev rm_m_X1_matchFrom_3 : Room := { frames := 5, cells := 0, slots := 0, locals := 120 }
set_option maxHeartbeats 4000000 in
theorem m_X1_matchFrom_3 {l : Launch} {s0 : State} {G : zG} (hE : zE l s0 G) (H0 : Heap) (hO : zO s0 H0) (ρ : Ro → Nat) (σ : St) (k k2 f u o : Nat) (hh : HC G s0 ρ σ H0) (hk : k < St_na σ ∧ k2 < St_na σ) (hd : St_d σ k2 = St_d σ k ∧ f + 3 = St_d σ k) (hu : u ≤ 15 ∧ (o + 1) * 1000 ≤ 10000) : zM l s0 yX1_matchFrom cX1_matchFrom 8 (some FieldType.int) rm_m_X1_matchFrom_3 [.ref (ρ (0, 0, 0)), .ref (ρ (6, k, 0)), .ref (ρ (6, k2, 0)), .int (iI ((f : Nat) : Int)), .int (iI ((u : Nat) : Int)), .int (iI ((o : Nat) : Int))] H0 M0 (ri (fun y _ => y = mfV (St_p σ) (St_d σ k) (St_dv σ k) (St_dv σ k2) 3 f u o)) := by
  refine z_met hE (by decide +kernel) (Nat.le_of_ble_eq_true rfl) ?_
  intro pp ee ss mm args below meth cd Q ls hC hml hrt hlk hnm hH hQ hS hl
  have hx := hC.x
  have hb := hC.b
  have hl : lv_has ls 8 [(0, .ref (ρ (0, 0, 0))), (1, .ref (ρ (6, k, 0))), (2, .ref (ρ (6, k2, 0))), (3, .int (iI ((f : Nat) : Int))), (4, .int (iI ((u : Nat) : Int))), (5, .int (iI ((o : Nat) : Int)))] := hl
  have hP : va_P G.1 zCl [] H0 := va_nil
  have hD : va_D (zA M0 H0) [] := va_nilD
  have hH1 := hh
  obtain ⟨hp, hna, hal, hne9, hel9, hmr9⟩ := id hh.ok
  have hp7 : 0 < St_p σ ∧ St_p σ ≤ 7 := by rcases hp with h | h | h <;> rw [h] <;> decide
  obtain ⟨sm9, -⟩ := id hh.2.2.1.1
  have hd4 := (hal k hk.1).2.1
  have hAk := hH1.2.2.2.1 k (by omega)
  have hAk2 := hH1.2.2.2.1 k2 (by omega)
  refine lv_iload_n hx hb dX1_matchFrom_0 rfl (lv_at hl 3 rfl) ?_
  refine lv_aload_n hx hb dX1_matchFrom_1 rfl (lv_at hl 1 rfl) ?_
  refine z_getn hC (k := 1) rfl in_X5 hAk.1 (by decide) q959 (fun _ h => h) rfl dX1_matchFrom_2 ?_
  obtain ⟨md9, hL9⟩ := id (hH1.2.2.2.1 k (by omega)).2.1
  refine z_go 0 0 (z_runV (As := []) (rest := [.int (iI ((f : Nat) : Int))]) hC hml hl.1 (m_J2_size hE H0 (hO.ext0 (zS_F hS)) (ρ (7, k, 0)) (St_d σ k) (fun i => G.2 (1000 + ((St_dv σ k i).toNat + 128))) (ρ (8, k, 0)) md9 hL9) (lw_V q229 q230 q231 q65 q232) rfl nd_J2_size rfl (z_rv hC (ci := 8) rfl hL9.1 rfl) rfl (Nat.le_of_ble_eq_true rfl) ⟨Nat.le_of_ble_eq_true rfl, Nat.le_of_ble_eq_true rfl⟩ ⟨zfit (k := 0) (z := 0) rfl rfl (by omega), zfit (k := 0) (z := 0) rfl rfl (by omega)⟩ dX1_matchFrom_5) ⟨zad (k := 0) rfl (by omega), zad (k := 0) rfl (by omega)⟩ hS (fun _ z => z.elim) (fun r H1 locs hp hF hS1 => ?_)
  obtain ⟨_, rfl, rfl⟩ := hp
  have hP := zpk hP hF
  have hP : va_P G.1 zCl ([]) H1 := hP
  have hD : va_D (zA M0 H0) ([]) := hD
  have hH1 : HC G s0 ρ σ H1 := hH1.ext0 hE hF
  have hS := hS1
  refine z_cne (tgt := 14) hx hb dX1_matchFrom_8 (by decide) (by omega) (fun c2 => ?_) (fun c2 => ?_)
  · refine lv_iconst (v := iI 0) hx hb dX1_matchFrom_14 rfl ?_
    refine lv_istore (lv' := [(6, .int (iI 0)), (0, .ref (ρ (0, 0, 0))), (1, .ref (ρ (6, k, 0))), (2, .ref (ρ (6, k2, 0))), (3, .int (iI ((f : Nat) : Int))), (4, .int (iI ((u : Nat) : Int))), (5, .int (iI ((o : Nat) : Int)))]) hx hb dX1_matchFrom_15 hl (by decide) rfl (fun ls hl => ?_)
    have lp3 : ∀ (dlp3 : Nat) (t : Nat), St_d σ k - t = dlp3 → (t ≤ St_d σ k) → (fsI (fun t => if u / 2 ^ t % 2 = 1 ∨ scN (St_p σ) (St_dv σ k f) (St_dv σ k2 t) = -1 then -1 else mfV (St_p σ) (St_d σ k) (St_dv σ k) (St_dv σ k2) 2 (f + 1) (u ||| 2 ^ t) (10 * o + t)) (St_d σ k - t) t = mfV (St_p σ) (St_d σ k) (St_dv σ k) (St_dv σ k2) 3 f u o) → ∀ (H4 : Heap) (locs : List Loc) (ls : Array Slot), (HC G s0 ρ σ H4) → va_P G.1 zCl ([]) H4 → va_D (zA M0 H0) ([]) → va_S (zA M0 H0) H0 H4 locs → lv_has ls 8 [(6, .int (iI ((t : Nat) : Int))), (0, .ref (ρ (0, 0, 0))), (1, .ref (ρ (6, k, 0))), (2, .ref (ρ (6, k2, 0))), (3, .int (iI ((f : Nat) : Int))), (4, .int (iI ((u : Nat) : Int))), (5, .int (iI ((o : Nat) : Int)))] → W pp l ee rm_m_X1_matchFrom_3 ss mm args below meth cd H4 locs 0 0 Q (F0 mm 17 ls []) := by
      intro dlp3
      induction dlp3 using Nat.strongRecOn with
      | ind dlp3 ihlp3 =>
        intro t hdlp3 ht hf9 H4 locs ls hH1 hP hD hS hl
        have hAk := hH1.2.2.2.1 k (by omega)
        have hAk2 := hH1.2.2.2.1 k2 (by omega)
        refine lv_iload hx hb dX1_matchFrom_17 (lv_at hl 0 rfl) ?_
        refine lv_aload_n hx hb dX1_matchFrom_19 rfl (lv_at hl 3 rfl) ?_
        refine z_getn hC (k := 1) rfl in_X5 hAk2.1 (by decide) q959 (fun _ h => h) rfl dX1_matchFrom_20 ?_
        obtain ⟨md9, hL9⟩ := id (hH1.2.2.2.1 k2 (by omega)).2.1
        refine z_go 0 0 (z_runV (As := []) (rest := [.int (iI ((t : Nat) : Int))]) hC hml hl.1 (m_J2_size hE H4 (hO.ext0 (zS_F hS)) (ρ (7, k2, 0)) (St_d σ k2) (fun i => G.2 (1000 + ((St_dv σ k2 i).toNat + 128))) (ρ (8, k2, 0)) md9 hL9) (lw_V q229 q230 q231 q65 q232) rfl nd_J2_size rfl (z_rv hC (ci := 8) rfl hL9.1 rfl) rfl (Nat.le_of_ble_eq_true rfl) ⟨Nat.le_of_ble_eq_true rfl, Nat.le_of_ble_eq_true rfl⟩ ⟨zfit (k := 0) (z := 0) rfl rfl (by omega), zfit (k := 0) (z := 0) rfl rfl (by omega)⟩ dX1_matchFrom_23) ⟨zad (k := 0) rfl (by omega), zad (k := 0) rfl (by omega)⟩ hS (fun _ z => z.elim) (fun r H5 locs hp hF hS1 => ?_)
        obtain ⟨_, rfl, rfl⟩ := hp
        have hP := zpk hP hF
        have hP : va_P G.1 zCl ([]) H5 := hP
        have hD : va_D (zA M0 H0) ([]) := hD
        have hH1 : HC G s0 ρ σ H5 := hH1.ext0 hE hF
        have hS := hS1
        refine z_cge (tgt := 121) hx hb dX1_matchFrom_26 (by decide) (by omega) (fun c6 => ?_) (fun c6 => ?_)
        · have et : St_d σ k - t = 0 := by omega
          refine lv_iconst (v := iI (-1)) hx hb dX1_matchFrom_121 rfl ?_
          exact z_iret hC hrt hlk hQ hS ⟨zle (z := 0) rfl (by omega), zle (z := 0) rfl (by omega)⟩ ⟨_, rfl, by rw [← hf9, et]; rfl⟩ dX1_matchFrom_122
        · have ht3 : t < 4 := by omega
          have hb1 := Nat.and_one_is_mod (u / 2 ^ t)
          refine lv_iload hx hb dX1_matchFrom_29 (lv_at hl 5 rfl) ?_
          refine lv_iload hx hb dX1_matchFrom_31 (lv_at hl 0 rfl) ?_
          refine z_shr hx hb (i := u) (j := t) (n := u / 2 ^ t) dX1_matchFrom_33 rfl rfl (by omega) rfl ?_
          refine lv_iconst (v := iI 1) hx hb dX1_matchFrom_34 rfl ?_
          refine z_and hx hb (n := (u / 2 ^ t) &&& 1) dX1_matchFrom_35 rfl rfl rfl ?_
          refine z_top (b := ((u / 2 ^ t % 2 : Nat) : Int)) (by omega) ?_
          refine lv_iconst (v := iI 1) hx hb dX1_matchFrom_36 rfl ?_
          refine z_ceq (tgt := 115) hx hb dX1_matchFrom_37 (by decide) (by omega) (fun c7 => ?_) (fun c7 => ?_)
          · refine z_iinc (z := ((t + 1 : Nat) : Int)) (lv' := [(6, .int (iI ((t + 1 : Nat) : Int))), (0, .ref (ρ (0, 0, 0))), (1, .ref (ρ (6, k, 0))), (2, .ref (ρ (6, k2, 0))), (3, .int (iI ((f : Nat) : Int))), (4, .int (iI ((u : Nat) : Int))), (5, .int (iI ((o : Nat) : Int)))]) hx hb dX1_matchFrom_115 hl (k := 0) rfl (by omega) (by decide) rfl (fun ls hl => ?_)
            refine lv_goto (tgt := 17) hx hb dX1_matchFrom_118 (by decide) ?_
            exact W.widen (by omega) (by omega) (ihlp3 (St_d σ k - (t + 1)) (by omega) (t + 1) rfl (by omega) (by rw [← hf9, fsI_miss (k := t) (if_pos (Or.inl (by omega))) (by omega), show St_d σ k - (t + 1) = St_d σ k - t - 1 by omega]) _ _ _ hH1 hP hD hS hl)
          · have hAk := hH1.2.2.2.1 k (by omega)
            have hAk2 := hH1.2.2.2.1 k2 (by omega)
            refine lv_aload_n hx hb dX1_matchFrom_40 rfl (lv_at hl 1 rfl) ?_
            refine lv_aload_n hx hb dX1_matchFrom_41 rfl (lv_at hl 2 rfl) ?_
            refine z_getn hC (k := 1) rfl in_X5 hAk.1 (by decide) q959 (fun _ h => h) rfl dX1_matchFrom_42 ?_
            refine lv_iload_n hx hb dX1_matchFrom_45 rfl (lv_at hl 4 rfl) ?_
            have hdkk := (hal k (by omega)).2.2 f (by omega)
            obtain ⟨md9, hL9⟩ := id (hH1.2.2.2.1 k (by omega)).2.1
            refine z_go 0 0 (z_runV (As := [.int (iI ((f : Nat) : Int))]) (rest := [.ref (ρ (0, 0, 0))]) hC hml hl.1 (m_J2_get hE H5 (hO.ext0 (zS_F hS)) (ρ (7, k, 0)) (St_d σ k) (fun i => G.2 (1000 + ((St_dv σ k i).toNat + 128))) (ρ (8, k, 0)) md9 f hL9 (by omega)) (lw_V q372 q373 q374 q65 q375) rfl nd_J2_get rfl (z_rv hC (ci := 8) rfl hL9.1 rfl) rfl (Nat.le_of_ble_eq_true rfl) ⟨Nat.le_of_ble_eq_true rfl, Nat.le_of_ble_eq_true rfl⟩ ⟨zfit (k := 0) (z := 0) rfl rfl (by omega), zfit (k := 0) (z := 0) rfl rfl (by omega)⟩ dX1_matchFrom_46) ⟨zad (k := 0) rfl (by omega), zad (k := 0) rfl (by omega)⟩ hS (fun _ z => z.elim) (fun r H8 locs hp hF hS1 => ?_)
            obtain ⟨_, rfl, rfl⟩ := hp
            have hP := zpk hP hF
            have hP : va_P G.1 zCl ([]) H8 := hP
            have hD : va_D (zA M0 H0) ([]) := hD
            have hH1 : HC G s0 ρ σ H8 := hH1.ext0 hE hF
            have hS := hS1
            refine z_castC hC (hO.ext0 (zS_F hS)) (by omega) q444 dX1_matchFrom_49 ?_
            refine z_go 0 0 (z_runV (As := []) (rest := [.ref (ρ (0, 0, 0))]) hC hml hl.1 (m_J19_intValue hE H8 (hO.ext0 (zS_F hS)) ((St_dv σ k f).toNat + 128) (by omega)) (lw_V q445 q427 q428 q90 q429) rfl nd_J19_intValue rfl (z_cc hE hC.w (hO.ext0 (zS_F hS)) (by omega)) rfl (Nat.le_of_ble_eq_true rfl) ⟨Nat.le_of_ble_eq_true rfl, Nat.le_of_ble_eq_true rfl⟩ ⟨zfit (k := 0) (z := 0) rfl rfl (by omega), zfit (k := 0) (z := 0) rfl rfl (by omega)⟩ dX1_matchFrom_52) ⟨zad (k := 0) rfl (by omega), zad (k := 0) rfl (by omega)⟩ hS (fun _ z => z.elim) (fun r H9 locs hp hF hS1 => ?_)
            obtain ⟨_, rfl, rfl⟩ := hp
            have hP := zpk hP hF
            have hP : va_P G.1 zCl ([]) H9 := hP
            have hD : va_D (zA M0 H0) ([]) := hD
            have hH1 : HC G s0 ρ σ H9 := hH1.ext0 hE hF
            have hS := hS1
            refine z_top (b := St_dv σ k f) (by omega) ?_
            have hAk := hH1.2.2.2.1 k (by omega)
            have hAk2 := hH1.2.2.2.1 k2 (by omega)
            refine lv_aload_n hx hb dX1_matchFrom_55 rfl (lv_at hl 3 rfl) ?_
            refine z_getn hC (k := 1) rfl in_X5 hAk2.1 (by decide) q959 (fun _ h => h) rfl dX1_matchFrom_56 ?_
            refine lv_iload hx hb dX1_matchFrom_59 (lv_at hl 0 rfl) ?_
            have hdkk2 := (hal k2 (by omega)).2.2 t (by omega)
            obtain ⟨md9, hL9⟩ := id (hH1.2.2.2.1 k2 (by omega)).2.1
            refine z_go 0 0 (z_runV (As := [.int (iI ((t : Nat) : Int))]) (rest := [.int (iI (St_dv σ k f)), .ref (ρ (0, 0, 0))]) hC hml hl.1 (m_J2_get hE H9 (hO.ext0 (zS_F hS)) (ρ (7, k2, 0)) (St_d σ k2) (fun i => G.2 (1000 + ((St_dv σ k2 i).toNat + 128))) (ρ (8, k2, 0)) md9 t hL9 (by omega)) (lw_V q372 q373 q374 q65 q375) rfl nd_J2_get rfl (z_rv hC (ci := 8) rfl hL9.1 rfl) rfl (Nat.le_of_ble_eq_true rfl) ⟨Nat.le_of_ble_eq_true rfl, Nat.le_of_ble_eq_true rfl⟩ ⟨zfit (k := 0) (z := 0) rfl rfl (by omega), zfit (k := 0) (z := 0) rfl rfl (by omega)⟩ dX1_matchFrom_61) ⟨zad (k := 0) rfl (by omega), zad (k := 0) rfl (by omega)⟩ hS (fun _ z => z.elim) (fun r H10 locs hp hF hS1 => ?_)
            obtain ⟨_, rfl, rfl⟩ := hp
            have hP := zpk hP hF
            have hP : va_P G.1 zCl ([]) H10 := hP
            have hD : va_D (zA M0 H0) ([]) := hD
            have hH1 : HC G s0 ρ σ H10 := hH1.ext0 hE hF
            have hS := hS1
            refine z_castC hC (hO.ext0 (zS_F hS)) (by omega) q444 dX1_matchFrom_64 ?_
            refine z_go 0 0 (z_runV (As := []) (rest := [.int (iI (St_dv σ k f)), .ref (ρ (0, 0, 0))]) hC hml hl.1 (m_J19_intValue hE H10 (hO.ext0 (zS_F hS)) ((St_dv σ k2 t).toNat + 128) (by omega)) (lw_V q445 q427 q428 q90 q429) rfl nd_J19_intValue rfl (z_cc hE hC.w (hO.ext0 (zS_F hS)) (by omega)) rfl (Nat.le_of_ble_eq_true rfl) ⟨Nat.le_of_ble_eq_true rfl, Nat.le_of_ble_eq_true rfl⟩ ⟨zfit (k := 0) (z := 0) rfl rfl (by omega), zfit (k := 0) (z := 0) rfl rfl (by omega)⟩ dX1_matchFrom_67) ⟨zad (k := 0) rfl (by omega), zad (k := 0) rfl (by omega)⟩ hS (fun _ z => z.elim) (fun r H11 locs hp hF hS1 => ?_)
            obtain ⟨_, rfl, rfl⟩ := hp
            have hP := zpk hP hF
            have hP : va_P G.1 zCl ([]) H11 := hP
            have hD : va_D (zA M0 H0) ([]) := hD
            have hH1 : HC G s0 ρ σ H11 := hH1.ext0 hE hF
            have hS := hS1
            refine z_top (b := St_dv σ k2 t) (by omega) ?_
            obtain ⟨sm, hxx⟩ := id hH1.2.2.1.1
            refine z_go 0 0 (z_runV (As := [.int (iI (St_dv σ k f)), .int (iI (St_dv σ k2 t))]) (rest := []) hC hml hl.1 (m_X1_scaleNow hE H11 (hO.ext0 (zS_F hS)) ρ σ (St_dv σ k f) (St_dv σ k2 t) hH1 ⟨⟨by omega, by omega⟩, by omega, by omega⟩) (lw_V q446 q448 qs13 q62 q449) rfl nd_X1_scaleNow rfl (z_rv hC (ci := 0) rfl hxx rfl) rfl (Nat.le_of_ble_eq_true rfl) ⟨Nat.le_of_ble_eq_true rfl, Nat.le_of_ble_eq_true rfl⟩ ⟨zfit (k := 0) (z := 0) rfl rfl (by omega), zfit (k := 0) (z := 0) rfl rfl (by omega)⟩ dX1_matchFrom_70) ⟨zad (k := 0) rfl (by omega), zad (k := 0) rfl (by omega)⟩ hS (fun _ z => z.elim) (fun r H12 locs hp hF hS1 => ?_)
            obtain ⟨_, rfl, rfl⟩ := hp
            have hP := zpk hP hF
            have hP : va_P G.1 zCl ([]) H12 := hP
            have hD : va_D (zA M0 H0) ([]) := hD
            have hH1 : HC G s0 ρ σ H12 := hH1.ext0 hE hF
            have hS := hS1
            have hsc : -1 ≤ scN (St_p σ) (St_dv σ k f) (St_dv σ k2 t) ∧ scN (St_p σ) (St_dv σ k f) (St_dv σ k2 t) ≤ 8 := by have := fst_in (fun s => (St_dv σ k2 t * (s : Int) * (s : Int)) % St_p σ == St_dv σ k f) ((St_p σ).toNat - 1) 1; unfold scN; omega
            refine lv_iconst (v := iI (-1)) hx hb dX1_matchFrom_73 rfl ?_
            refine z_cne (tgt := 80) hx hb dX1_matchFrom_74 (by decide) (by omega) (fun c13 => ?_) (fun c13 => ?_)
            · have h2t : 2 ^ t ≤ 8 := Nat.le_trans (Nat.pow_le_pow_right (by decide) (show t ≤ 3 by omega)) (by decide)
              have hor : u ||| 2 ^ t < 16 := Nat.or_lt_two_pow (n := 4) (by omega) (by omega)
              have hmf : -1 ≤ mfV (St_p σ) (St_d σ k) (St_dv σ k) (St_dv σ k2) 2 (f + 1) (u ||| 2 ^ t) (10 * o + t) ∧ mfV (St_p σ) (St_d σ k) (St_dv σ k) (St_dv σ k2) 2 (f + 1) (u ||| 2 ^ t) (10 * o + t) ≤ 9999 := mfV_in hd4 (by simp only [Nat.reducePow]; omega)
              refine lv_aload_n hx hb dX1_matchFrom_80 rfl (lv_at hl 1 rfl) ?_
              refine lv_aload_n hx hb dX1_matchFrom_81 rfl (lv_at hl 2 rfl) ?_
              refine lv_aload_n hx hb dX1_matchFrom_82 rfl (lv_at hl 3 rfl) ?_
              refine lv_iload_n hx hb dX1_matchFrom_83 rfl (lv_at hl 4 rfl) ?_
              refine lv_iconst (v := iI 1) hx hb dX1_matchFrom_84 rfl ?_
              refine z_add hx hb (z := ((f : Nat) : Int) + 1) dX1_matchFrom_85 rfl ?_
              refine lv_iload hx hb dX1_matchFrom_86 (lv_at hl 5 rfl) ?_
              refine lv_iconst (v := iI 1) hx hb dX1_matchFrom_88 rfl ?_
              refine lv_iload hx hb dX1_matchFrom_89 (lv_at hl 0 rfl) ?_
              refine z_shl hx hb (i := 1) (j := t) (n := 1 * 2 ^ t) dX1_matchFrom_91 rfl rfl (by omega) rfl ?_
              refine z_top (b := ((2 ^ t : Nat) : Int)) (by omega) ?_
              refine z_or hx hb (n := u ||| (2 ^ t)) dX1_matchFrom_92 rfl rfl rfl ?_
              refine lv_bipush (v := iI 10) hx hb dX1_matchFrom_93 (by decide) ?_
              refine lv_iload hx hb dX1_matchFrom_95 (lv_at hl 6 rfl) ?_
              refine z_mul hx hb (z := 10 * ((o : Nat) : Int)) dX1_matchFrom_97 rfl ?_
              refine lv_iload hx hb dX1_matchFrom_98 (lv_at hl 0 rfl) ?_
              refine z_add hx hb (z := (10 * ((o : Nat) : Int)) + ((t : Nat) : Int)) dX1_matchFrom_100 rfl ?_
              refine z_top (b := ((10 * o + t : Nat) : Int)) (by omega) ?_
              obtain ⟨sm, hxx⟩ := id hH1.2.2.1.1
              refine z_go 0 0 (z_runV (As := [.ref (ρ (6, k, 0)), .ref (ρ (6, k2, 0)), .int (iI (((f : Nat) : Int) + 1)), .int (iI ((u ||| (2 ^ t) : Nat) : Int)), .int (iI ((10 * o + t : Nat) : Int))]) (rest := []) hC hml hl.1 (m_X1_matchFrom_2 hE H12 (hO.ext0 (zS_F hS)) ρ σ k k2 (f + 1) (u ||| 2 ^ t) (10 * o + t) hH1 hk ⟨hd.1, by omega⟩ ⟨by omega, by omega⟩) (lw_V q440 q442 qs12 q62 q443) rfl nd_X1_matchFrom rfl (z_rv hC (ci := 0) rfl hxx rfl) rfl (Nat.le_of_ble_eq_true rfl) ⟨Nat.le_of_ble_eq_true rfl, Nat.le_of_ble_eq_true rfl⟩ ⟨zfit (k := 0) (z := 0) rfl rfl (by omega), zfit (k := 0) (z := 0) rfl rfl (by omega)⟩ dX1_matchFrom_101) ⟨zad (k := 0) rfl (by omega), zad (k := 0) rfl (by omega)⟩ hS (fun _ z => z.elim) (fun r H14 locs hp hF hS1 => ?_)
              obtain ⟨_, rfl, rfl⟩ := hp
              have hP := zpk hP hF
              have hP : va_P G.1 zCl ([]) H14 := hP
              have hD : va_D (zA M0 H0) ([]) := hD
              have hH1 : HC G s0 ρ σ H14 := hH1.ext0 hE hF
              have hS := hS1
              refine lv_istore (lv' := [(7, .int (iI (mfV (St_p σ) (St_d σ k) (St_dv σ k) (St_dv σ k2) 2 (f + 1) (u ||| 2 ^ t) (10 * o + t)))), (6, .int (iI ((t : Nat) : Int))), (0, .ref (ρ (0, 0, 0))), (1, .ref (ρ (6, k, 0))), (2, .ref (ρ (6, k2, 0))), (3, .int (iI ((f : Nat) : Int))), (4, .int (iI ((u : Nat) : Int))), (5, .int (iI ((o : Nat) : Int)))]) hx hb dX1_matchFrom_104 hl (by decide) rfl (fun ls hl => ?_)
              refine lv_iload hx hb dX1_matchFrom_106 (lv_at hl 0 rfl) ?_
              refine lv_iconst (v := iI (-1)) hx hb dX1_matchFrom_108 rfl ?_
              refine z_ceq (tgt := 115) hx hb dX1_matchFrom_109 (by decide) (by omega) (fun c15 => ?_) (fun c15 => ?_)
              · refine z_iinc (z := ((t + 1 : Nat) : Int)) (lv' := [(6, .int (iI ((t + 1 : Nat) : Int))), (7, .int (iI (mfV (St_p σ) (St_d σ k) (St_dv σ k) (St_dv σ k2) 2 (f + 1) (u ||| 2 ^ t) (10 * o + t)))), (0, .ref (ρ (0, 0, 0))), (1, .ref (ρ (6, k, 0))), (2, .ref (ρ (6, k2, 0))), (3, .int (iI ((f : Nat) : Int))), (4, .int (iI ((u : Nat) : Int))), (5, .int (iI ((o : Nat) : Int)))]) hx hb dX1_matchFrom_115 hl (k := 1) rfl (by omega) (by decide) rfl (fun ls hl => ?_)
                refine lv_goto (tgt := 17) hx hb dX1_matchFrom_118 (by decide) ?_
                exact W.widen (by omega) (by omega) (ihlp3 (St_d σ k - (t + 1)) (by omega) (t + 1) rfl (by omega) (by rw [← hf9, fsI_miss (k := t) (eq_m1 (if_neg (by omega)) (by assumption)) (by omega), show St_d σ k - (t + 1) = St_d σ k - t - 1 by omega]) _ _ _ hH1 hP hD hS (lv_sub hl [0, 2, 3, 4, 5, 6, 7] rfl))
              · refine lv_iload hx hb dX1_matchFrom_112 (lv_at hl 0 rfl) ?_
                exact z_iret hC hrt hlk hQ hS ⟨zle (z := 0) rfl (by omega), zle (z := 0) rfl (by omega)⟩ ⟨_, rfl, by rw [← hf9]; exact (fsI_hit2 (k := t) (if_neg (by omega)) (by assumption) (by omega)).symm⟩ dX1_matchFrom_114
            · refine lv_goto (tgt := 115) hx hb dX1_matchFrom_77 (by decide) ?_
              refine z_iinc (z := ((t + 1 : Nat) : Int)) (lv' := [(6, .int (iI ((t + 1 : Nat) : Int))), (0, .ref (ρ (0, 0, 0))), (1, .ref (ρ (6, k, 0))), (2, .ref (ρ (6, k2, 0))), (3, .int (iI ((f : Nat) : Int))), (4, .int (iI ((u : Nat) : Int))), (5, .int (iI ((o : Nat) : Int)))]) hx hb dX1_matchFrom_115 hl (k := 0) rfl (by omega) (by decide) rfl (fun ls hl => ?_)
              refine lv_goto (tgt := 17) hx hb dX1_matchFrom_118 (by decide) ?_
              exact W.widen (by omega) (by omega) (ihlp3 (St_d σ k - (t + 1)) (by omega) (t + 1) rfl (by omega) (by rw [← hf9, fsI_miss (k := t) (if_pos (Or.inr (by assumption))) (by omega), show St_d σ k - (t + 1) = St_d σ k - t - 1 by omega]) _ _ _ hH1 hP hD hS hl)
    exact W.widen (by omega) (by omega) (lp3 _ 0 rfl (Nat.zero_le _) rfl _ _ _ hH1 hP hD hS hl)
  · omega

abbrev rm_m_X1_matchFrom_4 : Room := { frames := 6, cells := 0, slots := 0, locals := 147 }
set_option maxHeartbeats 4000000 in
theorem m_X1_matchFrom_4 {l : Launch} {s0 : State} {G : zG} (hE : zE l s0 G) (H0 : Heap) (hO : zO s0 H0) (ρ : Ro → Nat) (σ : St) (k k2 f u o : Nat) (hh : HC G s0 ρ σ H0) (hk : k < St_na σ ∧ k2 < St_na σ) (hd : St_d σ k2 = St_d σ k ∧ f + 4 = St_d σ k) (hu : u ≤ 15 ∧ (o + 1) * 10000 ≤ 10000) : zM l s0 yX1_matchFrom cX1_matchFrom 8 (some FieldType.int) rm_m_X1_matchFrom_4 [.ref (ρ (0, 0, 0)), .ref (ρ (6, k, 0)), .ref (ρ (6, k2, 0)), .int (iI ((f : Nat) : Int)), .int (iI ((u : Nat) : Int)), .int (iI ((o : Nat) : Int))] H0 M0 (ri (fun y _ => y = mfV (St_p σ) (St_d σ k) (St_dv σ k) (St_dv σ k2) 4 f u o)) := by
  refine z_met hE (by decide +kernel) (Nat.le_of_ble_eq_true rfl) ?_
  intro pp ee ss mm args below meth cd Q ls hC hml hrt hlk hnm hH hQ hS hl
  have hx := hC.x
  have hb := hC.b
  have hl : lv_has ls 8 [(0, .ref (ρ (0, 0, 0))), (1, .ref (ρ (6, k, 0))), (2, .ref (ρ (6, k2, 0))), (3, .int (iI ((f : Nat) : Int))), (4, .int (iI ((u : Nat) : Int))), (5, .int (iI ((o : Nat) : Int)))] := hl
  have hP : va_P G.1 zCl [] H0 := va_nil
  have hD : va_D (zA M0 H0) [] := va_nilD
  have hH1 := hh
  obtain ⟨hp, hna, hal, hne9, hel9, hmr9⟩ := id hh.ok
  have hp7 : 0 < St_p σ ∧ St_p σ ≤ 7 := by rcases hp with h | h | h <;> rw [h] <;> decide
  obtain ⟨sm9, -⟩ := id hh.2.2.1.1
  have hd4 := (hal k hk.1).2.1
  have hAk := hH1.2.2.2.1 k (by omega)
  have hAk2 := hH1.2.2.2.1 k2 (by omega)
  refine lv_iload_n hx hb dX1_matchFrom_0 rfl (lv_at hl 3 rfl) ?_
  refine lv_aload_n hx hb dX1_matchFrom_1 rfl (lv_at hl 1 rfl) ?_
  refine z_getn hC (k := 1) rfl in_X5 hAk.1 (by decide) q959 (fun _ h => h) rfl dX1_matchFrom_2 ?_
  obtain ⟨md9, hL9⟩ := id (hH1.2.2.2.1 k (by omega)).2.1
  refine z_go 0 0 (z_runV (As := []) (rest := [.int (iI ((f : Nat) : Int))]) hC hml hl.1 (m_J2_size hE H0 (hO.ext0 (zS_F hS)) (ρ (7, k, 0)) (St_d σ k) (fun i => G.2 (1000 + ((St_dv σ k i).toNat + 128))) (ρ (8, k, 0)) md9 hL9) (lw_V q229 q230 q231 q65 q232) rfl nd_J2_size rfl (z_rv hC (ci := 8) rfl hL9.1 rfl) rfl (Nat.le_of_ble_eq_true rfl) ⟨Nat.le_of_ble_eq_true rfl, Nat.le_of_ble_eq_true rfl⟩ ⟨zfit (k := 0) (z := 0) rfl rfl (by omega), zfit (k := 0) (z := 0) rfl rfl (by omega)⟩ dX1_matchFrom_5) ⟨zad (k := 0) rfl (by omega), zad (k := 0) rfl (by omega)⟩ hS (fun _ z => z.elim) (fun r H1 locs hp hF hS1 => ?_)
  obtain ⟨_, rfl, rfl⟩ := hp
  have hP := zpk hP hF
  have hP : va_P G.1 zCl ([]) H1 := hP
  have hD : va_D (zA M0 H0) ([]) := hD
  have hH1 : HC G s0 ρ σ H1 := hH1.ext0 hE hF
  have hS := hS1
  refine z_cne (tgt := 14) hx hb dX1_matchFrom_8 (by decide) (by omega) (fun c2 => ?_) (fun c2 => ?_)
  · refine lv_iconst (v := iI 0) hx hb dX1_matchFrom_14 rfl ?_
    refine lv_istore (lv' := [(6, .int (iI 0)), (0, .ref (ρ (0, 0, 0))), (1, .ref (ρ (6, k, 0))), (2, .ref (ρ (6, k2, 0))), (3, .int (iI ((f : Nat) : Int))), (4, .int (iI ((u : Nat) : Int))), (5, .int (iI ((o : Nat) : Int)))]) hx hb dX1_matchFrom_15 hl (by decide) rfl (fun ls hl => ?_)
    have lp3 : ∀ (dlp3 : Nat) (t : Nat), St_d σ k - t = dlp3 → (t ≤ St_d σ k) → (fsI (fun t => if u / 2 ^ t % 2 = 1 ∨ scN (St_p σ) (St_dv σ k f) (St_dv σ k2 t) = -1 then -1 else mfV (St_p σ) (St_d σ k) (St_dv σ k) (St_dv σ k2) 3 (f + 1) (u ||| 2 ^ t) (10 * o + t)) (St_d σ k - t) t = mfV (St_p σ) (St_d σ k) (St_dv σ k) (St_dv σ k2) 4 f u o) → ∀ (H4 : Heap) (locs : List Loc) (ls : Array Slot), (HC G s0 ρ σ H4) → va_P G.1 zCl ([]) H4 → va_D (zA M0 H0) ([]) → va_S (zA M0 H0) H0 H4 locs → lv_has ls 8 [(6, .int (iI ((t : Nat) : Int))), (0, .ref (ρ (0, 0, 0))), (1, .ref (ρ (6, k, 0))), (2, .ref (ρ (6, k2, 0))), (3, .int (iI ((f : Nat) : Int))), (4, .int (iI ((u : Nat) : Int))), (5, .int (iI ((o : Nat) : Int)))] → W pp l ee rm_m_X1_matchFrom_4 ss mm args below meth cd H4 locs 0 0 Q (F0 mm 17 ls []) := by
      intro dlp3
      induction dlp3 using Nat.strongRecOn with
      | ind dlp3 ihlp3 =>
        intro t hdlp3 ht hf9 H4 locs ls hH1 hP hD hS hl
        have hAk := hH1.2.2.2.1 k (by omega)
        have hAk2 := hH1.2.2.2.1 k2 (by omega)
        refine lv_iload hx hb dX1_matchFrom_17 (lv_at hl 0 rfl) ?_
        refine lv_aload_n hx hb dX1_matchFrom_19 rfl (lv_at hl 3 rfl) ?_
        refine z_getn hC (k := 1) rfl in_X5 hAk2.1 (by decide) q959 (fun _ h => h) rfl dX1_matchFrom_20 ?_
        obtain ⟨md9, hL9⟩ := id (hH1.2.2.2.1 k2 (by omega)).2.1
        refine z_go 0 0 (z_runV (As := []) (rest := [.int (iI ((t : Nat) : Int))]) hC hml hl.1 (m_J2_size hE H4 (hO.ext0 (zS_F hS)) (ρ (7, k2, 0)) (St_d σ k2) (fun i => G.2 (1000 + ((St_dv σ k2 i).toNat + 128))) (ρ (8, k2, 0)) md9 hL9) (lw_V q229 q230 q231 q65 q232) rfl nd_J2_size rfl (z_rv hC (ci := 8) rfl hL9.1 rfl) rfl (Nat.le_of_ble_eq_true rfl) ⟨Nat.le_of_ble_eq_true rfl, Nat.le_of_ble_eq_true rfl⟩ ⟨zfit (k := 0) (z := 0) rfl rfl (by omega), zfit (k := 0) (z := 0) rfl rfl (by omega)⟩ dX1_matchFrom_23) ⟨zad (k := 0) rfl (by omega), zad (k := 0) rfl (by omega)⟩ hS (fun _ z => z.elim) (fun r H5 locs hp hF hS1 => ?_)
        obtain ⟨_, rfl, rfl⟩ := hp
        have hP := zpk hP hF
        have hP : va_P G.1 zCl ([]) H5 := hP
        have hD : va_D (zA M0 H0) ([]) := hD
        have hH1 : HC G s0 ρ σ H5 := hH1.ext0 hE hF
        have hS := hS1
        refine z_cge (tgt := 121) hx hb dX1_matchFrom_26 (by decide) (by omega) (fun c6 => ?_) (fun c6 => ?_)
        · have et : St_d σ k - t = 0 := by omega
          refine lv_iconst (v := iI (-1)) hx hb dX1_matchFrom_121 rfl ?_
          exact z_iret hC hrt hlk hQ hS ⟨zle (z := 0) rfl (by omega), zle (z := 0) rfl (by omega)⟩ ⟨_, rfl, by rw [← hf9, et]; rfl⟩ dX1_matchFrom_122
        · have ht3 : t < 4 := by omega
          have hb1 := Nat.and_one_is_mod (u / 2 ^ t)
          refine lv_iload hx hb dX1_matchFrom_29 (lv_at hl 5 rfl) ?_
          refine lv_iload hx hb dX1_matchFrom_31 (lv_at hl 0 rfl) ?_
          refine z_shr hx hb (i := u) (j := t) (n := u / 2 ^ t) dX1_matchFrom_33 rfl rfl (by omega) rfl ?_
          refine lv_iconst (v := iI 1) hx hb dX1_matchFrom_34 rfl ?_
          refine z_and hx hb (n := (u / 2 ^ t) &&& 1) dX1_matchFrom_35 rfl rfl rfl ?_
          refine z_top (b := ((u / 2 ^ t % 2 : Nat) : Int)) (by omega) ?_
          refine lv_iconst (v := iI 1) hx hb dX1_matchFrom_36 rfl ?_
          refine z_ceq (tgt := 115) hx hb dX1_matchFrom_37 (by decide) (by omega) (fun c7 => ?_) (fun c7 => ?_)
          · refine z_iinc (z := ((t + 1 : Nat) : Int)) (lv' := [(6, .int (iI ((t + 1 : Nat) : Int))), (0, .ref (ρ (0, 0, 0))), (1, .ref (ρ (6, k, 0))), (2, .ref (ρ (6, k2, 0))), (3, .int (iI ((f : Nat) : Int))), (4, .int (iI ((u : Nat) : Int))), (5, .int (iI ((o : Nat) : Int)))]) hx hb dX1_matchFrom_115 hl (k := 0) rfl (by omega) (by decide) rfl (fun ls hl => ?_)
            refine lv_goto (tgt := 17) hx hb dX1_matchFrom_118 (by decide) ?_
            exact W.widen (by omega) (by omega) (ihlp3 (St_d σ k - (t + 1)) (by omega) (t + 1) rfl (by omega) (by rw [← hf9, fsI_miss (k := t) (if_pos (Or.inl (by omega))) (by omega), show St_d σ k - (t + 1) = St_d σ k - t - 1 by omega]) _ _ _ hH1 hP hD hS hl)
          · have hAk := hH1.2.2.2.1 k (by omega)
            have hAk2 := hH1.2.2.2.1 k2 (by omega)
            refine lv_aload_n hx hb dX1_matchFrom_40 rfl (lv_at hl 1 rfl) ?_
            refine lv_aload_n hx hb dX1_matchFrom_41 rfl (lv_at hl 2 rfl) ?_
            refine z_getn hC (k := 1) rfl in_X5 hAk.1 (by decide) q959 (fun _ h => h) rfl dX1_matchFrom_42 ?_
            refine lv_iload_n hx hb dX1_matchFrom_45 rfl (lv_at hl 4 rfl) ?_
            have hdkk := (hal k (by omega)).2.2 f (by omega)
            obtain ⟨md9, hL9⟩ := id (hH1.2.2.2.1 k (by omega)).2.1
            refine z_go 0 0 (z_runV (As := [.int (iI ((f : Nat) : Int))]) (rest := [.ref (ρ (0, 0, 0))]) hC hml hl.1 (m_J2_get hE H5 (hO.ext0 (zS_F hS)) (ρ (7, k, 0)) (St_d σ k) (fun i => G.2 (1000 + ((St_dv σ k i).toNat + 128))) (ρ (8, k, 0)) md9 f hL9 (by omega)) (lw_V q372 q373 q374 q65 q375) rfl nd_J2_get rfl (z_rv hC (ci := 8) rfl hL9.1 rfl) rfl (Nat.le_of_ble_eq_true rfl) ⟨Nat.le_of_ble_eq_true rfl, Nat.le_of_ble_eq_true rfl⟩ ⟨zfit (k := 0) (z := 0) rfl rfl (by omega), zfit (k := 0) (z := 0) rfl rfl (by omega)⟩ dX1_matchFrom_46) ⟨zad (k := 0) rfl (by omega), zad (k := 0) rfl (by omega)⟩ hS (fun _ z => z.elim) (fun r H8 locs hp hF hS1 => ?_)
            obtain ⟨_, rfl, rfl⟩ := hp
            have hP := zpk hP hF
            have hP : va_P G.1 zCl ([]) H8 := hP
            have hD : va_D (zA M0 H0) ([]) := hD
            have hH1 : HC G s0 ρ σ H8 := hH1.ext0 hE hF
            have hS := hS1
            refine z_castC hC (hO.ext0 (zS_F hS)) (by omega) q444 dX1_matchFrom_49 ?_
            refine z_go 0 0 (z_runV (As := []) (rest := [.ref (ρ (0, 0, 0))]) hC hml hl.1 (m_J19_intValue hE H8 (hO.ext0 (zS_F hS)) ((St_dv σ k f).toNat + 128) (by omega)) (lw_V q445 q427 q428 q90 q429) rfl nd_J19_intValue rfl (z_cc hE hC.w (hO.ext0 (zS_F hS)) (by omega)) rfl (Nat.le_of_ble_eq_true rfl) ⟨Nat.le_of_ble_eq_true rfl, Nat.le_of_ble_eq_true rfl⟩ ⟨zfit (k := 0) (z := 0) rfl rfl (by omega), zfit (k := 0) (z := 0) rfl rfl (by omega)⟩ dX1_matchFrom_52) ⟨zad (k := 0) rfl (by omega), zad (k := 0) rfl (by omega)⟩ hS (fun _ z => z.elim) (fun r H9 locs hp hF hS1 => ?_)
            obtain ⟨_, rfl, rfl⟩ := hp
            have hP := zpk hP hF
            have hP : va_P G.1 zCl ([]) H9 := hP
            have hD : va_D (zA M0 H0) ([]) := hD
            have hH1 : HC G s0 ρ σ H9 := hH1.ext0 hE hF
            have hS := hS1
            refine z_top (b := St_dv σ k f) (by omega) ?_
            have hAk := hH1.2.2.2.1 k (by omega)
            have hAk2 := hH1.2.2.2.1 k2 (by omega)
            refine lv_aload_n hx hb dX1_matchFrom_55 rfl (lv_at hl 3 rfl) ?_
            refine z_getn hC (k := 1) rfl in_X5 hAk2.1 (by decide) q959 (fun _ h => h) rfl dX1_matchFrom_56 ?_
            refine lv_iload hx hb dX1_matchFrom_59 (lv_at hl 0 rfl) ?_
            have hdkk2 := (hal k2 (by omega)).2.2 t (by omega)
            obtain ⟨md9, hL9⟩ := id (hH1.2.2.2.1 k2 (by omega)).2.1
            refine z_go 0 0 (z_runV (As := [.int (iI ((t : Nat) : Int))]) (rest := [.int (iI (St_dv σ k f)), .ref (ρ (0, 0, 0))]) hC hml hl.1 (m_J2_get hE H9 (hO.ext0 (zS_F hS)) (ρ (7, k2, 0)) (St_d σ k2) (fun i => G.2 (1000 + ((St_dv σ k2 i).toNat + 128))) (ρ (8, k2, 0)) md9 t hL9 (by omega)) (lw_V q372 q373 q374 q65 q375) rfl nd_J2_get rfl (z_rv hC (ci := 8) rfl hL9.1 rfl) rfl (Nat.le_of_ble_eq_true rfl) ⟨Nat.le_of_ble_eq_true rfl, Nat.le_of_ble_eq_true rfl⟩ ⟨zfit (k := 0) (z := 0) rfl rfl (by omega), zfit (k := 0) (z := 0) rfl rfl (by omega)⟩ dX1_matchFrom_61) ⟨zad (k := 0) rfl (by omega), zad (k := 0) rfl (by omega)⟩ hS (fun _ z => z.elim) (fun r H10 locs hp hF hS1 => ?_)
            obtain ⟨_, rfl, rfl⟩ := hp
            have hP := zpk hP hF
            have hP : va_P G.1 zCl ([]) H10 := hP
            have hD : va_D (zA M0 H0) ([]) := hD
            have hH1 : HC G s0 ρ σ H10 := hH1.ext0 hE hF
            have hS := hS1
            refine z_castC hC (hO.ext0 (zS_F hS)) (by omega) q444 dX1_matchFrom_64 ?_
            refine z_go 0 0 (z_runV (As := []) (rest := [.int (iI (St_dv σ k f)), .ref (ρ (0, 0, 0))]) hC hml hl.1 (m_J19_intValue hE H10 (hO.ext0 (zS_F hS)) ((St_dv σ k2 t).toNat + 128) (by omega)) (lw_V q445 q427 q428 q90 q429) rfl nd_J19_intValue rfl (z_cc hE hC.w (hO.ext0 (zS_F hS)) (by omega)) rfl (Nat.le_of_ble_eq_true rfl) ⟨Nat.le_of_ble_eq_true rfl, Nat.le_of_ble_eq_true rfl⟩ ⟨zfit (k := 0) (z := 0) rfl rfl (by omega), zfit (k := 0) (z := 0) rfl rfl (by omega)⟩ dX1_matchFrom_67) ⟨zad (k := 0) rfl (by omega), zad (k := 0) rfl (by omega)⟩ hS (fun _ z => z.elim) (fun r H11 locs hp hF hS1 => ?_)
            obtain ⟨_, rfl, rfl⟩ := hp
            have hP := zpk hP hF
            have hP : va_P G.1 zCl ([]) H11 := hP
            have hD : va_D (zA M0 H0) ([]) := hD
            have hH1 : HC G s0 ρ σ H11 := hH1.ext0 hE hF
            have hS := hS1
            refine z_top (b := St_dv σ k2 t) (by omega) ?_
            obtain ⟨sm, hxx⟩ := id hH1.2.2.1.1
            refine z_go 0 0 (z_runV (As := [.int (iI (St_dv σ k f)), .int (iI (St_dv σ k2 t))]) (rest := []) hC hml hl.1 (m_X1_scaleNow hE H11 (hO.ext0 (zS_F hS)) ρ σ (St_dv σ k f) (St_dv σ k2 t) hH1 ⟨⟨by omega, by omega⟩, by omega, by omega⟩) (lw_V q446 q448 qs13 q62 q449) rfl nd_X1_scaleNow rfl (z_rv hC (ci := 0) rfl hxx rfl) rfl (Nat.le_of_ble_eq_true rfl) ⟨Nat.le_of_ble_eq_true rfl, Nat.le_of_ble_eq_true rfl⟩ ⟨zfit (k := 0) (z := 0) rfl rfl (by omega), zfit (k := 0) (z := 0) rfl rfl (by omega)⟩ dX1_matchFrom_70) ⟨zad (k := 0) rfl (by omega), zad (k := 0) rfl (by omega)⟩ hS (fun _ z => z.elim) (fun r H12 locs hp hF hS1 => ?_)
            obtain ⟨_, rfl, rfl⟩ := hp
            have hP := zpk hP hF
            have hP : va_P G.1 zCl ([]) H12 := hP
            have hD : va_D (zA M0 H0) ([]) := hD
            have hH1 : HC G s0 ρ σ H12 := hH1.ext0 hE hF
            have hS := hS1
            have hsc : -1 ≤ scN (St_p σ) (St_dv σ k f) (St_dv σ k2 t) ∧ scN (St_p σ) (St_dv σ k f) (St_dv σ k2 t) ≤ 8 := by have := fst_in (fun s => (St_dv σ k2 t * (s : Int) * (s : Int)) % St_p σ == St_dv σ k f) ((St_p σ).toNat - 1) 1; unfold scN; omega
            refine lv_iconst (v := iI (-1)) hx hb dX1_matchFrom_73 rfl ?_
            refine z_cne (tgt := 80) hx hb dX1_matchFrom_74 (by decide) (by omega) (fun c13 => ?_) (fun c13 => ?_)
            · have h2t : 2 ^ t ≤ 8 := Nat.le_trans (Nat.pow_le_pow_right (by decide) (show t ≤ 3 by omega)) (by decide)
              have hor : u ||| 2 ^ t < 16 := Nat.or_lt_two_pow (n := 4) (by omega) (by omega)
              have hmf : -1 ≤ mfV (St_p σ) (St_d σ k) (St_dv σ k) (St_dv σ k2) 3 (f + 1) (u ||| 2 ^ t) (10 * o + t) ∧ mfV (St_p σ) (St_d σ k) (St_dv σ k) (St_dv σ k2) 3 (f + 1) (u ||| 2 ^ t) (10 * o + t) ≤ 9999 := mfV_in hd4 (by simp only [Nat.reducePow]; omega)
              refine lv_aload_n hx hb dX1_matchFrom_80 rfl (lv_at hl 1 rfl) ?_
              refine lv_aload_n hx hb dX1_matchFrom_81 rfl (lv_at hl 2 rfl) ?_
              refine lv_aload_n hx hb dX1_matchFrom_82 rfl (lv_at hl 3 rfl) ?_
              refine lv_iload_n hx hb dX1_matchFrom_83 rfl (lv_at hl 4 rfl) ?_
              refine lv_iconst (v := iI 1) hx hb dX1_matchFrom_84 rfl ?_
              refine z_add hx hb (z := ((f : Nat) : Int) + 1) dX1_matchFrom_85 rfl ?_
              refine lv_iload hx hb dX1_matchFrom_86 (lv_at hl 5 rfl) ?_
              refine lv_iconst (v := iI 1) hx hb dX1_matchFrom_88 rfl ?_
              refine lv_iload hx hb dX1_matchFrom_89 (lv_at hl 0 rfl) ?_
              refine z_shl hx hb (i := 1) (j := t) (n := 1 * 2 ^ t) dX1_matchFrom_91 rfl rfl (by omega) rfl ?_
              refine z_top (b := ((2 ^ t : Nat) : Int)) (by omega) ?_
              refine z_or hx hb (n := u ||| (2 ^ t)) dX1_matchFrom_92 rfl rfl rfl ?_
              refine lv_bipush (v := iI 10) hx hb dX1_matchFrom_93 (by decide) ?_
              refine lv_iload hx hb dX1_matchFrom_95 (lv_at hl 6 rfl) ?_
              refine z_mul hx hb (z := 10 * ((o : Nat) : Int)) dX1_matchFrom_97 rfl ?_
              refine lv_iload hx hb dX1_matchFrom_98 (lv_at hl 0 rfl) ?_
              refine z_add hx hb (z := (10 * ((o : Nat) : Int)) + ((t : Nat) : Int)) dX1_matchFrom_100 rfl ?_
              refine z_top (b := ((10 * o + t : Nat) : Int)) (by omega) ?_
              obtain ⟨sm, hxx⟩ := id hH1.2.2.1.1
              refine z_go 0 0 (z_runV (As := [.ref (ρ (6, k, 0)), .ref (ρ (6, k2, 0)), .int (iI (((f : Nat) : Int) + 1)), .int (iI ((u ||| (2 ^ t) : Nat) : Int)), .int (iI ((10 * o + t : Nat) : Int))]) (rest := []) hC hml hl.1 (m_X1_matchFrom_3 hE H12 (hO.ext0 (zS_F hS)) ρ σ k k2 (f + 1) (u ||| 2 ^ t) (10 * o + t) hH1 hk ⟨hd.1, by omega⟩ ⟨by omega, by omega⟩) (lw_V q440 q442 qs12 q62 q443) rfl nd_X1_matchFrom rfl (z_rv hC (ci := 0) rfl hxx rfl) rfl (Nat.le_of_ble_eq_true rfl) ⟨Nat.le_of_ble_eq_true rfl, Nat.le_of_ble_eq_true rfl⟩ ⟨zfit (k := 0) (z := 0) rfl rfl (by omega), zfit (k := 0) (z := 0) rfl rfl (by omega)⟩ dX1_matchFrom_101) ⟨zad (k := 0) rfl (by omega), zad (k := 0) rfl (by omega)⟩ hS (fun _ z => z.elim) (fun r H14 locs hp hF hS1 => ?_)
              obtain ⟨_, rfl, rfl⟩ := hp
              have hP := zpk hP hF
              have hP : va_P G.1 zCl ([]) H14 := hP
              have hD : va_D (zA M0 H0) ([]) := hD
              have hH1 : HC G s0 ρ σ H14 := hH1.ext0 hE hF
              have hS := hS1
              refine lv_istore (lv' := [(7, .int (iI (mfV (St_p σ) (St_d σ k) (St_dv σ k) (St_dv σ k2) 3 (f + 1) (u ||| 2 ^ t) (10 * o + t)))), (6, .int (iI ((t : Nat) : Int))), (0, .ref (ρ (0, 0, 0))), (1, .ref (ρ (6, k, 0))), (2, .ref (ρ (6, k2, 0))), (3, .int (iI ((f : Nat) : Int))), (4, .int (iI ((u : Nat) : Int))), (5, .int (iI ((o : Nat) : Int)))]) hx hb dX1_matchFrom_104 hl (by decide) rfl (fun ls hl => ?_)
              refine lv_iload hx hb dX1_matchFrom_106 (lv_at hl 0 rfl) ?_
              refine lv_iconst (v := iI (-1)) hx hb dX1_matchFrom_108 rfl ?_
              refine z_ceq (tgt := 115) hx hb dX1_matchFrom_109 (by decide) (by omega) (fun c15 => ?_) (fun c15 => ?_)
              · refine z_iinc (z := ((t + 1 : Nat) : Int)) (lv' := [(6, .int (iI ((t + 1 : Nat) : Int))), (7, .int (iI (mfV (St_p σ) (St_d σ k) (St_dv σ k) (St_dv σ k2) 3 (f + 1) (u ||| 2 ^ t) (10 * o + t)))), (0, .ref (ρ (0, 0, 0))), (1, .ref (ρ (6, k, 0))), (2, .ref (ρ (6, k2, 0))), (3, .int (iI ((f : Nat) : Int))), (4, .int (iI ((u : Nat) : Int))), (5, .int (iI ((o : Nat) : Int)))]) hx hb dX1_matchFrom_115 hl (k := 1) rfl (by omega) (by decide) rfl (fun ls hl => ?_)
                refine lv_goto (tgt := 17) hx hb dX1_matchFrom_118 (by decide) ?_
                exact W.widen (by omega) (by omega) (ihlp3 (St_d σ k - (t + 1)) (by omega) (t + 1) rfl (by omega) (by rw [← hf9, fsI_miss (k := t) (eq_m1 (if_neg (by omega)) (by assumption)) (by omega), show St_d σ k - (t + 1) = St_d σ k - t - 1 by omega]) _ _ _ hH1 hP hD hS (lv_sub hl [0, 2, 3, 4, 5, 6, 7] rfl))
              · refine lv_iload hx hb dX1_matchFrom_112 (lv_at hl 0 rfl) ?_
                exact z_iret hC hrt hlk hQ hS ⟨zle (z := 0) rfl (by omega), zle (z := 0) rfl (by omega)⟩ ⟨_, rfl, by rw [← hf9]; exact (fsI_hit2 (k := t) (if_neg (by omega)) (by assumption) (by omega)).symm⟩ dX1_matchFrom_114
            · refine lv_goto (tgt := 115) hx hb dX1_matchFrom_77 (by decide) ?_
              refine z_iinc (z := ((t + 1 : Nat) : Int)) (lv' := [(6, .int (iI ((t + 1 : Nat) : Int))), (0, .ref (ρ (0, 0, 0))), (1, .ref (ρ (6, k, 0))), (2, .ref (ρ (6, k2, 0))), (3, .int (iI ((f : Nat) : Int))), (4, .int (iI ((u : Nat) : Int))), (5, .int (iI ((o : Nat) : Int)))]) hx hb dX1_matchFrom_115 hl (k := 0) rfl (by omega) (by decide) rfl (fun ls hl => ?_)
              refine lv_goto (tgt := 17) hx hb dX1_matchFrom_118 (by decide) ?_
              exact W.widen (by omega) (by omega) (ihlp3 (St_d σ k - (t + 1)) (by omega) (t + 1) rfl (by omega) (by rw [← hf9, fsI_miss (k := t) (if_pos (Or.inr (by assumption))) (by omega), show St_d σ k - (t + 1) = St_d σ k - t - 1 by omega]) _ _ _ hH1 hP hD hS hl)
    exact W.widen (by omega) (by omega) (lp3 _ 0 rfl (Nat.zero_le _) rfl _ _ _ hH1 hP hD hS hl)
  · omega

