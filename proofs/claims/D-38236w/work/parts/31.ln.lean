/-! THE CLASS: leans -/
set_option maxRecDepth 100000
def sgV (p z : Int) : Int := if z > p / 2 then z - p else z
def lnS (p : Int) (v : Nat → Int) : Nat → Int
  | 0 => 0
  | k + 1 => lnS p v k + ((k : Int) + 1) * sgV p (v k)
def lnV (p : Int) (n : Nat) (v : Nat → Int) : Int := if paV n v = true then -(Int.tmod (lnS p v n) 32) else Int.tmod (lnS p v n) 32
theorem sgV_in {p z : Int} (hp : pr357 p) (h : 0 ≤ z ∧ z < p) : -3 ≤ sgV p z ∧ sgV p z ≤ 3 := by
  unfold sgV
  rcases hp with rfl | rfl | rfl <;> split <;> omega
def tri : Nat → Int
  | 0 => 0
  | k + 1 => tri k + ((k : Int) + 1)
theorem tri_in : ∀ k : Nat, k ≤ 16 → tri k ≤ 136 := by decide
theorem mul3 {a s : Int} (ha : 0 ≤ a) (hs : -3 ≤ s ∧ s ≤ 3) : -(3 * a) ≤ a * s ∧ a * s ≤ 3 * a := by
  rcases (show s = -3 ∨ s = -2 ∨ s = -1 ∨ s = 0 ∨ s = 1 ∨ s = 2 ∨ s = 3 by omega) with rfl | rfl | rfl | rfl | rfl | rfl | rfl <;> omega
theorem lnS_tri {p : Int} {n : Nat} {v : Nat → Int} (hp : pr357 p) (hv : rw_ok p n v) : ∀ k, k ≤ n → -(3 * tri k) ≤ lnS p v k ∧ lnS p v k ≤ 3 * tri k
  | 0, _ => by simp [lnS, tri]
  | k + 1, h => by
    have h1 := lnS_tri hp hv k (by omega)
    have h2 := mul3 (a := (k : Int) + 1) (by omega) (sgV_in hp (hv k (by omega)))
    simp only [lnS, tri]
    omega
theorem lnS_in {p : Int} {n : Nat} {v : Nat → Int} (hp : pr357 p) (hv : rw_ok p n v) (hn : n ≤ 16) (k : Nat) (hk : k ≤ n) : -408 ≤ lnS p v k ∧ lnS p v k ≤ 408 := by
  have h1 := lnS_tri hp hv k hk
  have h2 := tri_in k (by omega)
  omega
theorem tm32 (z : Int) : -31 ≤ Int.tmod z 32 ∧ Int.tmod z 32 ≤ 31 := by
  have h := Int.natAbs_tmod z 32
  have h2 := Nat.mod_lt z.natAbs (show 0 < (32 : Int).natAbs by decide)
  omega
theorem lnV_in (p : Int) (n : Nat) (v : Nat → Int) : -31 ≤ lnV p n v ∧ lnV p n v ≤ 31 := by
  have := tm32 (lnS p v n)
  unfold lnV
  split <;> omega
abbrev rm_m_X9_quarter : Room := { frames := 0, cells := 0, slots := 0, locals := 0 }
set_option maxHeartbeats 4000000 in
theorem m_X9_quarter {l : Launch} {s0 : State} {G : zG} (hE : zE l s0 G) (H0 : Heap) (hO : zO s0 H0) (b : Nat) (z : Int) (hz : -500 ≤ z ∧ z < 500) : zM l s0 yX9_quarter cX9_quarter 2 (some FieldType.float) rm_m_X9_quarter [.ref b, .int (iI z)] H0 M0 (rf (fun y _ => y = fq z)) := by
  refine z_met hE (by decide +kernel) (Nat.le_of_ble_eq_true rfl) ?_
  intro pp ee ss mm args below meth cd Q ls hC hml hrt hlk hnm hH hQ hS hl
  have hx := hC.x
  have hb := hC.b
  have hl : lv_has ls 2 [(0, .ref b), (1, .int (iI z))] := hl
  have hP : va_P G.1 zCl [] H0 := va_nil
  have hD : va_D (zA M0 H0) [] := va_nilD
  refine lv_ldcf (v := 1048576000) hx hb hC.o (hC.t _ q255) dX9_quarter_0 ?_
  refine lv_iload_n hx hb dX9_quarter_2 rfl (lv_at hl 1 rfl) ?_
  refine lv_i2f hx hb dX9_quarter_3 ?_
  refine lv_fmul hx hb dX9_quarter_4 (fq_T hz).1 ?_
  exact z_fret hC hrt hlk hQ hS ⟨zle (z := 0) rfl (by omega), zle (z := 0) rfl (by omega)⟩ ⟨_, rfl, rfl⟩ dX9_quarter_5

abbrev rm_m_X7_lean : Room := { frames := 2, cells := 0, slots := 0, locals := 45 }
set_option maxHeartbeats 4000000 in
theorem m_X7_lean {l : Launch} {s0 : State} {G : zG} (hE : zE l s0 G) (H0 : Heap) (hO : zO s0 H0) (x g : Nat) (p : Int) (d n kd : Nat) (dv : Nat → Int) (sg : Nat → Nat → Int) (a r : Nat) (v : Nat → Int) (hA : zAg G x g p d n kd dv sg H0) (h : zEl G x g a r n v H0) (hv : rw_ok p n v) : zM l s0 yX7_lean cX7_lean 3 (some FieldType.float) rm_m_X7_lean [.ref a] H0 M0 (rf (fun y _ => y = fq (lnV p n v))) := by
  refine z_met hE (by decide +kernel) (Nat.le_of_ble_eq_true rfl) ?_
  intro pp ee ss mm args below meth cd Q ls hC hml hrt hlk hnm hH hQ hS hl
  have hx := hC.x
  have hb := hC.b
  have hl : lv_has ls 3 [(0, .ref a)] := hl
  have hP : va_P G.1 zCl [] H0 := va_nil
  have hD : va_D (zA M0 H0) [] := va_nilD
  obtain ⟨la, le, dr, kn, sm, dl, da, ml, so, dm, ro, hx0, hg0, hL0, hso, hro, hfa⟩ := id hA
  obtain ⟨hp, hd4, hn2, hkd, hdv, hsg⟩ := hfa
  obtain ⟨hn16, hp7⟩ := hA.n
  refine lv_iconst (v := iI 0) hx hb dX7_lean_0 rfl ?_
  refine lv_istore_n (lv' := [(1, .int (iI 0)), (0, .ref a)]) hx hb dX7_lean_1 rfl hl (by decide) rfl (fun ls hl => ?_)
  refine lv_iconst (v := iI 0) hx hb dX7_lean_2 rfl ?_
  refine lv_istore_n (lv' := [(2, .int (iI 0)), (1, .int (iI 0)), (0, .ref a)]) hx hb dX7_lean_3 rfl hl (by decide) rfl (fun ls hl => ?_)
  have lp1 : ∀ (dlp1 : Nat) (k : Nat) (z9 : Int), n - k = dlp1 → (k ≤ n) → (z9 = lnS p v k) → ∀ (H2 : Heap) (locs : List Loc) (ls : Array Slot), va_P G.1 zCl ([]) H2 → va_D (zA M0 H0) ([]) → va_S (zA M0 H0) H0 H2 locs → lv_has ls 3 [(2, .int (iI ((k : Nat) : Int))), (1, .int (iI z9)), (0, .ref a)] → W pp l ee rm_m_X7_lean ss mm args below meth cd H2 locs 0 0 Q (F0 mm 4 ls []) := by
    intro dlp1
    induction dlp1 using Nat.strongRecOn with
    | ind dlp1 ihlp1 =>
      intro k z9 hdlp1 hk hz9 H2 locs ls  hP hD hS hl
      refine lv_iload_n hx hb dX7_lean_4 rfl (lv_at hl 0 rfl) ?_
      refine lv_aload_n hx hb dX7_lean_5 rfl (lv_at hl 2 rfl) ?_
      refine z_get hC (k := 1) rfl in_X7 (zo hS h.1 id) (by decide) q324 (fun _ h => h) rfl dX7_lean_6 ?_
      refine z_alen hC 0 (zo hS h.2 id) rfl (y := ((n : Nat) : Int)) rfl dX7_lean_9 ?_
      refine z_cge (tgt := 39) hx hb dX7_lean_10 (by decide) (by omega) (fun c3 => ?_) (fun c3 => ?_)
      · have ek : k = n := by omega
        rw [hz9, ek] at hl
        have hS9 := lnS_in hp hv hn16.2 n (Nat.le_refl _)
        have hT9 := fq_T (z := lnS p v n) (by omega)
        have ht9 := tm32 (lnS p v n)
        have hs9 := fq_s (z := Int.tmod (lnS p v n) 32) (by omega)
        refine lv_aload_n hx hb dX7_lean_39 rfl (lv_at hl 2 rfl) ?_
        refine lv_iload_n hx hb dX7_lean_40 rfl (lv_at hl 1 rfl) ?_
        refine z_go 0 0 (z_runQ (As := [.int (iI (lnS p v n))]) (rest := []) hC hml hl.1 (m_X9_quarter hE H2 (hO.ext0 (zS_F hS)) a (lnS p v n) (by omega)) q254 rfl (z_rv hC (ci := 6) rfl (zo hS h.1 id) rfl) rfl (Nat.le_of_ble_eq_true rfl) ⟨Nat.le_of_ble_eq_true rfl, Nat.le_of_ble_eq_true rfl⟩ ⟨zfit (k := 0) (z := 0) rfl rfl (by omega), zfit (k := 0) (z := 0) rfl rfl (by omega)⟩ dX7_lean_41) ⟨zad (k := 0) rfl (by omega), zad (k := 0) rfl (by omega)⟩ hS (fun _ z => z.elim) (fun r H4 locs hp hF hS1 => ?_)
        obtain ⟨_, rfl, rfl⟩ := hp
        have hP := zpk hP hF
        have hP : va_P G.1 zCl ([]) H4 := hP
        have hD : va_D (zA M0 H0) ([]) := hD
        have hS := hS1
        refine lv_ldcf (v := 1090519040) hx hb hC.o (hC.t _ q256) dX7_lean_44 ?_
        refine lv_frem hx hb dX7_lean_46 hT9.2.1 ?_
        refine lv_fstore_n (lv' := [(2, .float (FP.frem (fq (lnS p v n)) 1090519040)), (1, .int (iI (lnS p v n))), (0, .ref a)]) hx hb dX7_lean_47 rfl hl (by decide) rfl (fun ls hl => ?_)
        refine lv_fload_n hx hb dX7_lean_48 rfl (lv_at hl 0 rfl) ?_
        refine lv_fconst0 hx hb dX7_lean_49 ?_
        refine lv_fcmp hx hb dX7_lean_50 ?_
        refine lv_if_ne (tgt := 56) hx hb dX7_lean_51 (by decide)   (fun cf => ?_) (fun cf => ?_)
        · have hnz : Int.tmod (lnS p v n) 32 ≠ 0 := fun e => cf (hT9.2.2.1 e)
          have hrm := hT9.2.2.2 hnz
          rw [hrm] at hl
          refine lv_aload_n hx hb dX7_lean_56 rfl (lv_at hl 2 rfl) ?_
          refine z_go 0 0 (z_runV (As := []) (rest := []) hC hml hl.1 (m_X7_isPlain hE H4 (hO.ext0 (zS_F hS)) x g p d n kd dv sg a r (v)  (hA.ext0 (zS_F hS)) (h.ext0 (zS_F hS)) hv ) (lw_V q257 q258 q259 q92 q260) rfl nd_X7_isPlain rfl (z_rv hC (ci := 6) rfl (zo hS h.1 id) rfl) rfl (Nat.le_of_ble_eq_true rfl) ⟨Nat.le_of_ble_eq_true rfl, Nat.le_of_ble_eq_true rfl⟩ ⟨zfit (k := 0) (z := 0) rfl rfl (by omega), zfit (k := 0) (z := 0) rfl rfl (by omega)⟩ dX7_lean_57) ⟨zad (k := 0) rfl (by omega), zad (k := 0) rfl (by omega)⟩ hS (fun _ z => z.elim) (fun r H5 locs hp hF hS1 => ?_)
          obtain ⟨_, rfl, rfl⟩ := hp
          have hP := zpk hP hF
          have hP : va_P G.1 zCl ([]) H5 := hP
          have hD : va_D (zA M0 H0) ([]) := hD
          have hS := hS1
          refine z_zeq (tgt := 68) hx hb dX7_lean_60 (by decide) (by unfold b2i; split <;> omega) (fun cp => ?_) (fun cp => ?_)
          · refine lv_fload_n hx hb dX7_lean_68 rfl (lv_at hl 0 rfl) ?_
            exact z_fret hC hrt hlk hQ hS ⟨zle (z := 0) rfl (by omega), zle (z := 0) rfl (by omega)⟩ ⟨_, rfl, by unfold lnV; rw [if_neg (by rw [b2i_z cp]; decide)]⟩ dX7_lean_69
          · refine lv_fload_n hx hb dX7_lean_63 rfl (lv_at hl 0 rfl) ?_
            refine lv_fneg hx hb dX7_lean_64 ?_
            refine lv_goto (tgt := 69) hx hb dX7_lean_65 (by decide) ?_
            exact z_fret hC hrt hlk hQ hS ⟨zle (z := 0) rfl (by omega), zle (z := 0) rfl (by omega)⟩ ⟨_, rfl, by unfold lnV; rw [if_pos (b2i_nz cp)]; exact hs9.2 hnz⟩ dX7_lean_69
        · have h0 : Int.tmod (lnS p v n) 32 = 0 := by
            rcases Decidable.em (Int.tmod (lnS p v n) 32 = 0) with e | e
            · exact e
            · rw [hT9.2.2.2 e] at cf; exact hs9.1.mp (by first | exact cf | exact Decidable.not_not.mp cf)
          refine lv_fconst0 hx hb dX7_lean_54 ?_
          exact z_fret hC hrt hlk hQ hS ⟨zle (z := 0) rfl (by omega), zle (z := 0) rfl (by omega)⟩ ⟨_, rfl, by unfold lnV; rw [h0, Int.neg_zero, ite_self, fq_0]⟩ dX7_lean_55
      · have hvk := hv k (by omega)
        have hsk := sgV_in hp hvk
        refine lv_iload_n hx hb dX7_lean_13 rfl (lv_at hl 1 rfl) ?_
        refine lv_iload_n hx hb dX7_lean_14 rfl (lv_at hl 0 rfl) ?_
        refine lv_iconst (v := iI 1) hx hb dX7_lean_15 rfl ?_
        refine z_add hx hb (z := ((k : Nat) : Int) + 1) dX7_lean_16 rfl ?_
        refine lv_aload_n hx hb dX7_lean_17 rfl (lv_at hl 2 rfl) ?_
        refine z_get hC (k := 2) rfl in_X7 (zo hS h.1 id) (by decide) q326 (fun _ h => h) rfl dX7_lean_18 ?_
        refine lv_aload_n hx hb dX7_lean_21 rfl (lv_at hl 2 rfl) ?_
        refine z_get hC (k := 1) rfl in_X7 (zo hS h.1 id) (by decide) q324 (fun _ h => h) rfl dX7_lean_22 ?_
        refine lv_iload_n hx hb dX7_lean_25 rfl (lv_at hl 0 rfl) ?_
        refine z_iald hC (zo hS h.2 id) (k := k) rfl (by omega) (y := v k) rfl dX7_lean_26 ?_
        refine z_go 0 0 (z_runVN (As := [.int (iI (v k))]) (rest := [.int (iI (((k : Nat) : Int) + 1)), .int (iI z9)]) hC hml hl.1 (m_X1_signed hE H2 (hO.ext0 (zS_F hS)) x la le dr p kn sm (v k) (zo hS hx0 id) hp7 hvk) q248 q62 q245 q247 qs1 nd_X1_signed rfl (z_rv hC (ci := 0) rfl (zo hS hx0 id) rfl) rfl (Nat.le_of_ble_eq_true rfl) ⟨Nat.le_of_ble_eq_true rfl, Nat.le_of_ble_eq_true rfl⟩ ⟨zfit (k := 0) (z := 0) rfl rfl (by omega), zfit (k := 0) (z := 0) rfl rfl (by omega)⟩ dX7_lean_27) ⟨zad (k := 0) rfl (by omega), zad (k := 0) rfl (by omega)⟩ hS (fun _ z => z.elim) (fun r H6 locs hp hF hS1 => ?_)
        obtain ⟨_, rfl, rfl⟩ := hp
        have hP := zpk hP hF
        have hP : va_P G.1 zCl ([]) H6 := hP
        have hD : va_D (zA M0 H0) ([]) := hD
        have hS := hS1
        refine z_mul hx hb (z := (((k : Nat) : Int) + 1) * (sgV p (v k))) dX7_lean_30 rfl ?_
        refine z_add hx hb (z := z9 + ((((k : Nat) : Int) + 1) * (sgV p (v k)))) dX7_lean_31 rfl ?_
        refine lv_istore_n (lv' := [(1, .int (iI (z9 + ((((k : Nat) : Int) + 1) * (sgV p (v k)))))), (2, .int (iI ((k : Nat) : Int))), (0, .ref a)]) hx hb dX7_lean_32 rfl hl (by decide) rfl (fun ls hl => ?_)
        refine z_iinc (z := ((k + 1 : Nat) : Int)) (lv' := [(2, .int (iI ((k + 1 : Nat) : Int))), (1, .int (iI (z9 + ((((k : Nat) : Int) + 1) * (sgV p (v k)))))), (0, .ref a)]) hx hb dX7_lean_33 hl (k := 1) rfl (by omega) (by decide) rfl (fun ls hl => ?_)
        refine lv_goto (tgt := 4) hx hb dX7_lean_36 (by decide) ?_
        exact W.widen (by omega) (by omega) (ihlp1 (n - (k + 1)) (by omega) (k + 1) (z9 + ((k : Int) + 1) * sgV p (v k)) rfl (by omega) (by rw [hz9]; rfl) _ _ _  hP hD hS hl)
  exact W.widen (by omega) (by omega) (lp1 _ 0 0 rfl (Nat.zero_le _) rfl _ _ _  hP hD hS hl)

