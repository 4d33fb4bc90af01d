/-! THE MODEL: an algebra is made; a dial is added -/
set_option maxRecDepth 100000
theorem bit_all : ∀ r, r < 4 → ∀ i, i < 16 → i < 2 ^ (r + 1) → (i &&& 2 ^ r = 0 ↔ i < 2 ^ r) ∧ i &&& (2 ^ r - 1) = i % 2 ^ r := by decide
section SGQ
variable {dv : Nat → Int} {r i j : Nat}
theorem sgD_q (hr : r < 4) (hi : i < 2 ^ (r + 1)) (hj : j < 2 ^ (r + 1)) : sgD dv (r + 1) i j = if i < 2 ^ r ∧ j < 2 ^ r then sgD dv r (i % 2 ^ r) (j % 2 ^ r) else if i < 2 ^ r then sgD dv r (j % 2 ^ r) (i % 2 ^ r) else if j < 2 ^ r then sgD dv r (i % 2 ^ r) (j % 2 ^ r) * trn 0 (j % 2 ^ r) else dv r * sgD dv r (j % 2 ^ r) (i % 2 ^ r) * trn 0 (j % 2 ^ r) := by
  have h16 : 2 ^ (r + 1) ≤ 2 ^ 4 := Nat.pow_le_pow_right (by decide) (by omega)
  have a1 := bit_all r hr i (by omega) hi
  have a2 := bit_all r hr j (by omega) hj
  simp only [sgD, a1.1, a2.1, a1.2, a2.2]
end SGQ
theorem md_mul1 {p a b : Int} : (a % p * b) % p = (a * b) % p := by rw [Int.mul_emod, Int.emod_emod_of_dvd _ (Int.dvd_refl p), ← Int.mul_emod]
theorem md_mul2 {p a b : Int} : (b * (a % p)) % p = (b * a) % p := by rw [Int.mul_emod, Int.emod_emod_of_dvd _ (Int.dvd_refl p), ← Int.mul_emod]
theorem sgD_congr {dv dw : Nat → Int} : ∀ {r : Nat}, (∀ k, k < r → dv k = dw k) → ∀ i j, sgD dv r i j = sgD dw r i j
  | 0, _, _, _ => rfl
  | r + 1, h, i, j => by
    simp only [sgD, sgD_congr (r := r) (fun k hk => h k (by omega)), h r (by omega)]
theorem sgB_congr {dv dw : Nat → Int} : ∀ {r : Nat}, (∀ k, k < r → dv k = dw k) → ∀ i j, sgB dv r i j = sgB dw r i j
  | 0, _, _, _ => rfl
  | r + 1, h, i, j => by
    simp only [sgB, sgB_congr (r := r) (fun k hk => h k (by omega)), h r (by omega)]
/-- the signs' product over the first b bits -/
def ngB (j : Nat) : Nat → Int
  | 0 => 1
  | b + 1 => ngB j b * (if j / 2 ^ b % 2 = 1 then -1 else 1)
theorem ngB_in (j : Nat) : ∀ b, ngB j b = 1 ∨ ngB j b = -1
  | 0 => Or.inl rfl
  | b + 1 => by
    simp only [ngB]
    rcases ngB_in j b with h | h <;> rw [h] <;> split <;> simp
theorem ngB_all : ∀ a, a < 5 → ∀ j, j < 16 → ngB j a = if bitc (j &&& (2 ^ a - 1)) % 2 = 1 then -1 else 1 := by decide
theorem sgB_st {dv : Nat → Int} {k i j : Nat} {m : Int} (c1 : i / 2 ^ k &&& 1 ≠ 0) (hm : (if j / 2 ^ k &&& 1 = 1 then dv k else 1) = m) : sgB dv (k + 1) i j = (if bitc (j &&& (2 ^ k - 1)) % 2 = 1 then -(sgB dv k i j) else sgB dv k i j) * m := by simp only [sgB]; rw [if_neg c1, hm]
theorem bl_step {p s B m : Int} {a j : Nat} (ha : a < 5) (hj : j < 16) (h : s % p = B % p) : (s * ngB j a * m) % p = ((if bitc (j &&& (2 ^ a - 1)) % 2 = 1 then -B else B) * m) % p := by
  rw [ngB_all a ha j hj]
  split
  · rw [Int.mul_assoc s (-1) m, show -B * m = B * (-1 * m) by rw [← Int.mul_assoc, Int.mul_neg_one], Int.mul_emod, h, ← Int.mul_emod]
  · rw [Int.mul_one, Int.mul_emod, h, ← Int.mul_emod]
abbrev rm_m_X6_init : Room := { frames := 4, cells := 4, slots := 9, locals := 80 }
set_option maxHeartbeats 4000000 in
theorem m_X6_init {l : Launch} {s0 : State} {G : zG} (hE : zE l s0 G) (H0 : Heap) (hO : zO s0 H0) (g x kd : Nat) (hq : s0.heap.size ≤ g) (h : zAt G g (zOb 5 [.int (iI 0), .null, .null, .int (iI 0), .null, .null]) H0) : zM l s0 yX6_init cX6_init 3 (none : Option FieldType) rm_m_X6_init [.ref g, .ref x, .int (iI ((kd : Nat) : Int))] H0 (fun z => z = g) (rv (fun h1 => ∃ dl so r0 ml, va_P G.1 zCl [(g, zOb 5 [.int (iI (kd : Int)), .ref dl, .ref so, .int (iI 0), .ref ml, .ref x]), (dl, zI G 4 (fun _ => 0)), (so, zII G 1 (fun _ => some r0)), (r0, zI G 1 (fun _ => 1)), (ml, zOb 8 [.int (iI 0), .ref (G.2 12), .int (iI 0)])] h1 ∧ va_D (zA (fun z => z = g) H0) [(g, zOb 5 [.int (iI (kd : Int)), .ref dl, .ref so, .int (iI 0), .ref ml, .ref x]), (dl, zI G 4 (fun _ => 0)), (so, zII G 1 (fun _ => some r0)), (r0, zI G 1 (fun _ => 1)), (ml, zOb 8 [.int (iI 0), .ref (G.2 12), .int (iI 0)])])) := by
  refine z_met hE (by decide +kernel) (Nat.le_of_ble_eq_true rfl) ?_
  intro pp ee ss mm args below meth cd Q ls hC hml hrt hlk hnm hH hQ hS hl
  have hx := hC.x
  have hb := hC.b
  have hl : lv_has ls 3 [(0, .ref g), (1, .ref x), (2, .int (iI ((kd : Nat) : Int)))] := hl
  have hP : va_P G.1 zCl [(g, zOb 5 [.int (iI 0), .null, .null, .int (iI 0), .null, .null])] H0 := zP1 h
  have hD : va_D (zA (fun z => z = g) H0) [(g, zOb 5 [.int (iI 0), .null, .null, .int (iI 0), .null, .null])] := zD1 (Or.inl rfl)
  have hMo : ∀ z, (fun z => z = g) z → s0.heap.size ≤ z := fun z hz => hz ▸ hq
  refine lv_aload_n hx hb dX6_init_0 rfl (lv_at hl 0 rfl) ?_
  refine lv_aload_n hx hb dX6_init_1 rfl (lv_at hl 1 rfl) ?_
  refine z_putF hC hnm hP hD hS 0 (k := 5) rfl rfl in_X6 tyX6_ok nmX6 (by decide) q1558 (fun _ h => h) rfl rfl rfl rfl rfl (Nat.le_of_ble_eq_true rfl) (ws' := [(g, zOb 5 [.int (iI 0), .null, .null, .int (iI 0), .null, .ref x])]) rfl dX6_init_2 (fun H1 locs hP hD hS => ?_)
  refine lv_aload_n hx hb dX6_init_5 rfl (lv_at hl 0 rfl) ?_
  refine W.objInit hx hb hC.o (hC.t _ q1544) (hC.t _ q108) (hC.t _ q109) rfl (by rw [hml]; exact hl.1) rfl dX6_init_6 (Nat.le_of_ble_eq_true rfl) (Nat.le_of_ble_eq_true rfl) ?_
  refine W.eq (g2 := F0 mm 9 ls []) rfl ?_
  refine lv_aload_n hx hb dX6_init_9 rfl (lv_at hl 0 rfl) ?_
  refine lv_iconst (v := iI 4) hx hb dX6_init_10 rfl ?_
  refine z_newi hC hP hD hS (N := 4) (c1 := 1) (s1 := 4) rfl (by omega) ⟨zle (z := 4) rfl (by omega), zle (z := 9) rfl (by omega)⟩ ⟨by omega, by omega⟩ (ws' := fun q2 => [(g, zOb 5 [.int (iI 0), .null, .null, .int (iI 0), .null, .ref x]), (q2, zI G 4 (fun _ => 0))]) (fun _ => rfl) dX6_init_11 (fun q2 H3 hq0q2 hq1q2 hP hD hS hF => ?_)
  refine z_putF hC hnm hP hD hS 0 (k := 1) rfl rfl in_X6 tyX6_ok nmX6 (by decide) q1550 (fun _ h => h) rfl rfl rfl rfl rfl (Nat.le_of_ble_eq_true rfl) (ws' := [(g, zOb 5 [.int (iI 0), .ref q2, .null, .int (iI 0), .null, .ref x]), (q2, zI G 4 (fun _ => 0))]) rfl dX6_init_13 (fun H4 locs hP hD hS => ?_)
  refine lv_aload_n hx hb dX6_init_16 rfl (lv_at hl 0 rfl) ?_
  refine lv_iconst (v := iI 1) hx hb dX6_init_17 rfl ?_
  refine z_newII hC hP hD hS (N := 1) (c1 := 2) (s1 := 5) q1545 rfl (by omega) ⟨zle (z := 4) rfl (by omega), zle (z := 9) rfl (by omega)⟩ ⟨by omega, by omega⟩ (ws' := fun q5 => [(g, zOb 5 [.int (iI 0), .ref q2, .null, .int (iI 0), .null, .ref x]), (q2, zI G 4 (fun _ => 0)), (q5, zII G 1 (fun _ => none))]) (fun _ => rfl) dX6_init_18 (fun q5 H6 hq0q5 hq1q5 hP hD hS hF => ?_)
  refine lv_dup hx hb dX6_init_21 rfl ?_
  refine lv_iconst (v := iI 0) hx hb dX6_init_22 rfl ?_
  refine lv_iconst (v := iI 1) hx hb dX6_init_23 rfl ?_
  refine z_newi hC hP hD hS (N := 1) (c1 := 3) (s1 := 6) rfl (by omega) ⟨zle (z := 4) rfl (by omega), zle (z := 9) rfl (by omega)⟩ ⟨by omega, by omega⟩ (ws' := fun q7 => [(g, zOb 5 [.int (iI 0), .ref q2, .null, .int (iI 0), .null, .ref x]), (q2, zI G 4 (fun _ => 0)), (q5, zII G 1 (fun _ => none)), (q7, zI G 1 (fun _ => 0))]) (fun _ => rfl) dX6_init_24 (fun q7 H8 hq0q7 hq1q7 hP hD hS hF => ?_)
  refine lv_dup hx hb dX6_init_26 rfl ?_
  refine lv_iconst (v := iI 0) hx hb dX6_init_27 rfl ?_
  refine lv_iconst (v := iI 1) hx hb dX6_init_28 rfl ?_
  refine z_iast hC hP hD hS 3 (k := 0) rfl rfl (by omega) (ws' := [(g, zOb 5 [.int (iI 0), .ref q2, .null, .int (iI 0), .null, .ref x]), (q2, zI G 4 (fun _ => 0)), (q5, zII G 1 (fun _ => none)), (q7, zI G 1 (va_up (fun _ => 0) 0 1))]) rfl dX6_init_29 (fun H9 locs hP hD hS => ?_)
  refine z_aastII hC hP hD hS 2 (k := 0) rfl (hP 3 _ rfl) rfl (by omega) (ws' := [(g, zOb 5 [.int (iI 0), .ref q2, .null, .int (iI 0), .null, .ref x]), (q2, zI G 4 (fun _ => 0)), (q5, zII G 1 (va_up (fun _ => none) 0 (some q7))), (q7, zI G 1 (va_up (fun _ => 0) 0 1))]) rfl dX6_init_30 (fun H10 locs hP hD hS => ?_)
  have hP : va_P G.1 zCl ([(g, zOb 5 [.int (iI 0), .ref q2, .null, .int (iI 0), .null, .ref x]), (q2, zI G 4 (fun _ => 0)), (q5, zII G 1 (va_up (fun _ => none) 0 (some q7))), (q7, zI G 1 (fun _ => 1))]) H10 := zcI hP 3 rfl (fun j hj => by rw [show j = 0 by omega]; rfl)
  have hD : va_D (zA (fun z => z = g) H0) ([(g, zOb 5 [.int (iI 0), .ref q2, .null, .int (iI 0), .null, .ref x]), (q2, zI G 4 (fun _ => 0)), (q5, zII G 1 (va_up (fun _ => none) 0 (some q7))), (q7, zI G 1 (fun _ => 1))]) := hD.set (p := 3) rfl
  have hP : va_P G.1 zCl [(g, zOb 5 [.int (iI 0), .ref q2, .null, .int (iI 0), .null, .ref x]), (q2, zI G 4 (fun _ => 0)), (q5, zII G 1 (fun _ => some q7)), (q7, zI G 1 (fun _ => 1))] H10 := hP.setII (q0 := 2) rfl (fun j hj => by rw [show j = 0 by omega]; rfl)
  have hD : va_D (zA (fun z => z = g) H0) [(g, zOb 5 [.int (iI 0), .ref q2, .null, .int (iI 0), .null, .ref x]), (q2, zI G 4 (fun _ => 0)), (q5, zII G 1 (fun _ => some q7)), (q7, zI G 1 (fun _ => 1))] := hD.set (p := 2) rfl
  refine z_put hC hP hD hS 0 (k := 2) rfl rfl in_X6 tyX6_ok nmX6 (by decide) q1552 (fun _ h => h) rfl rfl rfl rfl (Nat.le_of_ble_eq_true rfl) (ws' := [(g, zOb 5 [.int (iI 0), .ref q2, .ref q5, .int (iI 0), .null, .ref x]), (q2, zI G 4 (fun _ => 0)), (q5, zII G 1 (fun _ => some q7)), (q7, zI G 1 (fun _ => 1))]) rfl dX6_init_31 (fun H11 locs hP hD hS => ?_)
  refine lv_aload_n hx hb dX6_init_34 rfl (lv_at hl 0 rfl) ?_
  refine z_new hC hP hD hS (c1 := 4) (s1 := 9) (fs := [.int (iI 0), .null, .int (iI 0)]) (ci := 8) rfl in_J2 tyJ2_ok q1546 q111 q65 df_J2 ⟨zle (z := 4) rfl (by omega), zle (z := 9) rfl (by omega)⟩ ⟨by omega, by omega⟩ (ws' := fun q12 => [(g, zOb 5 [.int (iI 0), .ref q2, .ref q5, .int (iI 0), .null, .ref x]), (q2, zI G 4 (fun _ => 0)), (q5, zII G 1 (fun _ => some q7)), (q7, zI G 1 (fun _ => 1)), (q12, zOb 8 [.int (iI 0), .null, .int (iI 0)])]) (fun _ => rfl) dX6_init_35 (fun q12 H13 hq0q12 hq1q12 hP hD hS hF => ?_)
  refine lv_dup hx hb dX6_init_38 rfl ?_
  refine z_go 4 9 (z_runI (As := []) (rest := [.ref q12, .ref g]) hC hml hl.1 (m_J2_init hE H13 (hO.ext (zS_F hS) hMo) q12 (Nat.le_trans hO.1 hq0q12) (hP 4 _ rfl)) q114 q65 q1547 q113 rfl nd_J2_init rfl rfl (Nat.le_of_ble_eq_true rfl) ⟨Nat.le_of_ble_eq_true rfl, Nat.le_of_ble_eq_true rfl⟩ ⟨zfit (k := 0) (z := 4) rfl rfl (by omega), zfit (k := 0) (z := 9) rfl rfl (by omega)⟩ dX6_init_39) ⟨zad (k := 0) rfl (by omega), zad (k := 0) rfl (by omega)⟩ hS (fun q z => by subst z; exact hD.2 4 _ rfl) (fun r H14 locs hp hF hS1 => ?_)
  obtain ⟨rfl, hm⟩ := hp
  obtain ⟨hP, hD⟩ := zjm hP hD hF 4 rfl hm
  have hP : va_P G.1 zCl ([(g, zOb 5 [.int (iI 0), .ref q2, .ref q5, .int (iI 0), .null, .ref x]), (q2, zI G 4 (fun _ => 0)), (q5, zII G 1 (fun _ => some q7)), (q7, zI G 1 (fun _ => 1)), (q12, zOb 8 [.int (iI 0), .ref (G.2 12), .int (iI 0)])]) H14 := hP
  have hD : va_D (zA (fun z => z = g) H0) ([(g, zOb 5 [.int (iI 0), .ref q2, .ref q5, .int (iI 0), .null, .ref x]), (q2, zI G 4 (fun _ => 0)), (q5, zII G 1 (fun _ => some q7)), (q7, zI G 1 (fun _ => 1)), (q12, zOb 8 [.int (iI 0), .ref (G.2 12), .int (iI 0)])]) := hD
  have hS := hS1
  refine z_putF hC hnm hP hD hS 0 (k := 4) rfl rfl in_X6 tyX6_ok nmX6 (by decide) q1556 (fun _ h => h) rfl rfl rfl rfl rfl (Nat.le_of_ble_eq_true rfl) (ws' := [(g, zOb 5 [.int (iI 0), .ref q2, .ref q5, .int (iI 0), .ref q12, .ref x]), (q2, zI G 4 (fun _ => 0)), (q5, zII G 1 (fun _ => some q7)), (q7, zI G 1 (fun _ => 1)), (q12, zOb 8 [.int (iI 0), .ref (G.2 12), .int (iI 0)])]) rfl dX6_init_42 (fun H15 locs hP hD hS => ?_)
  refine lv_aload_n hx hb dX6_init_45 rfl (lv_at hl 0 rfl) ?_
  refine lv_iload_n hx hb dX6_init_46 rfl (lv_at hl 2 rfl) ?_
  refine z_putF hC hnm hP hD hS 0 (k := 0) rfl rfl in_X6 tyX6_ok nmX6 (by decide) q1548 (fun _ h => h) rfl rfl rfl rfl rfl (Nat.le_of_ble_eq_true rfl) (ws' := [(g, zOb 5 [.int (iI ((kd : Nat) : Int)), .ref q2, .ref q5, .int (iI 0), .ref q12, .ref x]), (q2, zI G 4 (fun _ => 0)), (q5, zII G 1 (fun _ => some q7)), (q7, zI G 1 (fun _ => 1)), (q12, zOb 8 [.int (iI 0), .ref (G.2 12), .int (iI 0)])]) rfl dX6_init_47 (fun H16 locs hP hD hS => ?_)
  exact z_vret hC hrt hlk hQ hS ⟨zle (z := 4) rfl (by omega), zle (z := 9) rfl (by omega)⟩ ⟨rfl, _, _, _, _, hP, hD⟩ dX6_init_50

abbrev rm_m_X6_doubled : Room := { frames := 2, cells := 0, slots := 0, locals := 44 }
set_option maxHeartbeats 4000000 in
theorem m_X6_doubled {l : Launch} {s0 : State} {G : zG} (hE : zE l s0 G) (H0 : Heap) (hO : zO s0 H0) (x la le : Nat) (t9 p : Int) (kn : Nat) (g dl so ml d md : Nat) (dv : Nat → Int) (ro : Nat → Nat) (i j : Nat) (hx0 : zAt G x (zOb 2 [.int (iI t9), .int (iI p), .int (iI (kn : Int)), .ref la, .ref le]) H0) (hg0 : zAt G g (zOb 5 [.int (iI ((0 : Nat) : Int)), .ref dl, .ref so, .int (iI (md : Int)), .ref ml, .ref x]) H0) (hso : zAt G so (zII G (2 ^ d) (fun i => some (ro i))) H0) (hro : ∀ r, r < 2 ^ d → zAt G (ro r) (zI G (2 ^ d) (fun c => sgD dv d r c % p)) H0) (hp : pr357 p) (hd : d < 4) (hdv : 0 < dv d ∧ dv d < p) (hij : i < 2 ^ (d + 1) ∧ j < 2 ^ (d + 1)) : zM l s0 yX6_doubled cX6_doubled 7 (some FieldType.int) rm_m_X6_doubled [.ref g, .int (iI ((i : Nat) : Int)), .int (iI ((j : Nat) : Int)), .int (iI ((2 ^ d : Nat) : Int)), .int (iI (dv d))] H0 M0 (ri (fun y _ => y = sgD dv (d + 1) i j % p)) := by
  refine z_met hE (by decide +kernel) (Nat.le_of_ble_eq_true rfl) ?_
  intro pp ee ss mm args below meth cd Q ls hC hml hrt hlk hnm hH hQ hS hl
  have hx := hC.x
  have hb := hC.b
  have hl : lv_has ls 7 [(0, .ref g), (1, .int (iI ((i : Nat) : Int))), (2, .int (iI ((j : Nat) : Int))), (3, .int (iI ((2 ^ d : Nat) : Int))), (4, .int (iI (dv d)))] := hl
  have hP : va_P G.1 zCl [] H0 := va_nil
  have hD : va_D (zA M0 H0) [] := va_nilD
  have hp7 : 0 < p ∧ p ≤ 7 := by rcases hp with h | h | h <;> rw [h] <;> decide
  have h2d := p2_16 (show d ≤ 4 by omega) (n := 2 ^ d) rfl
  have e2d : 2 ^ (d + 1) = 2 ^ d * 2 := Nat.pow_succ 2 d
  have h2e := p2_16 (show d + 1 ≤ 4 by omega) (n := 2 ^ (d + 1)) rfl
  have hq := sgD_q (dv := dv) hd hij.1 hij.2
  have hi9 : i % 2 ^ d < 2 ^ d := Nat.mod_lt _ (by omega)
  have hj9 : j % 2 ^ d < 2 ^ d := Nat.mod_lt _ (by omega)
  refine lv_iload_n hx hb dX6_doubled_0 rfl (lv_at hl 1 rfl) ?_
  refine lv_iload_n hx hb dX6_doubled_1 rfl (lv_at hl 3 rfl) ?_
  refine z_rem hx hb (z := Int.tmod ((i : Nat) : Int) ((2 ^ d : Nat) : Int)) dX6_doubled_2 (by omega) rfl ?_
  refine z_top (b := ((i % 2 ^ d : Nat) : Int)) (rfl) ?_
  refine lv_istore (lv' := [(5, .int (iI ((i % 2 ^ d : Nat) : Int))), (0, .ref g), (1, .int (iI ((i : Nat) : Int))), (2, .int (iI ((j : Nat) : Int))), (3, .int (iI ((2 ^ d : Nat) : Int))), (4, .int (iI (dv d)))]) hx hb dX6_doubled_3 hl (by decide) rfl (fun ls hl => ?_)
  refine lv_iload_n hx hb dX6_doubled_5 rfl (lv_at hl 3 rfl) ?_
  refine lv_iload_n hx hb dX6_doubled_6 rfl (lv_at hl 4 rfl) ?_
  refine z_rem hx hb (z := Int.tmod ((j : Nat) : Int) ((2 ^ d : Nat) : Int)) dX6_doubled_7 (by omega) rfl ?_
  refine z_top (b := ((j % 2 ^ d : Nat) : Int)) (rfl) ?_
  refine lv_istore (lv' := [(6, .int (iI ((j % 2 ^ d : Nat) : Int))), (5, .int (iI ((i % 2 ^ d : Nat) : Int))), (0, .ref g), (1, .int (iI ((i : Nat) : Int))), (2, .int (iI ((j : Nat) : Int))), (3, .int (iI ((2 ^ d : Nat) : Int))), (4, .int (iI (dv d)))]) hx hb dX6_doubled_8 hl (by decide) rfl (fun ls hl => ?_)
  refine lv_iload_n hx hb dX6_doubled_10 rfl (lv_at hl 3 rfl) ?_
  refine lv_iload_n hx hb dX6_doubled_11 rfl (lv_at hl 5 rfl) ?_
  refine z_cge (tgt := 44) hx hb dX6_doubled_12 (by decide) (by omega) (fun c1 => ?_) (fun c1 => ?_)
  · refine lv_iload_n hx hb dX6_doubled_44 rfl (lv_at hl 4 rfl) ?_
    refine lv_iload_n hx hb dX6_doubled_45 rfl (lv_at hl 5 rfl) ?_
    refine z_cge (tgt := 76) hx hb dX6_doubled_46 (by decide) (by omega) (fun c2 => ?_) (fun c2 => ?_)
    · have hs9 := md_in hp (sgD dv d (j % 2 ^ d) (i % 2 ^ d))
      refine lv_aload_n hx hb dX6_doubled_76 rfl (lv_at hl 2 rfl) ?_
      refine z_get hC (k := 5) rfl in_X6 (zo hS hg0 id) (by decide) q1558 (fun _ h => h) rfl dX6_doubled_77 ?_
      refine lv_iload hx hb dX6_doubled_80 (lv_at hl 6 rfl) ?_
      refine lv_aload_n hx hb dX6_doubled_82 rfl (lv_at hl 2 rfl) ?_
      refine lv_iload hx hb dX6_doubled_83 (lv_at hl 0 rfl) ?_
      refine z_go 0 0 (z_runV (As := [.int (iI ((j % 2 ^ d : Nat) : Int))]) (rest := [.int (iI (dv d)), .ref x]) hC hml hl.1 (m_X6_conjugate hE H0 (hO.ext0 (zS_F hS)) g dl so ml x 0 md (j % 2 ^ d) (zo hS hg0 id) ⟨by decide, by omega⟩) (lw_V q1612 q1613 q1614 q82 q1615) rfl nd_X6_conjugate rfl (z_rv hC (ci := 5) rfl (zo hS hg0 id) rfl) rfl (Nat.le_of_ble_eq_true rfl) ⟨Nat.le_of_ble_eq_true rfl, Nat.le_of_ble_eq_true rfl⟩ ⟨zfit (k := 0) (z := 0) rfl rfl (by omega), zfit (k := 0) (z := 0) rfl rfl (by omega)⟩ dX6_doubled_85) ⟨zad (k := 0) rfl (by omega), zad (k := 0) rfl (by omega)⟩ hS (fun _ z => z.elim) (fun r H3 locs hp hF hS1 => ?_)
      obtain ⟨_, rfl, rfl⟩ := hp
      have hP := zpk hP hF
      have hP : va_P G.1 zCl ([]) H3 := hP
      have hD : va_D (zA M0 H0) ([]) := hD
      have hS := hS1
      have htr := trn_in2 0 (j % 2 ^ d)
      have hb1 : -70 ≤ trn 0 (j % 2 ^ d) * dv d ∧ trn 0 (j % 2 ^ d) * dv d ≤ 70 := zmulb (by omega) (by omega : 0 ≤ dv d ∧ dv d < p) hp7
      have hb2 : dv d * trn 0 (j % 2 ^ d) = trn 0 (j % 2 ^ d) * dv d := Int.mul_comm _ _
      have hb4 := zmulb (t := trn 0 (j % 2 ^ d)) (by omega) hs9 hp7
      have hb3 : -700 ≤ dv d * trn 0 (j % 2 ^ d) * (sgD dv d (j % 2 ^ d) (i % 2 ^ d) % p) ∧ dv d * trn 0 (j % 2 ^ d) * (sgD dv d (j % 2 ^ d) (i % 2 ^ d) % p) ≤ 700 := by have h9 := zmul6 (k := dv d) (z := trn 0 (j % 2 ^ d) * (sgD dv d (j % 2 ^ d) (i % 2 ^ d) % p)) (w := 6) ⟨by omega, by omega⟩ (by omega); rw [Int.mul_assoc]; rcases (show dv d = 1 ∨ dv d = 2 ∨ dv d = 3 ∨ dv d = 4 ∨ dv d = 5 ∨ dv d = 6 from by omega) with h8 | h8 | h8 | h8 | h8 | h8 <;> rw [h8] <;> omega
      refine z_mul hx hb (z := (dv d) * (trn 0 (j % 2 ^ d))) dX6_doubled_88 rfl ?_
      refine lv_aload_n hx hb dX6_doubled_89 rfl (lv_at hl 2 rfl) ?_
      refine z_get hC (k := 2) rfl in_X6 (zo hS hg0 id) (by decide) q1552 (fun _ h => h) rfl dX6_doubled_90 ?_
      refine lv_iload hx hb dX6_doubled_93 (lv_at hl 0 rfl) ?_
      refine z_aald hC (zo hS hso id) (k := j % 2 ^ d) rfl (by omega) (q := (ro (j % 2 ^ d))) rfl dX6_doubled_95 ?_
      refine lv_iload hx hb dX6_doubled_96 (lv_at hl 1 rfl) ?_
      refine z_iald hC (zo hS (hro (j % 2 ^ d) (by assumption)) id) (k := i % 2 ^ d) rfl (by omega) (y := sgD dv d (j % 2 ^ d) (i % 2 ^ d) % p) rfl dX6_doubled_98 ?_
      refine z_mul hx hb (z := ((dv d) * (trn 0 (j % 2 ^ d))) * (sgD dv d (j % 2 ^ d) (i % 2 ^ d) % p)) dX6_doubled_99 rfl ?_
      refine z_go 0 0 (z_runVN (As := [.int (iI (((dv d) * (trn 0 (j % 2 ^ d))) * (sgD dv d (j % 2 ^ d) (i % 2 ^ d) % p)))]) (rest := []) hC hml hl.1 (m_X3_mod hE H3 (hO.ext0 (zS_F hS)) x la le t9 p kn (dv d * trn 0 (j % 2 ^ d) * (sgD dv d (j % 2 ^ d) (i % 2 ^ d) % p)) (zo hS hx0 id) hp (by omega)) q1622 q67 q1619 q1621 qs33 nd_X3_mod rfl (z_rv hC (ci := 2) rfl (zo hS hx0 id) rfl) rfl (Nat.le_of_ble_eq_true rfl) ⟨Nat.le_of_ble_eq_true rfl, Nat.le_of_ble_eq_true rfl⟩ ⟨zfit (k := 0) (z := 0) rfl rfl (by omega), zfit (k := 0) (z := 0) rfl rfl (by omega)⟩ dX6_doubled_100) ⟨zad (k := 0) rfl (by omega), zad (k := 0) rfl (by omega)⟩ hS (fun _ z => z.elim) (fun r H4 locs hp hF hS1 => ?_)
      obtain ⟨_, rfl, rfl⟩ := hp
      have hP := zpk hP hF
      have hP : va_P G.1 zCl ([]) H4 := hP
      have hD : va_D (zA M0 H0) ([]) := hD
      have hS := hS1
      exact z_iret hC hrt hlk hQ hS ⟨zle (z := 0) rfl (by omega), zle (z := 0) rfl (by omega)⟩ ⟨_, rfl, by rw [hq, if_neg (by omega), if_neg (by omega), if_neg (by omega), md_mul2]; congr 1; rw [Int.mul_assoc, Int.mul_assoc, Int.mul_comm (trn 0 (j % 2 ^ d))]⟩ dX6_doubled_103
    · have hs9 := md_in hp (sgD dv d (i % 2 ^ d) (j % 2 ^ d))
      refine lv_aload_n hx hb dX6_doubled_49 rfl (lv_at hl 2 rfl) ?_
      refine z_get hC (k := 5) rfl in_X6 (zo hS hg0 id) (by decide) q1558 (fun _ h => h) rfl dX6_doubled_50 ?_
      refine lv_aload_n hx hb dX6_doubled_53 rfl (lv_at hl 2 rfl) ?_
      refine z_get hC (k := 2) rfl in_X6 (zo hS hg0 id) (by decide) q1552 (fun _ h => h) rfl dX6_doubled_54 ?_
      refine lv_iload hx hb dX6_doubled_57 (lv_at hl 1 rfl) ?_
      refine z_aald hC (zo hS hso id) (k := i % 2 ^ d) rfl (by omega) (q := (ro (i % 2 ^ d))) rfl dX6_doubled_59 ?_
      refine lv_iload hx hb dX6_doubled_60 (lv_at hl 0 rfl) ?_
      refine z_iald hC (zo hS (hro (i % 2 ^ d) (by assumption)) id) (k := j % 2 ^ d) rfl (by omega) (y := sgD dv d (i % 2 ^ d) (j % 2 ^ d) % p) rfl dX6_doubled_62 ?_
      refine lv_aload_n hx hb dX6_doubled_63 rfl (lv_at hl 2 rfl) ?_
      refine lv_iload hx hb dX6_doubled_64 (lv_at hl 0 rfl) ?_
      refine z_go 0 0 (z_runV (As := [.int (iI ((j % 2 ^ d : Nat) : Int))]) (rest := [.int (iI (sgD dv d (i % 2 ^ d) (j % 2 ^ d) % p)), .ref x]) hC hml hl.1 (m_X6_conjugate hE H0 (hO.ext0 (zS_F hS)) g dl so ml x 0 md (j % 2 ^ d) (zo hS hg0 id) ⟨by decide, by omega⟩) (lw_V q1612 q1613 q1614 q82 q1615) rfl nd_X6_conjugate rfl (z_rv hC (ci := 5) rfl (zo hS hg0 id) rfl) rfl (Nat.le_of_ble_eq_true rfl) ⟨Nat.le_of_ble_eq_true rfl, Nat.le_of_ble_eq_true rfl⟩ ⟨zfit (k := 0) (z := 0) rfl rfl (by omega), zfit (k := 0) (z := 0) rfl rfl (by omega)⟩ dX6_doubled_66) ⟨zad (k := 0) rfl (by omega), zad (k := 0) rfl (by omega)⟩ hS (fun _ z => z.elim) (fun r H5 locs hp hF hS1 => ?_)
      obtain ⟨_, rfl, rfl⟩ := hp
      have hP := zpk hP hF
      have hP : va_P G.1 zCl ([]) H5 := hP
      have hD : va_D (zA M0 H0) ([]) := hD
      have hS := hS1
      have htr := trn_in2 0 (j % 2 ^ d)
      have hb4 := zmulb (t := trn 0 (j % 2 ^ d)) (by omega) hs9 hp7
      have hb5 : (sgD dv d (i % 2 ^ d) (j % 2 ^ d) % p) * trn 0 (j % 2 ^ d) = trn 0 (j % 2 ^ d) * (sgD dv d (i % 2 ^ d) (j % 2 ^ d) % p) := Int.mul_comm _ _
      refine z_mul hx hb (z := (sgD dv d (i % 2 ^ d) (j % 2 ^ d) % p) * (trn 0 (j % 2 ^ d))) dX6_doubled_69 rfl ?_
      refine z_go 0 0 (z_runVN (As := [.int (iI ((sgD dv d (i % 2 ^ d) (j % 2 ^ d) % p) * (trn 0 (j % 2 ^ d))))]) (rest := []) hC hml hl.1 (m_X3_mod hE H5 (hO.ext0 (zS_F hS)) x la le t9 p kn (sgD dv d (i % 2 ^ d) (j % 2 ^ d) % p * trn 0 (j % 2 ^ d)) (zo hS hx0 id) hp (by omega)) q1622 q67 q1619 q1621 qs33 nd_X3_mod rfl (z_rv hC (ci := 2) rfl (zo hS hx0 id) rfl) rfl (Nat.le_of_ble_eq_true rfl) ⟨Nat.le_of_ble_eq_true rfl, Nat.le_of_ble_eq_true rfl⟩ ⟨zfit (k := 0) (z := 0) rfl rfl (by omega), zfit (k := 0) (z := 0) rfl rfl (by omega)⟩ dX6_doubled_70) ⟨zad (k := 0) rfl (by omega), zad (k := 0) rfl (by omega)⟩ hS (fun _ z => z.elim) (fun r H6 locs hp hF hS1 => ?_)
      obtain ⟨_, rfl, rfl⟩ := hp
      have hP := zpk hP hF
      have hP : va_P G.1 zCl ([]) H6 := hP
      have hD : va_D (zA M0 H0) ([]) := hD
      have hS := hS1
      refine lv_goto (tgt := 103) hx hb dX6_doubled_73 (by decide) ?_
      exact z_iret hC hrt hlk hQ hS ⟨zle (z := 0) rfl (by omega), zle (z := 0) rfl (by omega)⟩ ⟨_, rfl, by rw [hq, if_neg (by omega), if_neg (by omega), if_pos (by omega), md_mul1]⟩ dX6_doubled_103
  · refine lv_iload_n hx hb dX6_doubled_15 rfl (lv_at hl 4 rfl) ?_
    refine lv_iload_n hx hb dX6_doubled_16 rfl (lv_at hl 5 rfl) ?_
    refine z_cge (tgt := 33) hx hb dX6_doubled_17 (by decide) (by omega) (fun c7 => ?_) (fun c7 => ?_)
    · refine lv_aload_n hx hb dX6_doubled_33 rfl (lv_at hl 2 rfl) ?_
      refine z_get hC (k := 2) rfl in_X6 (zo hS hg0 id) (by decide) q1552 (fun _ h => h) rfl dX6_doubled_34 ?_
      refine lv_iload hx hb dX6_doubled_37 (lv_at hl 0 rfl) ?_
      refine z_aald hC (zo hS hso id) (k := j % 2 ^ d) rfl (by omega) (q := (ro (j % 2 ^ d))) rfl dX6_doubled_39 ?_
      refine lv_iload hx hb dX6_doubled_40 (lv_at hl 1 rfl) ?_
      refine z_iald hC (zo hS (hro (j % 2 ^ d) (by assumption)) id) (k := i % 2 ^ d) rfl (by omega) (y := sgD dv d (j % 2 ^ d) (i % 2 ^ d) % p) rfl dX6_doubled_42 ?_
      exact z_iret hC hrt hlk hQ hS ⟨zle (z := 0) rfl (by omega), zle (z := 0) rfl (by omega)⟩ ⟨_, rfl, by rw [hq, if_neg (by omega), if_pos (by omega)]⟩ dX6_doubled_43
    · refine lv_aload_n hx hb dX6_doubled_20 rfl (lv_at hl 2 rfl) ?_
      refine z_get hC (k := 2) rfl in_X6 (zo hS hg0 id) (by decide) q1552 (fun _ h => h) rfl dX6_doubled_21 ?_
      refine lv_iload hx hb dX6_doubled_24 (lv_at hl 1 rfl) ?_
      refine z_aald hC (zo hS hso id) (k := i % 2 ^ d) rfl (by omega) (q := (ro (i % 2 ^ d))) rfl dX6_doubled_26 ?_
      refine lv_iload hx hb dX6_doubled_27 (lv_at hl 0 rfl) ?_
      refine z_iald hC (zo hS (hro (i % 2 ^ d) (by assumption)) id) (k := j % 2 ^ d) rfl (by omega) (y := sgD dv d (i % 2 ^ d) (j % 2 ^ d) % p) rfl dX6_doubled_29 ?_
      refine lv_goto (tgt := 43) hx hb dX6_doubled_30 (by decide) ?_
      exact z_iret hC hrt hlk hQ hS ⟨zle (z := 0) rfl (by omega), zle (z := 0) rfl (by omega)⟩ ⟨_, rfl, by rw [hq, if_pos ⟨by omega, by omega⟩]⟩ dX6_doubled_43

abbrev rm_m_X6_blade : Room := { frames := 1, cells := 0, slots := 0, locals := 21 }
set_option maxHeartbeats 4000000 in
theorem m_X6_blade {l : Launch} {s0 : State} {G : zG} (hE : zE l s0 G) (H0 : Heap) (hO : zO s0 H0) (x la le : Nat) (t9 p : Int) (kn : Nat) (g dl so ml kd d : Nat) (dv f9 : Nat → Int) (i j : Nat) (hx0 : zAt G x (zOb 2 [.int (iI t9), .int (iI p), .int (iI (kn : Int)), .ref la, .ref le]) H0) (hg0 : zAt G g (zOb 5 [.int (iI (kd : Int)), .ref dl, .ref so, .int (iI (d : Int)), .ref ml, .ref x]) H0) (hdl : zAt G dl (zI G 4 f9) H0) (hf9 : ∀ k, k < d → f9 k = dv k) (hp : pr357 p) (hd : d ≤ 4) (hdv : ∀ k, k < d → 0 < dv k ∧ dv k < p) (hij : i < 16 ∧ j < 16) : zM l s0 yX6_blade cX6_blade 6 (some FieldType.int) rm_m_X6_blade [.ref g, .int (iI ((i : Nat) : Int)), .int (iI ((j : Nat) : Int))] H0 M0 (ri (fun y _ => y = sgB dv d i j % p)) := by
  refine z_met hE (by decide +kernel) (Nat.le_of_ble_eq_true rfl) ?_
  intro pp ee ss mm args below meth cd Q ls hC hml hrt hlk hnm hH hQ hS hl
  have hx := hC.x
  have hb := hC.b
  have hl : lv_has ls 6 [(0, .ref g), (1, .int (iI ((i : Nat) : Int))), (2, .int (iI ((j : Nat) : Int)))] := hl
  have hP : va_P G.1 zCl [] H0 := va_nil
  have hD : va_D (zA M0 H0) [] := va_nilD
  have hp7 : 0 < p ∧ p ≤ 7 := by rcases hp with h | h | h <;> rw [h] <;> decide
  refine lv_iconst (v := iI 1) hx hb dX6_blade_0 rfl ?_
  refine lv_istore_n (lv' := [(3, .int (iI 1)), (0, .ref g), (1, .int (iI ((i : Nat) : Int))), (2, .int (iI ((j : Nat) : Int)))]) hx hb dX6_blade_1 rfl hl (by decide) rfl (fun ls hl => ?_)
  refine lv_iconst (v := iI 0) hx hb dX6_blade_2 rfl ?_
  refine lv_istore (lv' := [(4, .int (iI 0)), (3, .int (iI 1)), (0, .ref g), (1, .int (iI ((i : Nat) : Int))), (2, .int (iI ((j : Nat) : Int)))]) hx hb dX6_blade_3 hl (by decide) rfl (fun ls hl => ?_)
  have lp1 : ∀ (dlp1 : Nat) (a : Nat) (s9 : Int), d - a = dlp1 → (a ≤ d) → (s9 % p = sgB dv a i j % p ∧ 0 ≤ s9 ∧ s9 ≤ 6) → ∀ (H2 : Heap) (locs : List Loc) (ls : Array Slot), va_P G.1 zCl ([]) H2 → va_D (zA M0 H0) ([]) → va_S (zA M0 H0) H0 H2 locs → lv_has ls 6 [(4, .int (iI ((a : Nat) : Int))), (3, .int (iI s9)), (0, .ref g), (1, .int (iI ((i : Nat) : Int))), (2, .int (iI ((j : Nat) : Int)))] → W pp l ee rm_m_X6_blade ss mm args below meth cd H2 locs 0 0 Q (F0 mm 5 ls []) := by
    intro dlp1
    induction dlp1 using Nat.strongRecOn with
    | ind dlp1 ihlp1 =>
      intro a s9 hdlp1 ha hs H2 locs ls  hP hD hS hl
      refine lv_iload hx hb dX6_blade_5 (lv_at hl 0 rfl) ?_
      refine lv_aload_n hx hb dX6_blade_7 rfl (lv_at hl 2 rfl) ?_
      refine z_get hC (k := 3) rfl in_X6 (zo hS hg0 id) (by decide) q1554 (fun _ h => h) rfl dX6_blade_8 ?_
      refine z_cge (tgt := 97) hx hb dX6_blade_11 (by decide) (by omega) (fun c3 => ?_) (fun c3 => ?_)
      · have ea : a = d := by omega
        refine lv_aload_n hx hb dX6_blade_97 rfl (lv_at hl 2 rfl) ?_
        refine z_get hC (k := 5) rfl in_X6 (zo hS hg0 id) (by decide) q1558 (fun _ h => h) rfl dX6_blade_98 ?_
        refine lv_iload_n hx hb dX6_blade_101 rfl (lv_at hl 1 rfl) ?_
        refine z_go 0 0 (z_runVN (As := [.int (iI s9)]) (rest := []) hC hml hl.1 (m_X3_mod hE H2 (hO.ext0 (zS_F hS)) x la le t9 p kn (s9) (zo hS hx0 id) hp (by omega)) q1622 q67 q1619 q1621 qs33 nd_X3_mod rfl (z_rv hC (ci := 2) rfl (zo hS hx0 id) rfl) rfl (Nat.le_of_ble_eq_true rfl) ⟨Nat.le_of_ble_eq_true rfl, Nat.le_of_ble_eq_true rfl⟩ ⟨zfit (k := 0) (z := 0) rfl rfl (by omega), zfit (k := 0) (z := 0) rfl rfl (by omega)⟩ dX6_blade_102) ⟨zad (k := 0) rfl (by omega), zad (k := 0) rfl (by omega)⟩ hS (fun _ z => z.elim) (fun r H4 locs hp hF hS1 => ?_)
        obtain ⟨_, rfl, rfl⟩ := hp
        have hP := zpk hP hF
        have hP : va_P G.1 zCl ([]) H4 := hP
        have hD : va_D (zA M0 H0) ([]) := hD
        have hS := hS1
        exact z_iret hC hrt hlk hQ hS ⟨zle (z := 0) rfl (by omega), zle (z := 0) rfl (by omega)⟩ ⟨_, rfl, by rw [hs.1, ea]⟩ dX6_blade_105
      · have hb1 := Nat.and_one_is_mod (i / 2 ^ a)
        have hwl : i / 2 ^ a ≤ i := Nat.div_le_self _ _
        refine lv_iload_n hx hb dX6_blade_14 rfl (lv_at hl 3 rfl) ?_
        refine lv_iload hx hb dX6_blade_15 (lv_at hl 0 rfl) ?_
        refine z_shr hx hb (i := i) (j := a) (n := i / 2 ^ a) dX6_blade_17 rfl rfl (by omega) rfl ?_
        refine lv_iconst (v := iI 1) hx hb dX6_blade_18 rfl ?_
        refine z_and hx hb (n := (i / 2 ^ a) &&& 1) dX6_blade_19 rfl rfl rfl ?_
        refine z_zne (tgt := 26) hx hb dX6_blade_20 (by decide) (by omega) (fun c5 => ?_) (fun c5 => ?_)
        · refine lv_iconst (v := iI 0) hx hb dX6_blade_26 rfl ?_
          refine lv_istore (lv' := [(5, .int (iI 0)), (4, .int (iI ((a : Nat) : Int))), (3, .int (iI s9)), (0, .ref g), (1, .int (iI ((i : Nat) : Int))), (2, .int (iI ((j : Nat) : Int)))]) hx hb dX6_blade_27 hl (by decide) rfl (fun ls hl => ?_)
          have lp6 : ∀ (dlp6 : Nat) (b : Nat) (s2 : Int), a - b = dlp6 → (b ≤ a) → (s2 = s9 * ngB j b) → ∀ (H7 : Heap) (locs : List Loc) (ls : Array Slot), va_P G.1 zCl ([]) H7 → va_D (zA M0 H0) ([]) → va_S (zA M0 H0) H0 H7 locs → lv_has ls 6 [(5, .int (iI ((b : Nat) : Int))), (4, .int (iI ((a : Nat) : Int))), (3, .int (iI s2)), (0, .ref g), (1, .int (iI ((i : Nat) : Int))), (2, .int (iI ((j : Nat) : Int)))] → W pp l ee rm_m_X6_blade ss mm args below meth cd H7 locs 0 0 Q (F0 mm 29 ls []) := by
            intro dlp6
            induction dlp6 using Nat.strongRecOn with
            | ind dlp6 ihlp6 =>
              intro b s2 hdlp6 hbq hs2 H7 locs ls  hP hD hS hl
              refine lv_iload hx hb dX6_blade_29 (lv_at hl 0 rfl) ?_
              refine lv_iload hx hb dX6_blade_31 (lv_at hl 1 rfl) ?_
              refine z_cge (tgt := 60) hx hb dX6_blade_33 (by decide) (by omega) (fun c8 => ?_) (fun c8 => ?_)
              · have eb : b = a := by omega
                have hng := ngB_in j b
                have hs2b : -6 ≤ s2 ∧ s2 ≤ 6 := by rw [hs2]; rcases hng with h | h <;> rw [h] <;> omega
                have hb2 := Nat.and_one_is_mod (j / 2 ^ a)
                have hwj : j / 2 ^ a ≤ j := Nat.div_le_self _ _
                refine lv_aload_n hx hb dX6_blade_60 rfl (lv_at hl 3 rfl) ?_
                refine z_get hC (k := 5) rfl in_X6 (zo hS hg0 id) (by decide) q1558 (fun _ h => h) rfl dX6_blade_61 ?_
                refine lv_iload_n hx hb dX6_blade_64 rfl (lv_at hl 2 rfl) ?_
                refine lv_iload_n hx hb dX6_blade_65 rfl (lv_at hl 5 rfl) ?_
                refine lv_iload hx hb dX6_blade_66 (lv_at hl 1 rfl) ?_
                refine z_shr hx hb (i := j) (j := a) (n := j / 2 ^ a) dX6_blade_68 rfl rfl (by omega) rfl ?_
                refine lv_iconst (v := iI 1) hx hb dX6_blade_69 rfl ?_
                refine z_and hx hb (n := (j / 2 ^ a) &&& 1) dX6_blade_70 rfl rfl rfl ?_
                refine lv_iconst (v := iI 1) hx hb dX6_blade_71 rfl ?_
                refine z_cne (tgt := 85) hx hb dX6_blade_72 (by decide) (by omega) (fun c9 => ?_) (fun c9 => ?_)
                · refine lv_iconst (v := iI 1) hx hb dX6_blade_85 rfl ?_
                  refine z_mul hx hb (z := s2 * 1) dX6_blade_86 rfl ?_
                  refine z_go 0 0 (z_runVN (As := [.int (iI (s2 * 1))]) (rest := []) hC hml hl.1 (m_X3_mod hE H7 (hO.ext0 (zS_F hS)) x la le t9 p kn (s2 * 1) (zo hS hx0 id) hp (by omega)) q1622 q67 q1619 q1621 qs33 nd_X3_mod rfl (z_rv hC (ci := 2) rfl (zo hS hx0 id) rfl) rfl (Nat.le_of_ble_eq_true rfl) ⟨Nat.le_of_ble_eq_true rfl, Nat.le_of_ble_eq_true rfl⟩ ⟨zfit (k := 0) (z := 0) rfl rfl (by omega), zfit (k := 0) (z := 0) rfl rfl (by omega)⟩ dX6_blade_87) ⟨zad (k := 0) rfl (by omega), zad (k := 0) rfl (by omega)⟩ hS (fun _ z => z.elim) (fun r H10 locs hp hF hS1 => ?_)
                  obtain ⟨_, rfl, rfl⟩ := hp
                  have hP := zpk hP hF
                  have hP : va_P G.1 zCl ([]) H10 := hP
                  have hD : va_D (zA M0 H0) ([]) := hD
                  have hS := hS1
                  have hr9 := md_in hp (s2 * 1)
                  refine lv_istore_n (lv' := [(3, .int (iI ((s2 * 1) % p))), (5, .int (iI ((b : Nat) : Int))), (4, .int (iI ((a : Nat) : Int))), (0, .ref g), (1, .int (iI ((i : Nat) : Int))), (2, .int (iI ((j : Nat) : Int)))]) hx hb dX6_blade_90 rfl hl (by decide) rfl (fun ls hl => ?_)
                  refine z_iinc (z := ((a + 1 : Nat) : Int)) (lv' := [(4, .int (iI ((a + 1 : Nat) : Int))), (3, .int (iI ((s2 * 1) % p))), (5, .int (iI ((b : Nat) : Int))), (0, .ref g), (1, .int (iI ((i : Nat) : Int))), (2, .int (iI ((j : Nat) : Int)))]) hx hb dX6_blade_91 hl (k := 2) rfl (by omega) (by decide) rfl (fun ls hl => ?_)
                  refine lv_goto (tgt := 5) hx hb dX6_blade_94 (by decide) ?_
                  exact W.widen (by omega) (by omega) (ihlp1 (d - (a + 1)) (by omega) (a + 1) ((s2 * 1) % p) rfl (by omega) (⟨by rw [Int.emod_emod_of_dvd _ (Int.dvd_refl p), hs2, eb, bl_step (by omega) hij.2 hs.1, sgB_st (by omega) (if_neg (by omega))], by omega, by omega⟩) _ _ _  hP hD hS (lv_sub hl [0, 1, 3, 4, 5] rfl))
                · have hda := hdv a (by omega)
                  have hfa := hf9 a (by omega)
                  refine lv_aload_n hx hb dX6_blade_75 rfl (lv_at hl 3 rfl) ?_
                  refine z_get hC (k := 1) rfl in_X6 (zo hS hg0 id) (by decide) q1550 (fun _ h => h) rfl dX6_blade_76 ?_
                  refine lv_iload hx hb dX6_blade_79 (lv_at hl 1 rfl) ?_
                  refine z_iald hC (zo hS hdl id) (k := a) rfl (by omega) (y := f9 a) rfl dX6_blade_81 ?_
                  refine z_top (b := dv a) (hfa) ?_
                  have hb7 := zmul6 (k := dv a) (z := s2) (w := 6) ⟨by omega, by omega⟩ (by omega)
                  have hb8 : s2 * dv a = dv a * s2 := Int.mul_comm _ _
                  refine lv_goto (tgt := 86) hx hb dX6_blade_82 (by decide) ?_
                  refine z_mul hx hb (z := s2 * (dv a)) dX6_blade_86 rfl ?_
                  refine z_go 0 0 (z_runVN (As := [.int (iI (s2 * (dv a)))]) (rest := []) hC hml hl.1 (m_X3_mod hE H7 (hO.ext0 (zS_F hS)) x la le t9 p kn (s2 * dv a) (zo hS hx0 id) hp (by omega)) q1622 q67 q1619 q1621 qs33 nd_X3_mod rfl (z_rv hC (ci := 2) rfl (zo hS hx0 id) rfl) rfl (Nat.le_of_ble_eq_true rfl) ⟨Nat.le_of_ble_eq_true rfl, Nat.le_of_ble_eq_true rfl⟩ ⟨zfit (k := 0) (z := 0) rfl rfl (by omega), zfit (k := 0) (z := 0) rfl rfl (by omega)⟩ dX6_blade_87) ⟨zad (k := 0) rfl (by omega), zad (k := 0) rfl (by omega)⟩ hS (fun _ z => z.elim) (fun r H11 locs hp hF hS1 => ?_)
                  obtain ⟨_, rfl, rfl⟩ := hp
                  have hP := zpk hP hF
                  have hP : va_P G.1 zCl ([]) H11 := hP
                  have hD : va_D (zA M0 H0) ([]) := hD
                  have hS := hS1
                  have hr9 := md_in hp (s2 * dv a)
                  refine lv_istore_n (lv' := [(3, .int (iI ((s2 * dv a) % p))), (5, .int (iI ((b : Nat) : Int))), (4, .int (iI ((a : Nat) : Int))), (0, .ref g), (1, .int (iI ((i : Nat) : Int))), (2, .int (iI ((j : Nat) : Int)))]) hx hb dX6_blade_90 rfl hl (by decide) rfl (fun ls hl => ?_)
                  refine z_iinc (z := ((a + 1 : Nat) : Int)) (lv' := [(4, .int (iI ((a + 1 : Nat) : Int))), (3, .int (iI ((s2 * dv a) % p))), (5, .int (iI ((b : Nat) : Int))), (0, .ref g), (1, .int (iI ((i : Nat) : Int))), (2, .int (iI ((j : Nat) : Int)))]) hx hb dX6_blade_91 hl (k := 2) rfl (by omega) (by decide) rfl (fun ls hl => ?_)
                  refine lv_goto (tgt := 5) hx hb dX6_blade_94 (by decide) ?_
                  exact W.widen (by omega) (by omega) (ihlp1 (d - (a + 1)) (by omega) (a + 1) ((s2 * dv a) % p) rfl (by omega) (⟨by rw [Int.emod_emod_of_dvd _ (Int.dvd_refl p), hs2, eb, bl_step (by omega) hij.2 hs.1, sgB_st (by omega) (if_pos (by omega))], by omega, by omega⟩) _ _ _  hP hD hS (lv_sub hl [0, 1, 3, 4, 5] rfl))
              · have hb2 := Nat.and_one_is_mod (j / 2 ^ b)
                have hwj : j / 2 ^ b ≤ j := Nat.div_le_self _ _
                have hng := ngB_in j b
                have hs2b : -6 ≤ s2 ∧ s2 ≤ 6 := by rw [hs2]; rcases hng with h | h <;> rw [h] <;> omega
                refine lv_iload_n hx hb dX6_blade_36 rfl (lv_at hl 2 rfl) ?_
                refine lv_iload_n hx hb dX6_blade_37 rfl (lv_at hl 5 rfl) ?_
                refine lv_iload hx hb dX6_blade_38 (lv_at hl 0 rfl) ?_
                refine z_shr hx hb (i := j) (j := b) (n := j / 2 ^ b) dX6_blade_40 rfl rfl (by omega) rfl ?_
                refine lv_iconst (v := iI 1) hx hb dX6_blade_41 rfl ?_
                refine z_and hx hb (n := (j / 2 ^ b) &&& 1) dX6_blade_42 rfl rfl rfl ?_
                refine lv_iconst (v := iI 1) hx hb dX6_blade_43 rfl ?_
                refine z_cne (tgt := 51) hx hb dX6_blade_44 (by decide) (by omega) (fun c12 => ?_) (fun c12 => ?_)
                · refine lv_iconst (v := iI 1) hx hb dX6_blade_51 rfl ?_
                  refine z_mul hx hb (z := s2 * 1) dX6_blade_52 rfl ?_
                  refine lv_istore_n (lv' := [(3, .int (iI (s2 * 1))), (5, .int (iI ((b : Nat) : Int))), (4, .int (iI ((a : Nat) : Int))), (0, .ref g), (1, .int (iI ((i : Nat) : Int))), (2, .int (iI ((j : Nat) : Int)))]) hx hb dX6_blade_53 rfl hl (by decide) rfl (fun ls hl => ?_)
                  refine z_iinc (z := ((b + 1 : Nat) : Int)) (lv' := [(5, .int (iI ((b + 1 : Nat) : Int))), (3, .int (iI (s2 * 1))), (4, .int (iI ((a : Nat) : Int))), (0, .ref g), (1, .int (iI ((i : Nat) : Int))), (2, .int (iI ((j : Nat) : Int)))]) hx hb dX6_blade_54 hl (k := 1) rfl (by omega) (by decide) rfl (fun ls hl => ?_)
                  refine lv_goto (tgt := 29) hx hb dX6_blade_57 (by decide) ?_
                  exact W.widen (by omega) (by omega) (ihlp6 (a - (b + 1)) (by omega) (b + 1) (s2 * 1) rfl (by omega) (by rw [hs2]; simp only [ngB]; rw [if_neg (by omega), Int.mul_assoc]) _ _ _  hP hD hS (lv_sub hl [0, 2, 1, 3, 4, 5] rfl))
                · refine lv_iconst (v := iI (-1)) hx hb dX6_blade_47 rfl ?_
                  refine lv_goto (tgt := 52) hx hb dX6_blade_48 (by decide) ?_
                  refine z_mul hx hb (z := s2 * (-1)) dX6_blade_52 rfl ?_
                  refine lv_istore_n (lv' := [(3, .int (iI (s2 * (-1)))), (5, .int (iI ((b : Nat) : Int))), (4, .int (iI ((a : Nat) : Int))), (0, .ref g), (1, .int (iI ((i : Nat) : Int))), (2, .int (iI ((j : Nat) : Int)))]) hx hb dX6_blade_53 rfl hl (by decide) rfl (fun ls hl => ?_)
                  refine z_iinc (z := ((b + 1 : Nat) : Int)) (lv' := [(5, .int (iI ((b + 1 : Nat) : Int))), (3, .int (iI (s2 * (-1)))), (4, .int (iI ((a : Nat) : Int))), (0, .ref g), (1, .int (iI ((i : Nat) : Int))), (2, .int (iI ((j : Nat) : Int)))]) hx hb dX6_blade_54 hl (k := 1) rfl (by omega) (by decide) rfl (fun ls hl => ?_)
                  refine lv_goto (tgt := 29) hx hb dX6_blade_57 (by decide) ?_
                  exact W.widen (by omega) (by omega) (ihlp6 (a - (b + 1)) (by omega) (b + 1) (s2 * (-1)) rfl (by omega) (by rw [hs2]; simp only [ngB]; rw [if_pos (by omega), Int.mul_assoc]) _ _ _  hP hD hS (lv_sub hl [0, 2, 1, 3, 4, 5] rfl))
          exact W.widen (by omega) (by omega) (lp6 _ 0 s9 rfl (Nat.zero_le _) ((Int.mul_one _).symm) _ _ _  hP hD hS hl)
        · refine lv_goto (tgt := 91) hx hb dX6_blade_23 (by decide) ?_
          refine z_iinc (z := ((a + 1 : Nat) : Int)) (lv' := [(4, .int (iI ((a + 1 : Nat) : Int))), (3, .int (iI s9)), (0, .ref g), (1, .int (iI ((i : Nat) : Int))), (2, .int (iI ((j : Nat) : Int)))]) hx hb dX6_blade_91 hl (k := 0) rfl (by omega) (by decide) rfl (fun ls hl => ?_)
          refine lv_goto (tgt := 5) hx hb dX6_blade_94 (by decide) ?_
          exact W.widen (by omega) (by omega) (ihlp1 (d - (a + 1)) (by omega) (a + 1) s9 rfl (by omega) (⟨by rw [hs.1, sgB_0 (by omega)], hs.2.1, hs.2.2⟩) _ _ _  hP hD hS hl)
  exact W.widen (by omega) (by omega) (lp1 _ 0 1 rfl (Nat.zero_le _) (⟨rfl, by decide, by decide⟩) _ _ _  hP hD hS hl)

abbrev rm_m_X6_dial : Room := { frames := 3, cells := 17, slots := 272, locals := 70 }
set_option maxHeartbeats 4000000 in
theorem m_X6_dial {l : Launch} {s0 : State} {G : zG} (hE : zE l s0 G) (H0 : Heap) (hO : zO s0 H0) (μ : Ro → Nat) (σ : St) (th : Int) (k : Nat) (z : Int) (hh : HM G s0 μ σ th H0) (hk : k < St_na σ) (hd : St_d σ k < 4) (hz : 0 < z ∧ z < St_p σ) : zM l s0 yX6_dial cX6_dial 6 (none : Option FieldType) rm_m_X6_dial [.ref (μ (6, k, 0)), .int (iI z)] H0 (fun a => a = μ (6, k, 0) ∨ a = μ (7, k, 0)) (rv (fun h1 => ∃ q F, grD (2 ^ (St_d σ k + 1)) (fun r c => sgK (St_kd σ k) (va_up (St_dv σ k) (St_d σ k) z) (St_d σ k + 1) r c % St_p σ) (2 ^ (St_d σ k + 1)) 0 F ∧ H0.size ≤ q ∧ va_P G.1 zCl ([(μ (6, k, 0), zOb 5 [.int (iI (St_kd σ k : Int)), .ref (μ (7, k, 0)), .ref q, .int (iI ((St_d σ k + 1 : Nat) : Int)), .ref (μ (9, k, 0)), .ref (μ (0, 0, 0))]), (μ (7, k, 0), zI G 4 (va_up (dvA σ k) (St_d σ k) z)), (q, zII G (2 ^ (St_d σ k + 1)) (fun i => some (q + 1 + i)))] ++ (zRows G (2 ^ (St_d σ k + 1)) (2 ^ (St_d σ k + 1)) (fun i => q + 1 + i) F ++ [])) h1 ∧ va_D (zA (fun a => a = μ (6, k, 0) ∨ a = μ (7, k, 0)) H0) ([(μ (6, k, 0), zOb 5 [.int (iI (St_kd σ k : Int)), .ref (μ (7, k, 0)), .ref q, .int (iI ((St_d σ k + 1 : Nat) : Int)), .ref (μ (9, k, 0)), .ref (μ (0, 0, 0))]), (μ (7, k, 0), zI G 4 (va_up (dvA σ k) (St_d σ k) z)), (q, zII G (2 ^ (St_d σ k + 1)) (fun i => some (q + 1 + i)))] ++ (zRows G (2 ^ (St_d σ k + 1)) (2 ^ (St_d σ k + 1)) (fun i => q + 1 + i) F ++ [])))) := by
  refine z_met hE (by decide +kernel) (Nat.le_of_ble_eq_true rfl) ?_
  intro pp ee ss mm args below meth cd Q ls hC hml hrt hlk hnm hH hQ hS hl
  have hx := hC.x
  have hb := hC.b
  have hl : lv_has ls 6 [(0, .ref (μ (6, k, 0))), (1, .int (iI z))] := hl
  have hP : va_P G.1 zCl [((μ (6, k, 0)), zOb 5 [.int (iI ((St_kd σ k : Nat) : Int)), .ref (μ (7, k, 0)), .ref (μ (11, k, 0)), .int (iI ((St_d σ k : Nat) : Int)), .ref (μ (9, k, 0)), .ref (μ (0, 0, 0))]), ((μ (7, k, 0)), zI G 4 (dvA σ k))] H0 := zP2 (hh.al hk).1 (hh.al hk).2.1
  have hD : va_D (zA (fun a => a = μ (6, k, 0) ∨ a = μ (7, k, 0)) H0) [((μ (6, k, 0)), zOb 5 [.int (iI ((St_kd σ k : Nat) : Int)), .ref (μ (7, k, 0)), .ref (μ (11, k, 0)), .int (iI ((St_d σ k : Nat) : Int)), .ref (μ (9, k, 0)), .ref (μ (0, 0, 0))]), ((μ (7, k, 0)), zI G 4 (dvA σ k))] := zD2 (Or.inl (Or.inl rfl)) (Or.inl (Or.inr rfl)) (hh.sep.ne hE (domMA 6 k (by omega) hk) (domMA 7 k (by omega) hk) (fun y => by cases y) (by simp [rAm]))
  have hMo : ∀ a, (fun a => a = μ (6, k, 0) ∨ a = μ (7, k, 0)) a → s0.heap.size ≤ a := fun a h => h.elim (fun w => w ▸ hh.sep.ge (domMA 6 k (by omega) hk) (by simp [rAm])) (fun w => w ▸ hh.sep.ge (domMA 7 k (by omega) hk) (by simp [rAm]))
  obtain ⟨hp, hna, hal, hne9, hel9, hmr9⟩ := id hh.ok
  have hp7 : 0 < St_p σ ∧ St_p σ ≤ 7 := by rcases hp with h | h | h <;> rw [h] <;> decide
  have hdk := hal k hk
  have hno : ∀ a, dmMo σ a → ¬ rAm a → a ≠ (6, k, 0) → a ≠ (7, k, 0) → ¬ (μ a = μ (6, k, 0) ∨ μ a = μ (7, k, 0)) := fun a ha hr h6 h7 e => e.elim (hh.sep.ne hE ha (domMA 6 k (by omega) hk) h6 hr) (hh.sep.ne hE ha (domMA 7 k (by omega) hk) h7 hr)
  have hx8 := hh.2.2.1.1
  have hnx := hno (0, 0, 0) (domM0 0 (by omega)) (by simp [rAm]) (fun y => by cases y) (fun y => by cases y)
  have hso8 := (hh.al hk).2.2.2.1
  have hnso := hno (11, k, 0) (domMA 11 k (by omega) hk) (by simp [rAm]) (fun y => by cases y) (fun y => by cases y)
  have hro8 : ∀ r, r < 2 ^ St_d σ k → zAt G (μ (12, k, r)) (zI G (2 ^ St_d σ k) (St_sg σ k r)) H0 := fun r hr => (hh.al hk).2.2.2.2.1 r hr
  have hnro : ∀ r, r < 2 ^ St_d σ k → ¬ (μ (12, k, r) = μ (6, k, 0) ∨ μ (12, k, r) = μ (7, k, 0)) := fun r hr => hno (12, k, r) (domMR k r hk hr) (by simp [rAm]) (fun y => by cases y) (fun y => by cases y)
  have hdv2 : ∀ i, i < St_d σ k + 1 → 0 < (va_up (St_dv σ k) (St_d σ k) z) i ∧ (va_up (St_dv σ k) (St_d σ k) z) i < St_p σ := fun i hi => by by_cases e : i = St_d σ k; (rw [e, va_up_self]; exact hz); rw [va_up_ne _ _ e]; exact hdk.2.2 i (by omega)
  have hf9 : ∀ i, i < St_d σ k + 1 → va_up (dvA σ k) (St_d σ k) z i = (va_up (St_dv σ k) (St_d σ k) z) i := fun i hi => by by_cases e : i = St_d σ k; (rw [e, va_up_self, va_up_self]); rw [va_up_ne _ _ e, va_up_ne _ _ e]; exact if_pos (by omega)
  have h2d : 1 ≤ 2 ^ (St_d σ k + 1) ∧ 2 ^ (St_d σ k + 1) ≤ 16 := p2_16 (show St_d σ k + 1 ≤ 4 by omega) rfl
  have e2d : 2 ^ (St_d σ k + 1) = 2 ^ St_d σ k * 2 := Nat.pow_succ 2 _
  refine lv_aload_n hx hb dX6_dial_0 rfl (lv_at hl 0 rfl) ?_
  refine z_get hC (k := 1) rfl in_X6 (hP 0 _ rfl) (by decide) q1550 (fun _ h => h) rfl dX6_dial_1 ?_
  refine lv_aload_n hx hb dX6_dial_4 rfl (lv_at hl 0 rfl) ?_
  refine lv_dup hx hb dX6_dial_5 rfl ?_
  refine z_get hC (k := 3) rfl in_X6 (hP 0 _ rfl) (by decide) q1554 (fun _ h => h) rfl dX6_dial_6 ?_
  refine lv_dup_x1 hx hb dX6_dial_9 rfl rfl ?_
  refine lv_iconst (v := iI 1) hx hb dX6_dial_10 rfl ?_
  refine z_add hx hb (z := ((St_d σ k : Nat) : Int) + 1) dX6_dial_11 rfl ?_
  refine z_top (b := ((St_d σ k + 1 : Nat) : Int)) (by omega) ?_
  refine z_put hC hP hD hS 0 (k := 3) rfl rfl in_X6 tyX6_ok nmX6 (by decide) q1554 (fun _ h => h) rfl rfl rfl rfl (Nat.le_of_ble_eq_true rfl) (ws' := [((μ (6, k, 0)), zOb 5 [.int (iI ((St_kd σ k : Nat) : Int)), .ref (μ (7, k, 0)), .ref (μ (11, k, 0)), .int (iI ((St_d σ k + 1 : Nat) : Int)), .ref (μ (9, k, 0)), .ref (μ (0, 0, 0))]), ((μ (7, k, 0)), zI G 4 (dvA σ k))]) rfl dX6_dial_12 (fun H1 locs hP hD hS => ?_)
  refine lv_iload_n hx hb dX6_dial_15 rfl (lv_at hl 1 rfl) ?_
  refine z_iast hC hP hD hS 1 (k := St_d σ k) rfl rfl (by omega) (ws' := [((μ (6, k, 0)), zOb 5 [.int (iI ((St_kd σ k : Nat) : Int)), .ref (μ (7, k, 0)), .ref (μ (11, k, 0)), .int (iI ((St_d σ k + 1 : Nat) : Int)), .ref (μ (9, k, 0)), .ref (μ (0, 0, 0))]), ((μ (7, k, 0)), zI G 4 (va_up (dvA σ k) (St_d σ k) z))]) rfl dX6_dial_16 (fun H2 locs hP hD hS => ?_)
  refine lv_aload_n hx hb dX6_dial_17 rfl (lv_at hl 0 rfl) ?_
  refine z_go 0 0 (z_runV (As := []) (rest := []) hC hml hl.1 (m_X6_units hE H2 (hO.ext (zS_F hS) hMo) (μ (6, k, 0)) (μ (7, k, 0)) (μ (11, k, 0)) (μ (9, k, 0)) (μ (0, 0, 0)) (St_kd σ k) (St_d σ k + 1) (hP 0 _ rfl) (by omega)) (lw_V q1603 q1604 q1605 q82 q1606) rfl nd_X6_units rfl (z_rv hC (ci := 5) rfl (hP 0 _ rfl) rfl) rfl (Nat.le_of_ble_eq_true rfl) ⟨Nat.le_of_ble_eq_true rfl, Nat.le_of_ble_eq_true rfl⟩ ⟨zfit (k := 0) (z := 17) rfl rfl (by omega), zfit (k := 0) (z := 272) rfl rfl (by omega)⟩ dX6_dial_18) ⟨zad (k := 0) rfl (by omega), zad (k := 0) rfl (by omega)⟩ hS (fun _ z => z.elim) (fun r H3 locs hp hF hS1 => ?_)
  obtain ⟨_, rfl, rfl⟩ := hp
  have hP := zpk hP hF
  have hP : va_P G.1 zCl ([((μ (6, k, 0)), zOb 5 [.int (iI ((St_kd σ k : Nat) : Int)), .ref (μ (7, k, 0)), .ref (μ (11, k, 0)), .int (iI ((St_d σ k + 1 : Nat) : Int)), .ref (μ (9, k, 0)), .ref (μ (0, 0, 0))]), ((μ (7, k, 0)), zI G 4 (va_up (dvA σ k) (St_d σ k) z))]) H3 := hP
  have hD : va_D (zA (fun a => a = μ (6, k, 0) ∨ a = μ (7, k, 0)) H0) ([((μ (6, k, 0)), zOb 5 [.int (iI ((St_kd σ k : Nat) : Int)), .ref (μ (7, k, 0)), .ref (μ (11, k, 0)), .int (iI ((St_d σ k + 1 : Nat) : Int)), .ref (μ (9, k, 0)), .ref (μ (0, 0, 0))]), ((μ (7, k, 0)), zI G 4 (va_up (dvA σ k) (St_d σ k) z))]) := hD
  have hS := hS1
  refine lv_istore_n (lv' := [(2, .int (iI ((2 ^ (St_d σ k + 1) : Nat) : Int))), (0, .ref (μ (6, k, 0))), (1, .int (iI z))]) hx hb dX6_dial_21 rfl hl (by decide) rfl (fun ls hl => ?_)
  refine lv_iload_n hx hb dX6_dial_22 rfl (lv_at hl 0 rfl) ?_
  refine lv_iload_n hx hb dX6_dial_23 rfl (lv_at hl 0 rfl) ?_
  refine z_multi hC hP hD hS (n := 2 ^ (St_d σ k + 1)) (c1 := 17) (s1 := 272) q1607 rfl rfl (by omega) ⟨zle (z := 17) rfl (by omega), zle (z := 272) rfl (by omega)⟩ ⟨by omega, by omega⟩ dX6_dial_24 (fun q4 H5 hq0q4 hq1q4 hP hD hS hF => ?_)
  have hP : va_P G.1 zCl ([((μ (6, k, 0)), zOb 5 [.int (iI ((St_kd σ k : Nat) : Int)), .ref (μ (7, k, 0)), .ref (μ (11, k, 0)), .int (iI ((St_d σ k + 1 : Nat) : Int)), .ref (μ (9, k, 0)), .ref (μ (0, 0, 0))]), ((μ (7, k, 0)), zI G 4 (va_up (dvA σ k) (St_d σ k) z)), (q4, zII G (2 ^ (St_d σ k + 1)) (fun i => some (q4 + 1 + i)))] ++ (zRows G (2 ^ (St_d σ k + 1)) (2 ^ (St_d σ k + 1)) (fun i => q4 + 1 + i) (fun _ _ => 0) ++ [])) H5 := hP
  have hD : va_D (zA (fun a => a = μ (6, k, 0) ∨ a = μ (7, k, 0)) H0) ([((μ (6, k, 0)), zOb 5 [.int (iI ((St_kd σ k : Nat) : Int)), .ref (μ (7, k, 0)), .ref (μ (11, k, 0)), .int (iI ((St_d σ k + 1 : Nat) : Int)), .ref (μ (9, k, 0)), .ref (μ (0, 0, 0))]), ((μ (7, k, 0)), zI G 4 (va_up (dvA σ k) (St_d σ k) z)), (q4, zII G (2 ^ (St_d σ k + 1)) (fun i => some (q4 + 1 + i)))] ++ (zRows G (2 ^ (St_d σ k + 1)) (2 ^ (St_d σ k + 1)) (fun i => q4 + 1 + i) (fun _ _ => 0) ++ [])) := hD
  refine lv_astore_n (lv' := [(3, .ref q4), (2, .int (iI ((2 ^ (St_d σ k + 1) : Nat) : Int))), (0, .ref (μ (6, k, 0))), (1, .int (iI z))]) hx hb dX6_dial_28 rfl hl (by decide) rfl (fun ls hl => ?_)
  refine lv_iconst (v := iI 0) hx hb dX6_dial_29 rfl ?_
  refine lv_istore (lv' := [(4, .int (iI 0)), (3, .ref q4), (2, .int (iI ((2 ^ (St_d σ k + 1) : Nat) : Int))), (0, .ref (μ (6, k, 0))), (1, .int (iI z))]) hx hb dX6_dial_30 hl (by decide) rfl (fun ls hl => ?_)
  have lp6 : ∀ (dlp6 : Nat) (i : Nat) (F : Nat → Nat → Int), 2 ^ (St_d σ k + 1) - i = dlp6 → (i ≤ 2 ^ (St_d σ k + 1)) → (grD (2 ^ (St_d σ k + 1)) (fun r c => sgK (St_kd σ k) (va_up (St_dv σ k) (St_d σ k) z) (St_d σ k + 1) r c % St_p σ) i 0 F) → ∀ (H7 : Heap) (locs : List Loc) (ls : Array Slot), va_P G.1 zCl ([((μ (6, k, 0)), zOb 5 [.int (iI ((St_kd σ k : Nat) : Int)), .ref (μ (7, k, 0)), .ref (μ (11, k, 0)), .int (iI ((St_d σ k + 1 : Nat) : Int)), .ref (μ (9, k, 0)), .ref (μ (0, 0, 0))]), ((μ (7, k, 0)), zI G 4 (va_up (dvA σ k) (St_d σ k) z)), (q4, zII G (2 ^ (St_d σ k + 1)) (fun i => some (q4 + 1 + i)))] ++ (zRows G (2 ^ (St_d σ k + 1)) (2 ^ (St_d σ k + 1)) (fun i => q4 + 1 + i) F ++ [])) H7 → va_D (zA (fun a => a = μ (6, k, 0) ∨ a = μ (7, k, 0)) H0) ([((μ (6, k, 0)), zOb 5 [.int (iI ((St_kd σ k : Nat) : Int)), .ref (μ (7, k, 0)), .ref (μ (11, k, 0)), .int (iI ((St_d σ k + 1 : Nat) : Int)), .ref (μ (9, k, 0)), .ref (μ (0, 0, 0))]), ((μ (7, k, 0)), zI G 4 (va_up (dvA σ k) (St_d σ k) z)), (q4, zII G (2 ^ (St_d σ k + 1)) (fun i => some (q4 + 1 + i)))] ++ (zRows G (2 ^ (St_d σ k + 1)) (2 ^ (St_d σ k + 1)) (fun i => q4 + 1 + i) F ++ [])) → va_S (zA (fun a => a = μ (6, k, 0) ∨ a = μ (7, k, 0)) H0) H0 H7 locs → lv_has ls 6 [(4, .int (iI ((i : Nat) : Int))), (3, .ref q4), (2, .int (iI ((2 ^ (St_d σ k + 1) : Nat) : Int))), (0, .ref (μ (6, k, 0))), (1, .int (iI z))] → W pp l ee rm_m_X6_dial ss mm args below meth cd H7 locs 17 272 Q (F0 mm 32 ls []) := by
    intro dlp6
    induction dlp6 using Nat.strongRecOn with
    | ind dlp6 ihlp6 =>
      intro i F hdlp6 hi hf H7 locs ls  hP hD hS hl
      refine lv_iload hx hb dX6_dial_32 (lv_at hl 0 rfl) ?_
      refine lv_iload_n hx hb dX6_dial_34 rfl (lv_at hl 2 rfl) ?_
      refine z_cge (tgt := 96) hx hb dX6_dial_35 (by decide) (by omega) (fun c8 => ?_) (fun c8 => ?_)
      · have ei : i = 2 ^ (St_d σ k + 1) := by omega
        rw [ei] at hf
        refine lv_aload_n hx hb dX6_dial_96 rfl (lv_at hl 3 rfl) ?_
        refine lv_aload_n hx hb dX6_dial_97 rfl (lv_at hl 1 rfl) ?_
        refine z_put hC hP hD hS 0 (k := 2) rfl rfl in_X6 tyX6_ok nmX6 (by decide) q1552 (fun _ h => h) rfl rfl rfl rfl (Nat.le_of_ble_eq_true rfl) (ws' := [((μ (6, k, 0)), zOb 5 [.int (iI ((St_kd σ k : Nat) : Int)), .ref (μ (7, k, 0)), .ref q4, .int (iI ((St_d σ k + 1 : Nat) : Int)), .ref (μ (9, k, 0)), .ref (μ (0, 0, 0))]), ((μ (7, k, 0)), zI G 4 (va_up (dvA σ k) (St_d σ k) z)), (q4, zII G (2 ^ (St_d σ k + 1)) (fun i => some (q4 + 1 + i)))] ++ (zRows G (2 ^ (St_d σ k + 1)) (2 ^ (St_d σ k + 1)) (fun i => q4 + 1 + i) F ++ [])) rfl dX6_dial_98 (fun H9 locs hP hD hS => ?_)
        exact z_vret hC hrt hlk hQ hS ⟨zle (z := 17) rfl (by omega), zle (z := 272) rfl (by omega)⟩ ⟨rfl, q4, F, hf, hq0q4, hP, hD⟩ dX6_dial_101
      · refine lv_iconst (v := iI 0) hx hb dX6_dial_38 rfl ?_
        refine lv_istore (lv' := [(5, .int (iI 0)), (4, .int (iI ((i : Nat) : Int))), (3, .ref q4), (2, .int (iI ((2 ^ (St_d σ k + 1) : Nat) : Int))), (0, .ref (μ (6, k, 0))), (1, .int (iI z))]) hx hb dX6_dial_39 hl (by decide) rfl (fun ls hl => ?_)
        have lp10 : ∀ (dlp10 : Nat) (j : Nat) (F2 : Nat → Nat → Int), 2 ^ (St_d σ k + 1) - j = dlp10 → (j ≤ 2 ^ (St_d σ k + 1)) → (grD (2 ^ (St_d σ k + 1)) (fun r c => sgK (St_kd σ k) (va_up (St_dv σ k) (St_d σ k) z) (St_d σ k + 1) r c % St_p σ) i j F2) → ∀ (H11 : Heap) (locs : List Loc) (ls : Array Slot), va_P G.1 zCl ([((μ (6, k, 0)), zOb 5 [.int (iI ((St_kd σ k : Nat) : Int)), .ref (μ (7, k, 0)), .ref (μ (11, k, 0)), .int (iI ((St_d σ k + 1 : Nat) : Int)), .ref (μ (9, k, 0)), .ref (μ (0, 0, 0))]), ((μ (7, k, 0)), zI G 4 (va_up (dvA σ k) (St_d σ k) z)), (q4, zII G (2 ^ (St_d σ k + 1)) (fun i => some (q4 + 1 + i)))] ++ (zRows G (2 ^ (St_d σ k + 1)) (2 ^ (St_d σ k + 1)) (fun i => q4 + 1 + i) F2 ++ [])) H11 → va_D (zA (fun a => a = μ (6, k, 0) ∨ a = μ (7, k, 0)) H0) ([((μ (6, k, 0)), zOb 5 [.int (iI ((St_kd σ k : Nat) : Int)), .ref (μ (7, k, 0)), .ref (μ (11, k, 0)), .int (iI ((St_d σ k + 1 : Nat) : Int)), .ref (μ (9, k, 0)), .ref (μ (0, 0, 0))]), ((μ (7, k, 0)), zI G 4 (va_up (dvA σ k) (St_d σ k) z)), (q4, zII G (2 ^ (St_d σ k + 1)) (fun i => some (q4 + 1 + i)))] ++ (zRows G (2 ^ (St_d σ k + 1)) (2 ^ (St_d σ k + 1)) (fun i => q4 + 1 + i) F2 ++ [])) → va_S (zA (fun a => a = μ (6, k, 0) ∨ a = μ (7, k, 0)) H0) H0 H11 locs → lv_has ls 6 [(5, .int (iI ((j : Nat) : Int))), (4, .int (iI ((i : Nat) : Int))), (3, .ref q4), (2, .int (iI ((2 ^ (St_d σ k + 1) : Nat) : Int))), (0, .ref (μ (6, k, 0))), (1, .int (iI z))] → W pp l ee rm_m_X6_dial ss mm args below meth cd H11 locs 17 272 Q (F0 mm 41 ls []) := by
          intro dlp10
          induction dlp10 using Nat.strongRecOn with
          | ind dlp10 ihlp10 =>
            intro j F2 hdlp10 hj hf2 H11 locs ls  hP hD hS hl
            refine lv_iload hx hb dX6_dial_41 (lv_at hl 0 rfl) ?_
            refine lv_iload_n hx hb dX6_dial_43 rfl (lv_at hl 3 rfl) ?_
            refine z_cge (tgt := 90) hx hb dX6_dial_44 (by decide) (by omega) (fun c12 => ?_) (fun c12 => ?_)
            · have ej : j = 2 ^ (St_d σ k + 1) := by omega
              rw [ej] at hf2
              refine z_iinc (z := ((i + 1 : Nat) : Int)) (lv' := [(4, .int (iI ((i + 1 : Nat) : Int))), (5, .int (iI ((j : Nat) : Int))), (3, .ref q4), (2, .int (iI ((2 ^ (St_d σ k + 1) : Nat) : Int))), (0, .ref (μ (6, k, 0))), (1, .int (iI z))]) hx hb dX6_dial_90 hl (k := 1) rfl (by omega) (by decide) rfl (fun ls hl => ?_)
              refine lv_goto (tgt := 32) hx hb dX6_dial_93 (by decide) ?_
              exact W.widen (by omega) (by omega) (ihlp6 (2 ^ (St_d σ k + 1) - (i + 1)) (by omega) (i + 1) F2 rfl (by omega) (grD_row hf2) _ _ _  hP hD hS (lv_sub hl [0, 2, 3, 4, 5] rfl))
            · refine lv_aload_n hx hb dX6_dial_47 rfl (lv_at hl 2 rfl) ?_
              refine lv_iload hx hb dX6_dial_48 (lv_at hl 1 rfl) ?_
              refine z_aald hC (hP 2 _ rfl) (k := i) rfl (by omega) (q := (q4 + 1 + i)) rfl dX6_dial_50 ?_
              refine lv_iload hx hb dX6_dial_51 (lv_at hl 0 rfl) ?_
              refine lv_aload_n hx hb dX6_dial_53 rfl (lv_at hl 4 rfl) ?_
              refine z_get hC (k := 0) rfl in_X6 (hP 0 _ rfl) (by decide) q1548 (fun _ h => h) rfl dX6_dial_54 ?_
              refine z_zne (tgt := 75) hx hb dX6_dial_57 (by decide) (by omega) (fun c13 => ?_) (fun c13 => ?_)
              · refine lv_aload_n hx hb dX6_dial_75 rfl (lv_at hl 4 rfl) ?_
                refine lv_iload hx hb dX6_dial_76 (lv_at hl 1 rfl) ?_
                refine lv_iload hx hb dX6_dial_78 (lv_at hl 0 rfl) ?_
                refine z_go 17 272 (z_runV (As := [.int (iI ((i : Nat) : Int)), .int (iI ((j : Nat) : Int))]) (rest := [.int (iI ((j : Nat) : Int)), .ref (q4 + 1 + i)]) hC hml hl.1 (m_X6_blade hE H11 (hO.ext (zS_F hS) hMo) (μ (0, 0, 0)) (μ (1, 0, 0)) (μ (3, 0, 0)) th (St_p σ) (St_kn σ) (μ (6, k, 0)) (μ (7, k, 0)) (μ (11, k, 0)) (μ (9, k, 0)) (St_kd σ k) (St_d σ k + 1) (va_up (St_dv σ k) (St_d σ k) z) _ i j (zo hS hx8 hnx) (hP 0 _ rfl) (hP 1 _ rfl) hf9 hp (by omega) hdv2 ⟨by omega, by omega⟩) (lw_V q1623 q1625 qs34 q82 q1626) rfl nd_X6_blade rfl (z_rv hC (ci := 5) rfl (hP 0 _ rfl) rfl) rfl (Nat.le_of_ble_eq_true rfl) ⟨Nat.le_of_ble_eq_true rfl, Nat.le_of_ble_eq_true rfl⟩ ⟨zfit (k := 0) (z := 17) rfl rfl (by omega), zfit (k := 0) (z := 272) rfl rfl (by omega)⟩ dX6_dial_80) ⟨zad (k := 0) rfl (by omega), zad (k := 0) rfl (by omega)⟩ hS (fun _ z => z.elim) (fun r H14 locs hp hF hS1 => ?_)
                obtain ⟨_, rfl, rfl⟩ := hp
                have hP := zpk hP hF
                have hP : va_P G.1 zCl ([((μ (6, k, 0)), zOb 5 [.int (iI ((St_kd σ k : Nat) : Int)), .ref (μ (7, k, 0)), .ref (μ (11, k, 0)), .int (iI ((St_d σ k + 1 : Nat) : Int)), .ref (μ (9, k, 0)), .ref (μ (0, 0, 0))]), ((μ (7, k, 0)), zI G 4 (va_up (dvA σ k) (St_d σ k) z)), (q4, zII G (2 ^ (St_d σ k + 1)) (fun i => some (q4 + 1 + i)))] ++ (zRows G (2 ^ (St_d σ k + 1)) (2 ^ (St_d σ k + 1)) (fun i => q4 + 1 + i) F2 ++ [])) H14 := hP
                have hD : va_D (zA (fun a => a = μ (6, k, 0) ∨ a = μ (7, k, 0)) H0) ([((μ (6, k, 0)), zOb 5 [.int (iI ((St_kd σ k : Nat) : Int)), .ref (μ (7, k, 0)), .ref (μ (11, k, 0)), .int (iI ((St_d σ k + 1 : Nat) : Int)), .ref (μ (9, k, 0)), .ref (μ (0, 0, 0))]), ((μ (7, k, 0)), zI G 4 (va_up (dvA σ k) (St_d σ k) z)), (q4, zII G (2 ^ (St_d σ k + 1)) (fun i => some (q4 + 1 + i)))] ++ (zRows G (2 ^ (St_d σ k + 1)) (2 ^ (St_d σ k + 1)) (fun i => q4 + 1 + i) F2 ++ [])) := hD
                have hS := hS1
                refine z_top (b := sgK (St_kd σ k) (va_up (St_dv σ k) (St_d σ k) z) (St_d σ k + 1) i j % St_p σ) (by unfold sgK; rw [if_neg (by omega)]) ?_
                refine z_iast hC hP hD hS (3 + i) (k := j) (zR_at (L := 3) rfl (by omega)) rfl (by omega) (ws' := [((μ (6, k, 0)), zOb 5 [.int (iI ((St_kd σ k : Nat) : Int)), .ref (μ (7, k, 0)), .ref (μ (11, k, 0)), .int (iI ((St_d σ k + 1 : Nat) : Int)), .ref (μ (9, k, 0)), .ref (μ (0, 0, 0))]), ((μ (7, k, 0)), zI G 4 (va_up (dvA σ k) (St_d σ k) z)), (q4, zII G (2 ^ (St_d σ k + 1)) (fun i => some (q4 + 1 + i)))] ++ (zRows G (2 ^ (St_d σ k + 1)) (2 ^ (St_d σ k + 1)) (fun i => q4 + 1 + i) (fun jj => if jj = i then va_up (F2 i) j (sgK (St_kd σ k) (va_up (St_dv σ k) (St_d σ k) z) (St_d σ k + 1) i j % St_p σ) else F2 jj) ++ [])) (zR_set (L := 3) rfl (by omega)) dX6_dial_83 (fun H16 locs hP hD hS => ?_)
                refine z_iinc (z := ((j + 1 : Nat) : Int)) (lv' := [(5, .int (iI ((j + 1 : Nat) : Int))), (4, .int (iI ((i : Nat) : Int))), (3, .ref q4), (2, .int (iI ((2 ^ (St_d σ k + 1) : Nat) : Int))), (0, .ref (μ (6, k, 0))), (1, .int (iI z))]) hx hb dX6_dial_84 hl (k := 0) rfl (by omega) (by decide) rfl (fun ls hl => ?_)
                refine lv_goto (tgt := 41) hx hb dX6_dial_87 (by decide) ?_
                exact W.widen (by omega) (by omega) (ihlp10 (2 ^ (St_d σ k + 1) - (j + 1)) (by omega) (j + 1) (fun jj => if jj = i then va_up (F2 i) j (sgK (St_kd σ k) (va_up (St_dv σ k) (St_d σ k) z) (St_d σ k + 1) i j % St_p σ) else F2 jj) rfl (by omega) (grD_step hf2 rfl) _ _ _  hP hD hS hl)
              · have ekd : St_kd σ k = 0 := by omega
                refine lv_aload_n hx hb dX6_dial_60 rfl (lv_at hl 4 rfl) ?_
                refine lv_iload hx hb dX6_dial_61 (lv_at hl 1 rfl) ?_
                refine lv_iload hx hb dX6_dial_63 (lv_at hl 0 rfl) ?_
                refine lv_iload_n hx hb dX6_dial_65 rfl (lv_at hl 3 rfl) ?_
                refine lv_iconst (v := iI 2) hx hb dX6_dial_66 rfl ?_
                refine z_div hx hb (z := Int.tdiv ((2 ^ (St_d σ k + 1) : Nat) : Int) 2) dX6_dial_67 (by omega) rfl ?_
                refine z_top (b := ((2 ^ St_d σ k : Nat) : Int)) ((Int.tdiv_eq_ediv_of_nonneg (by omega)).trans (by omega)) ?_
                refine lv_iload_n hx hb dX6_dial_68 rfl (lv_at hl 5 rfl) ?_
                have hg7 := hP 0 _ rfl
                rw [ekd] at hg7
                have edz : z = (va_up (St_dv σ k) (St_d σ k) z) (St_d σ k) := (va_up_self _ _ _).symm
                refine z_top (b := (va_up (St_dv σ k) (St_d σ k) z) (St_d σ k)) edz ?_
                refine z_go 17 272 (z_runV (As := [.int (iI ((i : Nat) : Int)), .int (iI ((j : Nat) : Int)), .int (iI ((2 ^ St_d σ k : Nat) : Int)), .int (iI ((va_up (St_dv σ k) (St_d σ k) z) (St_d σ k)))]) (rest := [.int (iI ((j : Nat) : Int)), .ref (q4 + 1 + i)]) hC hml hl.1 (m_X6_doubled hE H11 (hO.ext (zS_F hS) hMo) (μ (0, 0, 0)) (μ (1, 0, 0)) (μ (3, 0, 0)) th (St_p σ) (St_kn σ) (μ (6, k, 0)) (μ (7, k, 0)) (μ (11, k, 0)) (μ (9, k, 0)) (St_d σ k) (St_d σ k + 1) (va_up (St_dv σ k) (St_d σ k) z) (fun r => μ (12, k, r)) i j (zo hS hx8 hnx) hg7 (zo hS hso8 hnso) (fun r hr => zI_congr (zo hS (hro8 r hr) (hnro r hr)) (fun c hc => by show sgK (St_kd σ k) (St_dv σ k) (St_d σ k) r c % St_p σ = _; unfold sgK; rw [if_pos ekd, sgD_congr (dw := (va_up (St_dv σ k) (St_d σ k) z)) (fun t ht => (va_up_ne _ _ (by omega)).symm)])) hp hd (hdv2 _ (by omega)) ⟨by omega, by omega⟩) (lw_V q1608 q1610 qs32 q82 q1611) rfl nd_X6_doubled rfl (z_rv hC (ci := 5) rfl (hP 0 _ rfl) rfl) rfl (Nat.le_of_ble_eq_true rfl) ⟨Nat.le_of_ble_eq_true rfl, Nat.le_of_ble_eq_true rfl⟩ ⟨zfit (k := 0) (z := 17) rfl rfl (by omega), zfit (k := 0) (z := 272) rfl rfl (by omega)⟩ dX6_dial_69) ⟨zad (k := 0) rfl (by omega), zad (k := 0) rfl (by omega)⟩ hS (fun _ z => z.elim) (fun r H17 locs hp hF hS1 => ?_)
                obtain ⟨_, rfl, rfl⟩ := hp
                have hP := zpk hP hF
                have hP : va_P G.1 zCl ([((μ (6, k, 0)), zOb 5 [.int (iI ((St_kd σ k : Nat) : Int)), .ref (μ (7, k, 0)), .ref (μ (11, k, 0)), .int (iI ((St_d σ k + 1 : Nat) : Int)), .ref (μ (9, k, 0)), .ref (μ (0, 0, 0))]), ((μ (7, k, 0)), zI G 4 (va_up (dvA σ k) (St_d σ k) z)), (q4, zII G (2 ^ (St_d σ k + 1)) (fun i => some (q4 + 1 + i)))] ++ (zRows G (2 ^ (St_d σ k + 1)) (2 ^ (St_d σ k + 1)) (fun i => q4 + 1 + i) F2 ++ [])) H17 := hP
                have hD : va_D (zA (fun a => a = μ (6, k, 0) ∨ a = μ (7, k, 0)) H0) ([((μ (6, k, 0)), zOb 5 [.int (iI ((St_kd σ k : Nat) : Int)), .ref (μ (7, k, 0)), .ref (μ (11, k, 0)), .int (iI ((St_d σ k + 1 : Nat) : Int)), .ref (μ (9, k, 0)), .ref (μ (0, 0, 0))]), ((μ (7, k, 0)), zI G 4 (va_up (dvA σ k) (St_d σ k) z)), (q4, zII G (2 ^ (St_d σ k + 1)) (fun i => some (q4 + 1 + i)))] ++ (zRows G (2 ^ (St_d σ k + 1)) (2 ^ (St_d σ k + 1)) (fun i => q4 + 1 + i) F2 ++ [])) := hD
                have hS := hS1
                refine z_top (b := sgK (St_kd σ k) (va_up (St_dv σ k) (St_d σ k) z) (St_d σ k + 1) i j % St_p σ) (by unfold sgK; rw [if_pos ekd]) ?_
                refine lv_goto (tgt := 83) hx hb dX6_dial_72 (by decide) ?_
                refine z_iast hC hP hD hS (3 + i) (k := j) (zR_at (L := 3) rfl (by omega)) rfl (by omega) (ws' := [((μ (6, k, 0)), zOb 5 [.int (iI ((St_kd σ k : Nat) : Int)), .ref (μ (7, k, 0)), .ref (μ (11, k, 0)), .int (iI ((St_d σ k + 1 : Nat) : Int)), .ref (μ (9, k, 0)), .ref (μ (0, 0, 0))]), ((μ (7, k, 0)), zI G 4 (va_up (dvA σ k) (St_d σ k) z)), (q4, zII G (2 ^ (St_d σ k + 1)) (fun i => some (q4 + 1 + i)))] ++ (zRows G (2 ^ (St_d σ k + 1)) (2 ^ (St_d σ k + 1)) (fun i => q4 + 1 + i) (fun jj => if jj = i then va_up (F2 i) j (sgK (St_kd σ k) (va_up (St_dv σ k) (St_d σ k) z) (St_d σ k + 1) i j % St_p σ) else F2 jj) ++ [])) (zR_set (L := 3) rfl (by omega)) dX6_dial_83 (fun H19 locs hP hD hS => ?_)
                refine z_iinc (z := ((j + 1 : Nat) : Int)) (lv' := [(5, .int (iI ((j + 1 : Nat) : Int))), (4, .int (iI ((i : Nat) : Int))), (3, .ref q4), (2, .int (iI ((2 ^ (St_d σ k + 1) : Nat) : Int))), (0, .ref (μ (6, k, 0))), (1, .int (iI z))]) hx hb dX6_dial_84 hl (k := 0) rfl (by omega) (by decide) rfl (fun ls hl => ?_)
                refine lv_goto (tgt := 41) hx hb dX6_dial_87 (by decide) ?_
                exact W.widen (by omega) (by omega) (ihlp10 (2 ^ (St_d σ k + 1) - (j + 1)) (by omega) (j + 1) (fun jj => if jj = i then va_up (F2 i) j (sgK (St_kd σ k) (va_up (St_dv σ k) (St_d σ k) z) (St_d σ k + 1) i j % St_p σ) else F2 jj) rfl (by omega) (grD_step hf2 rfl) _ _ _  hP hD hS hl)
        exact W.widen (by omega) (by omega) (lp10 _ 0 F rfl (Nat.zero_le _) hf _ _ _  hP hD hS hl)
  exact W.widen (by omega) (by omega) (lp6 _ 0 (fun _ _ => 0) rfl (Nat.zero_le _) (grD_0 _ _) _ _ _  hP hD hS hl)

